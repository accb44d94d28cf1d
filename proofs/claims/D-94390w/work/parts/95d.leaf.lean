set_option maxRecDepth 100000
/-! sums, read: the leaves -/
variable {X X' X2 : Nat → Option Ob} {ad : Nat → Nat} {B B' B2 : Sw} {A : Av} {σ σ' σ2 : Cs} {τ τ' : Tw} {F : Nat} {c pl : Nat → Nat} {last j : Nat}
/-- a tree was read on both sides -/
def AFT (F : Nat) (c pl : Nat → Nat) (last : Nat) (ad : Nat → Nat) (X : Nat → Option Ob) (B : Sw) (σ : Cs) (τ : Tw) (j m w d : Nat) (rC : Option ((Nat ⊕ Nat) × Sw)) (P : Nat → List Int32 → Prop) : Prop := ∃ (t : Nat) (X' : Nat → Option Ob) (B' : Sw) (σ' : Cs) (τ' : Tw) (j' : Nat) (Q : Cd) (os : List Int32) (s : Nat), rC = some (.inl t, cM X' ad σ' B') ∧ (∀ n, t_X9_expr_L21 F (n + s) (Int32.ofNat d) 1 1 τ = t_X9_expr_L21 F n (Int32.ofNat d) 0 1 τ') ∧ (s ≤ 4 * (j' - j) ∧ j < j') ∧ PK c pl last j' σ' τ' ∧ σ'.1 32 = Int32.ofNat d ∧ τ'.1 30 = Int32.ofNat (w + os.length) ∧ τ'.2.1 8 1 = Int32.ofNat (m + Q.length) ∧ cAt (vT τ') m Q ∧ stk τ' w os ∧ TrB B' (j' - j) t (Q ++ opC os) ∧ Q.length + os.length ≤ j' - j ∧ MF ad X B X' B' (2 * (j' - j)) ∧ EF σ σ' ∧ ET m w τ τ' ∧ P j' os
/-- both sides fail -/
def BAD (F : Nat) (last : Nat) (ad : Nat → Nat) (X : Nat → Option Ob) (B : Sw) (σ : Cs) (τ : Tw) (j m w d : Nat) (rC : Option ((Nat ⊕ Nat) × Sw)) : Prop := ∃ (s : Nat) (r : Option (Int32 × Tw)), s ≤ 4 * (last + 1 - j) ∧ (∀ n, t_X9_expr_L21 F (n + s) (Int32.ofNat d) 1 1 τ = r) ∧ FL ad X B σ τ (2 * (last + 1 - j)) m w rC r
/-- the reader and the loop stand before a sum's part, at depth d -/
def ATX (c pl : Nat → Nat) (last : Nat) (ad : Nat → Nat) (B : Sw) (σ : Cs) (τ : Tw) (j m w d r : Nat) : Prop := AdOK ad B ∧ PK c pl last j σ τ ∧ σ.1 32 = Int32.ofNat d ∧ τ.2.1 8 1 = Int32.ofNat m ∧ τ.1 30 = Int32.ofNat w ∧ m + w ≤ j ∧ bot τ r w ∧ d ≤ 6
def SPEC (F : Nat) (c pl : Nat → Nat) (last : Nat) (ad : Nat → Nat) (d r : Nat) (G : Sw → Option ((Nat ⊕ Nat) × Sw)) (P : Nat → List Int32 → Prop) : Prop := ∀ (X : Nat → Option Ob) (B : Sw) (σ : Cs) (τ : Tw) (j m w : Nat), ATX c pl last ad B σ τ j m w d r → AFT F c pl last ad X B σ τ j m w d (G (cM X ad σ B)) P ∨ BAD F last ad X B σ τ j m w d (G (cM X ad σ B))
/-- a code is emitted, then on -/
noncomputable def EPT (F : Nat) (self : Int32 → Int32 → Int32 → Tw → Option (Int32 × Tw)) (v1 v3 o v : Int32) (τ : Tw) : Option (Int32 × Tw) := Option.bind (t_X9_emit F o v τ) fun q => Option.bind (t_X9_pass F q) fun q' => if q'.1 = 0 then some (0, q'.2) else self v1 0 v3 q'.2
theorem th_l {R R2 : Type} {v : R} {M : Sw} {f : (R ⊕ Nat) × Sw → R → Option ((R2 ⊕ Nat) × Sw)} : (Option.bind (some (Sum.inl v, M)) fun q => thr q.1 q.2 (f q)) = f (Sum.inl v, M) v := rfl
theorem th_r {R R2 : Type} {e : Nat} {M : Sw} {f : (R ⊕ Nat) × Sw → R → Option ((R2 ⊕ Nat) × Sw)} : (Option.bind (some (Sum.inr e, M)) fun q => thr q.1 q.2 (f q)) = some (Sum.inr e, M) := rfl
theorem L21_s {F n : Nat} {v1 v2 v3 : Int32} : t_X9_expr_L21 F (n + 1) v1 v2 v3 τ = t_X9_expr_L21_b F (t_X9_expr_L21 F n) v1 v2 v3 τ := rfl
theorem int_T {self : Int32 → Int32 → Int32 → Tw → Option (Int32 × Tw)} {v1 : Int32} {v : Nat} (h : PK c pl last j σ τ) (hc : c j = 1) (hv : τ.2.1 4 j = Int32.ofNat v) : t_X9_expr_L21_b F self v1 1 1 τ = EPT F self v1 1 0 (Int32.ofNat v) τ := by
  unfold t_X9_expr_L21_b
  have hs := sign_TT (F := F) h (q := 11) (by decide)
  rw [show wT 11 = 40 from rfl] at hs
  rw [if_neg (by decide), if_neg (by decide), hs, if_neg (by omega), Option.bind_some, if_pos rfl, sort_T h, hc, Option.bind_some, if_neg (by decide)]
  unfold t_X9_expr_j99
  rw [sort_T h, hc, Option.bind_some, if_pos (show sT 1 = 1 from rfl)]
  unfold t_X9_expr_j125
  rw [if_neg (by decide)]
  unfold t_X9_expr_j136
  rw [if_neg (by decide), what_T h, Option.bind_some, hv]
  rfl
theorem vr_1 : ∀ q, q < 26 → (q = 11 → p_X9_variableOf F (wtL.getD q 0) = some 8) ∧ (18 ≤ q → p_X9_variableOf F (wtL.getD q 0) = some (Int32.ofNat (q - 18))) ∧ (q ≠ 11 → ¬ 18 ≤ q → p_X9_variableOf F (wtL.getD q 0) = some (-1)) := by
  intro q hq
  have : ∀ q, q < 26 → (q = 11 → (if wtL.getD q 0 ≤ 12 then some (-1) else if 22 ≤ wtL.getD q 0 then some (-1) else some (wtL.getD q 0 - 13)) = some (8 : Int32)) ∧ (18 ≤ q → (if wtL.getD q 0 ≤ 12 then some (-1) else if 22 ≤ wtL.getD q 0 then some (-1) else some (wtL.getD q 0 - 13)) = some (Int32.ofNat (q - 18))) ∧ (q ≠ 11 → ¬ 18 ≤ q → (if wtL.getD q 0 ≤ 12 then some (-1) else if 22 ≤ wtL.getD q 0 then some (-1) else some (wtL.getD q 0 - 13)) = some (-1 : Int32)) := by decide +kernel
  exact this q hq
theorem var_T {self : Int32 → Int32 → Int32 → Tw → Option (Int32 × Tw)} {v1 : Int32} {q v : Nat} (h : PK c pl last j σ τ) (hc : c j = 16 + q) (hq : q < 26) (hv : p_X9_variableOf F (wtL.getD q 0) = some (Int32.ofNat v)) (hv9 : v < 9) : t_X9_expr_L21_b F self v1 1 1 τ = EPT F self v1 1 1 (Int32.ofNat v) τ := by
  have hcl := (h.1.2.1 j h.2.2.2).1.1
  unfold t_X9_expr_L21_b
  have hs := sign_TT (F := F) h (q := 11) (by decide)
  rw [show wT 11 = 40 from rfl] at hs
  have s3 : sT (c j) = 3 := (sT_2 _ hcl).2.2 (by omega)
  have hw : τ.2.1 4 j = wtL.getD q 0 := by
    rw [(h.1.2.1 j h.2.2.2).2.2.1 (by omega) (by omega), hc]
    unfold wT
    rw [if_neg (by omega), Nat.add_sub_cancel_left]
  have g0 : (0 : Int32) ≤ Int32.ofNat v := ofNat_nn (by omega)
  rw [if_neg (by decide), if_neg (by decide), hs, if_neg (by omega), Option.bind_some, if_pos rfl, sort_T h, s3, Option.bind_some, if_pos rfl, what_T h, hw, Option.bind_some, hv, Option.bind_some]
  unfold t_X9_expr_j99
  rw [sort_T h, s3, Option.bind_some, if_neg (by decide), if_pos g0]
  unfold t_X9_expr_j125
  rw [if_pos g0]
  unfold t_X9_expr_j136
  rw [if_pos g0]
  rfl
theorem oth_T {self : Int32 → Int32 → Int32 → Tw → Option (Int32 × Tw)} {v1 : Int32} (h : PK c pl last j σ τ) (h1 : c j ≠ 1) (h11 : c j ≠ 11) (h27 : c j ≠ 27) (h34 : ¬ 34 ≤ c j) : t_X9_expr_L21_b F self v1 1 1 τ = some (0, tsI (tsI τ 8 1) 9 (Int32.ofNat (pl j))) := by
  have hcl := (h.1.2.1 j h.2.2.2).1.1
  unfold t_X9_expr_L21_b
  have hs := sign_TT (F := F) h (q := 11) (by decide)
  rw [show wT 11 = 40 from rfl] at hs
  have s1 : sT (c j) ≠ 1 := by
    have : ∀ x, x < 42 → x ≠ 1 → sT x ≠ 1 := by decide
    exact this _ hcl h1
  have fin : t_X9_expr_j99 F self v1 1 (-1) τ = some (0, tsI (tsI τ 8 1) 9 (Int32.ofNat (pl j))) := by
    unfold t_X9_expr_j99
    rw [sort_T h, Option.bind_some, if_neg s1, if_neg (by decide), wrong_T h, Option.bind_some, if_pos (Or.inl rfl)]
  rw [if_neg (by decide), if_neg (by decide), hs, if_neg h11, Option.bind_some, if_pos rfl, sort_T h, Option.bind_some]
  by_cases s3 : sT (c j) = 3
  · have hge := (sT_2 _ hcl).2.1 s3
    have hw : τ.2.1 4 j = wtL.getD (c j - 16) 0 := by
      rw [(h.1.2.1 j h.2.2.2).2.2.1 (by omega) (by omega)]
      exact if_neg (by omega)
    rw [if_pos s3, what_T h, hw, Option.bind_some, (vr_1 (F := F) (c j - 16) (by omega)).2.2 (by omega) (by omega), Option.bind_some, fin]
  · rw [if_neg s3, fin]
/-- the loop's leaf, with what go does -/
theorem ept_ok {self : Int32 → Int32 → Int32 → Tw → Option (Int32 × Tw)} {v1 o v : Int32} {m : Nat} (h8 : τ.2.1 8 1 = Int32.ofNat m) (hm : m < 500) (hp : t_X9_pass F (emT τ m o v) = some (1, tsI (emT τ m o v) 7 (Int32.ofNat (j + 1)))) : EPT F self v1 1 o v τ = self v1 0 1 (tsI (emT τ m o v) 7 (Int32.ofNat (j + 1))) := by
  unfold EPT
  rw [emit_T h8 hm, Option.bind_some, hp, Option.bind_some, if_neg (show ¬ (1 : Int32) = 0 by decide)]
theorem ept_no {self : Int32 → Int32 → Int32 → Tw → Option (Int32 × Tw)} {v1 o v k : Int32} {m p : Nat} (h8 : τ.2.1 8 1 = Int32.ofNat m) (hm : m < 500) (hp : t_X9_pass F (emT τ m o v) = some (0, tsI (tsI (emT τ m o v) 8 k) 9 (Int32.ofNat p))) : EPT F self v1 1 o v τ = some (0, tsI (tsI (emT τ m o v) 8 k) 9 (Int32.ofNat p)) := by
  unfold EPT
  rw [emit_T h8 hm, Option.bind_some, hp, Option.bind_some, if_pos rfl]
/-- a leaf was read -/
theorem leaf_ok {m w d r t : Nat} {o v : Int32} {rC : Option ((Nat ⊕ Nat) × Sw)} (h : ATX c pl last ad B σ τ j m w d r) (hl : j + 1 ≤ last) (hC : rC = some (.inl t, cM X' ad (csI σ 31 (Int32.ofNat (j + 1))) B')) (hM : MF ad X B X' B' 2) (hT : ∀ self, t_X9_expr_L21_b F self (Int32.ofNat d) 1 1 τ = EPT F self (Int32.ofNat d) 1 o v τ) (hp : t_X9_pass F (emT τ m o v) = some (1, tsI (emT τ m o v) 7 (Int32.ofNat (j + 1)))) (ht : TrB B' 1 t [(o, v)]) : AFT F c pl last ad X B σ τ j m w d rC (fun _ os => os = []) := by
  obtain ⟨hA, hP, h32, h8, h30, hmw, hb, hd⟩ := h
  have hj := hP.1.1
  have hjl := hP.2.2.2
  refine ⟨t, X', B', _, tsI (emT τ m o v) 7 (Int32.ofNat (j + 1)), j + 1, [(o, v)], [], 1, hC, fun n => ?_, ⟨by omega, by omega⟩, ?_, ?_, h30, emT_8, ?_, trivial, ?_, ?_, ?_, EF.i31, ?_, rfl⟩
  · rw [L21_s, hT, ept_ok h8 (by omega) hp]
  · exact PK.go ⟨hP.1.e EF.rf (emT_ET (m := m) (w := 0)), hP.2.1, hP.2.2.1, hP.2.2.2⟩ hl
  · exact (csI_n _ _ _ _ (by decide)).trans h32
  · have e := emT_at (τ := τ) (m := m) (o := o) (v := v)
    exact ⟨e.1, e.2, trivial⟩
  · show TrB B' (j + 1 - j) t ([(o, v)] ++ opC [])
    rw [Nat.add_sub_cancel_left]
    exact ht
  · show 1 + 0 ≤ j + 1 - j
    omega
  · rw [Nat.add_sub_cancel_left]
    exact hM
  · exact ET.tr (emT_ET (m := m) (w := w)) (ET.i7 (m := m) (w := w)) (Nat.le_refl _) (Nat.le_refl _)
theorem leaf_no {m w d r : Nat} {o v : Int32} {rC : Option ((Nat ⊕ Nat) × Sw)} (h : ATX c pl last ad B σ τ j m w d r) (hM : MF ad X B X' B' 1) (hA' : AdOK ad B') (hC : rC = some (.inr B'.2.1, cM X' ad σ (ovl B' [fltO 2 (pl j)] 8))) (hT : ∀ self, t_X9_expr_L21_b F self (Int32.ofNat d) 1 1 τ = EPT F self (Int32.ofNat d) 1 o v τ) (hp : t_X9_pass F (emT τ m o v) = some (0, tsI (tsI (emT τ m o v) 8 2) 9 (Int32.ofNat (pl j)))) : BAD F last ad X B σ τ j m w d rC := by
  obtain ⟨hA, hP, h32, h8, h30, hmw, hb, hd⟩ := h
  have hj := hP.1.1
  have hjl := hP.2.2.2
  refine ⟨1, some (0, tsI (tsI (emT τ m o v) 8 2) 9 (Int32.ofNat (pl j))), by omega, fun n => ?_, ?_⟩
  · rw [L21_s, hT, ept_no h8 (by omega) hp]
  · have hPe : PK c pl last j σ (emT τ m o v) := ⟨hP.1.e EF.rf (emT_ET (m := m) (w := 0)), hP.2.1, hP.2.2.1, hP.2.2.2⟩
    have := FL.at (R := Nat) (X := X') (m := m) (w := w) (k := 2) hA' hPe (by decide)
    rw [hC]
    exact (FL.pre hM EF.rf (emT_ET (m := m) (w := w)) (Nat.le_refl _) (Nat.le_refl _) this).le (by omega)
/-- a number -/
theorem unit_int {m w d r : Nat} {rec : Nat → Sw → Option ((Nat ⊕ Nat) × Sw)} (h : ATX c pl last ad B σ τ j m w d r) (hc : c j = 1) : AFT F c pl last ad X B σ τ j m w d (f_X2_unit F rec (ad 6) (cM X ad σ B)) (fun _ os => os = []) ∨ BAD F last ad X B σ τ j m w d (f_X2_unit F rec (ad 6) (cM X ad σ B)) := by
  have h' := h
  obtain ⟨hA, hP, h32, h8, h30, hmw, hb, hd⟩ := h'
  have hj := hP.1.1
  have hjl := hP.2.2.2
  obtain ⟨v, v1, v2, v3⟩ := (hP.1.2.1 j hjl).2.2.2.1 hc
  have hA1 : AdOK ad (nB B 1) := nB_ad hA
  have hPe : PK c pl last j σ (emT τ m 0 (Int32.ofNat v)) := ⟨hP.1.e EF.rf (emT_ET (m := m) (w := 0)), hP.2.1, hP.2.2.1, hP.2.2.2⟩
  have is2 := is_CC (X := X) (F := F) hA hP (q := 1) (by decide)
  rw [show kT 1 = 2 from rfl, if_pos hc] at is2
  have hno : ¬ Own ad (nB B 1) B.2.1 := new_no hA (Nat.le_refl _)
  have pre : f_X2_unit F rec (ad 6) (cM X ad σ B) = Option.bind (f_X2_go F (ad 6) (cM (mX X B.2.1 (.inr (4, dfX4))) ad σ (nB B 1))) fun q101 => thr q101.1 q101.2 fun x106 => Option.bind (aL q101.2 1 (ad 5) x106) fun x108 => Option.bind (f_X4_init F B.2.1 x108.toInt32 q101.2) fun q110 => some (.inl B.2.1, q110) := by
    unfold f_X2_unit
    rw [oc6 hA, Option.bind_some, is2, Option.bind_some, if_neg (by decide), nmE, nw_X hA, o6_0 hA1, Option.bind_some, o1_4 hA1, Option.bind_some, oc6 hA1, Option.bind_some]
    rfl
  rcases go_CT (F := F) (X := mX X B.2.1 (.inr (4, dfX4))) hA1 hPe (by omega) (by omega) with ⟨g1, g2, g3⟩ | ⟨g2, g3⟩
  · refine Or.inl (leaf_ok (t := B.2.1) (X' := mX X B.2.1 (.inr (4, [.int (Int32.ofNat v)]))) (B' := frB (nB B 1) B.2.1 (.inr (4, [.int (Int32.ofNat v)]))) h g1 ?_ ?_ (fun self => int_T hP hc v2) g3 ?_)
    · rw [pre, g2, th_l, aL5 hA1 _ j (by omega), Option.bind_some]
      have e : (csI σ 31 (Int32.ofNat (j + 1))).2.2.1 5 j = (Int32.ofNat v).toInt64 := v3
      have e2 : (Int32.ofNat v).toInt64.toInt32 = Int32.ofNat v := Int32.toInt32_toInt64 _
      rw [e, e2]
      unfold f_X4_init f_J3_init
      rw [Option.bind_some, pf_X hno mX_s (show 0 < 1 by decide), Option.bind_some, mX_mX, Option.bind_some]
      exact congrArg (fun z => some (Sum.inl B.2.1, z)) (fr_X hno mX_s)
    · have := (MF.nb (X := X) hA (o := .inr (4, dfX4)) (s := 1) (by decide)).fr (a := B.2.1) (o := .inr (4, [.int (Int32.ofNat v)])) (Nat.le_refl _) (Nat.lt_succ_self _) hno
      rw [mX_mX] at this
      exact this.le (by decide)
    · exact Or.inl ⟨_, fr_at, rfl⟩
  · refine Or.inr (leaf_no (X' := mX X B.2.1 (.inr (4, dfX4))) (B' := nB B 1) h (MF.nb hA (by decide)) hA1 ?_ (fun self => int_T hP hc v2) g3)
    rw [pre, g2, th_r]
theorem wi_1 : ∀ x, x < 42 → p_X0_within F (kT x) 218 225 = some (if 34 ≤ x then 1 else 0) := by
  intro x hx
  have : ∀ x, x < 42 → (if kT x < 218 then some (0 : Int32) else if 225 < kT x then some 0 else some 1) = some (if 34 ≤ x then 1 else 0) := by decide +kernel
  exact this x hx
/-- one of the eight -/
theorem unit_var {m w d r : Nat} {rec : Nat → Sw → Option ((Nat ⊕ Nat) × Sw)} (h : ATX c pl last ad B σ τ j m w d r) (hc : 34 ≤ c j) : AFT F c pl last ad X B σ τ j m w d (f_X2_unit F rec (ad 6) (cM X ad σ B)) (fun _ os => os = []) ∨ BAD F last ad X B σ τ j m w d (f_X2_unit F rec (ad 6) (cM X ad σ B)) := by
  have h' := h
  obtain ⟨hA, hP, h32, h8, h30, hmw, hb, hd⟩ := h'
  have hj := hP.1.1
  have hjl := hP.2.2.2
  have hcl := (hP.1.2.1 j hjl).1.1
  obtain ⟨v, hv⟩ : ∃ v, c j = 34 + v := ⟨c j - 34, by omega⟩
  have hA1 : AdOK ad (nB B 1) := nB_ad hA
  have hPe : PK c pl last j σ (emT τ m 1 (Int32.ofNat v)) := ⟨hP.1.e EF.rf (emT_ET (m := m) (w := 0)), hP.2.1, hP.2.2.1, hP.2.2.2⟩
  have is2 := is_CC (X := X) (F := F) hA hP (q := 1) (by decide)
  rw [show kT 1 = 2 from rfl, if_neg (by omega)] at is2
  have hk := kind_C (X := X) (F := F) hA hP
  have hno : ¬ Own ad (nB B 1) B.2.1 := new_no hA (Nat.le_refl _)
  have hT : ∀ self, t_X9_expr_L21_b F self (Int32.ofNat d) 1 1 τ = EPT F self (Int32.ofNat d) 1 1 (Int32.ofNat v) τ := fun self => by
    have e := (vr_1 (F := F) (18 + v) (by omega)).2.1 (by omega)
    rw [Nat.add_sub_cancel_left] at e
    exact var_T hP (by omega) (by omega) e (by omega)
  have pre : f_X2_unit F rec (ad 6) (cM X ad σ B) = Option.bind (f_X2_go F (ad 6) (cM (mX X B.2.1 (.inr (5, dfX5))) ad σ (nB B 1))) fun q84 => thr q84.1 q84.2 fun x89 => Option.bind (aI q84.2 3 (ad 3) x89) fun x91 => Option.bind (f_X5_init F B.2.1 (x91 - 218) q84.2) fun q93 => some (.inl B.2.1, q93) := by
    unfold f_X2_unit
    rw [oc6 hA, Option.bind_some, is2, Option.bind_some, if_pos rfl, Option.bind_some, hk, Option.bind_some, wi_1 _ hcl, if_pos hc, Option.bind_some, if_neg (by decide), nmE, nw_X hA, o6_0 hA1, Option.bind_some, o1_2 hA1, Option.bind_some, oc6 hA1, Option.bind_some]
    rfl
  rcases go_CT (F := F) (X := mX X B.2.1 (.inr (5, dfX5))) hA1 hPe (by omega) (by omega) with ⟨g1, g2, g3⟩ | ⟨g2, g3⟩
  · refine Or.inl (leaf_ok (t := B.2.1) (X' := mX X B.2.1 (.inr (5, [.int (Int32.ofNat v)]))) (B' := frB (nB B 1) B.2.1 (.inr (5, [.int (Int32.ofNat v)]))) h g1 ?_ ?_ hT g3 ?_)
    · rw [pre, g2, th_l, a3 hA1 _ j (by omega), Option.bind_some]
      have e : (csI σ 31 (Int32.ofNat (j + 1))).2.1 3 j = kT (c j) := (hP.1.2.1 j hjl).1.2.1
      have e2 : kT (c j) - 218 = Int32.ofNat v := by
        rw [hv]
        have : ∀ v, v < 8 → kT (34 + v) - 218 = Int32.ofNat v := by decide
        exact this v (by omega)
      rw [e, e2]
      unfold f_X5_init f_J3_init
      rw [Option.bind_some, pf_X hno mX_s (show 0 < 1 by decide), Option.bind_some, mX_mX, Option.bind_some]
      exact congrArg (fun z => some (Sum.inl B.2.1, z)) (fr_X hno mX_s)
    · have := (MF.nb (X := X) hA (o := .inr (5, dfX5)) (s := 1) (by decide)).fr (a := B.2.1) (o := .inr (5, [.int (Int32.ofNat v)])) (Nat.le_refl _) (Nat.lt_succ_self _) hno
      rw [mX_mX] at this
      exact this.le (by decide)
    · exact Or.inr (Or.inl ⟨v, by omega, fr_at, rfl⟩)
  · refine Or.inr (leaf_no (X' := mX X B.2.1 (.inr (5, dfX5))) (B' := nB B 1) h (MF.nb hA (by decide)) hA1 ?_ hT g3)
    rw [pre, g2, th_r]
/-- the ninth -/
theorem unit_sway {m w d r : Nat} {rec : Nat → Sw → Option ((Nat ⊕ Nat) × Sw)} (h : ATX c pl last ad B σ τ j m w d r) (hc : c j = 27) : AFT F c pl last ad X B σ τ j m w d (f_X2_unit F rec (ad 6) (cM X ad σ B)) (fun _ os => os = []) ∨ BAD F last ad X B σ τ j m w d (f_X2_unit F rec (ad 6) (cM X ad σ B)) := by
  have h' := h
  obtain ⟨hA, hP, h32, h8, h30, hmw, hb, hd⟩ := h'
  have hj := hP.1.1
  have hjl := hP.2.2.2
  have hcl := (hP.1.2.1 j hjl).1.1
  have hPe : PK c pl last j σ (emT τ m 1 (Int32.ofNat 8)) := ⟨hP.1.e EF.rf (emT_ET (m := m) (w := 0)), hP.2.1, hP.2.2.1, hP.2.2.2⟩
  have is2 := is_CC (X := X) (F := F) hA hP (q := 1) (by decide)
  rw [show kT 1 = 2 from rfl, if_neg (by omega)] at is2
  have is211 := is_CC (X := X) (F := F) hA hP (q := 27) (by decide)
  rw [show kT 27 = 211 from rfl, if_pos hc] at is211
  have hk := kind_C (X := X) (F := F) hA hP
  have hT : ∀ self, t_X9_expr_L21_b F self (Int32.ofNat d) 1 1 τ = EPT F self (Int32.ofNat d) 1 1 (Int32.ofNat 8) τ := fun self => var_T hP (q := 11) (by omega) (by decide) ((vr_1 (F := F) 11 (by decide)).1 rfl) (by decide)
  have pre : f_X2_unit F rec (ad 6) (cM X ad σ B) = Option.bind (f_X2_go F (ad 6) (cM X ad σ B)) fun q67 => thr q67.1 q67.2 fun x72 => nm (nw q67.2 (.inr (5, dfX5)) 1) fun μ74 => Option.bind (f_X5_init F q67.2.2.1 8 μ74) fun q76 => some (.inl q67.2.2.1, q76) := by
    unfold f_X2_unit
    rw [oc6 hA, Option.bind_some, is2, Option.bind_some, if_pos rfl, Option.bind_some, hk, Option.bind_some, wi_1 _ hcl, if_neg (by omega), Option.bind_some, if_pos rfl, Option.bind_some, is211, Option.bind_some, if_neg (by decide), Option.bind_some]
  rcases go_CT (F := F) (X := X) hA hPe (by omega) (by omega) with ⟨g1, g2, g3⟩ | ⟨g2, g3⟩
  · refine Or.inl (leaf_ok (t := B.2.1) (X' := X) (B' := ovl B [.inr (5, [.int (Int32.ofNat 8)])] 1) h g1 ?_ ((MF.ov hA (by decide)).le (by decide)) hT g3 ?_)
    · rw [pre, g2, th_l, nmE, ov_new, ← ov_cM]
      have := i_X5 (F := F) (M := cM X ad (csI σ 31 (Int32.ofNat (j + 1))) B) (v := 8)
      show Option.bind (f_X5_init F (cM X ad (csI σ 31 (Int32.ofNat (j + 1))) B).2.1 8 (ovl (cM X ad (csI σ 31 (Int32.ofNat (j + 1))) B) [.inr (5, dfX5)] 1)) _ = _
      rw [this, Option.bind_some]
      rfl
    · exact Or.inr (Or.inl ⟨8, by decide, ov_1, rfl⟩)
  · refine Or.inr (leaf_no (X' := X) (B' := B) h ((MF.rf hA).le (Nat.zero_le _)) hA ?_ hT g3)
    rw [pre, g2, th_r]
/-- nothing that can stand there -/
theorem unit_oth {m w d r : Nat} {rec : Nat → Sw → Option ((Nat ⊕ Nat) × Sw)} (h : ATX c pl last ad B σ τ j m w d r) (h1 : c j ≠ 1) (h11 : c j ≠ 11) (h27 : c j ≠ 27) (h34 : ¬ 34 ≤ c j) : BAD F last ad X B σ τ j m w d (f_X2_unit F rec (ad 6) (cM X ad σ B)) := by
  obtain ⟨hA, hP, h32, h8, h30, hmw, hb, hd⟩ := h
  have hj := hP.1.1
  have hjl := hP.2.2.2
  have hcl := (hP.1.2.1 j hjl).1.1
  have is2 := is_CC (X := X) (F := F) hA hP (q := 1) (by decide)
  rw [show kT 1 = 2 from rfl, if_neg h1] at is2
  have is211 := is_CC (X := X) (F := F) hA hP (q := 27) (by decide)
  rw [show kT 27 = 211 from rfl, if_neg h27] at is211
  have is40 := is_CC (X := X) (F := F) hA hP (q := 11) (by decide)
  rw [show kT 11 = 40 from rfl, if_neg h11] at is40
  have hk := kind_C (X := X) (F := F) hA hP
  refine ⟨1, some (0, tsI (tsI τ 8 1) 9 (Int32.ofNat (pl j))), by omega, fun n => by rw [L21_s, oth_T hP h1 h11 h27 h34], ?_⟩
  have := FL.at (R := Nat) (X := X) (m := m) (w := w) (k := 1) hA hP (by decide)
  have e : f_X2_unit F rec (ad 6) (cM X ad σ B) = some (.inr B.2.1, cM X ad σ (ovl B [fltO 1 (pl j)] 8)) := by
    unfold f_X2_unit
    rw [oc6 hA, Option.bind_some, is2, Option.bind_some, if_pos rfl, Option.bind_some, hk, Option.bind_some, wi_1 _ hcl, if_neg h34, Option.bind_some, if_pos rfl, Option.bind_some, is211, Option.bind_some, if_pos rfl, Option.bind_some, is40, Option.bind_some, if_pos rfl, Option.bind_some, fault_C hA hP, Option.bind_some, oc_flt hA, Option.bind_some]
  rw [e]
  exact this.le (by omega)
