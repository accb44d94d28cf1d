set_option maxRecDepth 100000
/-! sums, read: a sum in brackets -/
variable {X X' X2 : Nat → Option Ob} {ad : Nat → Nat} {B B' B2 : Sw} {A : Av} {σ σ' σ2 : Cs} {τ τ' : Tw} {F : Nat} {c pl : Nat → Nat} {last j : Nat}
def isOp4 (x : Nat) : Prop := x = 6 ∨ x = 7 ∨ x = 8 ∨ x = 9
/-- behind a sum -/
def PS (c : Nat → Nat) (j' : Nat) (os : List Int32) : Prop := (∀ o ∈ os, 1 ≤ rk o) ∧ ¬ isOp4 (c j')
theorem end_T {self : Int32 → Int32 → Int32 → Tw → Option (Int32 × Tw)} {v1 : Int32} (h : PK c pl last j σ τ) (h4 : ¬ isOp4 (c j)) : t_X9_expr_L21_b F self v1 0 1 τ = if v1 ≤ 0 then self v1 0 0 τ else if c j = 12 then Option.bind (t_X9_pass F τ) fun q21 => if q21.1 = 0 then some (0, q21.2) else Option.bind (t_X9_reduce F 1 0 q21.2) fun q24 => nm (tsI q24 30 ((q24.1 30) - 1)) fun τ26 => nm (v1 + (-1)) fun x28 => self x28 0 1 τ26 else some (0, tsI (tsI τ 8 1) 9 (Int32.ofNat (pl j))) := by
  have n6 : c j ≠ 6 := fun e => h4 (Or.inl e)
  have n7 : c j ≠ 7 := fun e => h4 (Or.inr (Or.inl e))
  have n8 : c j ≠ 8 := fun e => h4 (Or.inr (Or.inr (Or.inl e)))
  have n9 : c j ≠ 9 := fun e => h4 (Or.inr (Or.inr (Or.inr e)))
  have s6 := sign_TT (F := F) h (q := 6) (by decide)
  have s7 := sign_TT (F := F) h (q := 7) (by decide)
  have s8 := sign_TT (F := F) h (q := 8) (by decide)
  have s9 := sign_TT (F := F) h (q := 9) (by decide)
  have s12 := sign_TT (F := F) h (q := 12) (by decide)
  rw [show wT 6 = 43 from rfl, if_neg n6] at s6
  rw [show wT 7 = 45 from rfl, if_neg n7] at s7
  rw [show wT 8 = 42 from rfl, if_neg n8] at s8
  rw [show wT 9 = 47 from rfl, if_neg n9] at s9
  rw [show wT 12 = 41 from rfl] at s12
  unfold t_X9_expr_L21_b
  rw [if_neg (by decide), if_pos rfl, s8, Option.bind_some, if_pos rfl, s9, Option.bind_some, if_pos rfl, s6, Option.bind_some, if_pos rfl, s7, Option.bind_some, if_pos rfl]
  by_cases hv : v1 ≤ 0
  · rw [if_pos hv, if_pos hv]
  · rw [if_neg hv, if_neg hv, s12]
    by_cases e : c j = 12
    · rw [if_pos e, if_pos e, Option.bind_some, if_neg (by decide)]
    · rw [if_neg e, if_neg e, Option.bind_some, if_pos rfl, wrong_T h, Option.bind_some, if_pos (Or.inl rfl)]
theorem must_y {q : Nat} (hA : AdOK ad B) (h : PK c pl last j σ τ) (hq : q < 42) (hc : c j = q) {r : (Int32 ⊕ Nat) × Sw} (hg : f_X2_go F (ad 6) (cM X ad σ B) = some r) : f_X2_must F (ad 6) (kT q) (cM X ad σ B) = some r := by
  unfold f_X2_must
  rw [oc6 hA, Option.bind_some, is_CC hA h hq, if_pos hc, Option.bind_some, if_neg (by decide), Option.bind_some, hg]
  obtain ⟨r1, r2⟩ := r
  cases r1 <;> rfl
theorem must_n {q : Nat} (hA : AdOK ad B) (h : PK c pl last j σ τ) (hq : q < 42) (hc : c j ≠ q) : f_X2_must F (ad 6) (kT q) (cM X ad σ B) = some (.inr B.2.1, cM X ad σ (ovl B [fltO 1 (pl j)] 8)) := by
  unfold f_X2_must
  rw [oc6 hA, Option.bind_some, is_CC hA h hq, if_neg hc, Option.bind_some, if_pos rfl, Option.bind_some, fault_C hA h, Option.bind_some, oc_flt hA, Option.bind_some]
theorem dec_n {d : Nat} : Int32.ofNat (d + 1) + (-1) = Int32.ofNat d := by
  have e1 : Int32.ofNat 1 + (-1) = (0 : Int32) := by decide
  rw [Int32.ofNat_add, Int32.add_assoc, e1, Int32.add_zero]
theorem dec_s {d : Nat} : Int32.ofNat (d + 1) - 1 = Int32.ofNat d := n_sl 1 (d + 1) (Nat.le_add_left 1 d)
theorem PK.ee {m w : Nat} (h : PK c pl last j σ τ) (h1 : EF σ σ') (h2 : ET m w τ τ') (e1 : σ'.1 31 = σ.1 31) (e2 : τ'.1 7 = τ.1 7) : PK c pl last j σ' τ' := ⟨h.1.e h1 h2, e1.trans h.2.1, e2.trans h.2.2.1, h.2.2.2⟩
theorem unit_paren (hF : 100000 ≤ F) {m w d r : Nat} {rec : Nat → Sw → Option ((Nat ⊕ Nat) × Sw)} (hR : d < 6 → SPEC F c pl last ad (d + 1) 1 (rec (ad 6)) (PS c)) (h : ATX c pl last ad B σ τ j m w d r) (hc : c j = 11) : AFT F c pl last ad X B σ τ j m w d (f_X2_unit F rec (ad 6) (cM X ad σ B)) (fun _ os => os = []) ∨ BAD F last ad X B σ τ j m w d (f_X2_unit F rec (ad 6) (cM X ad σ B)) := by
  obtain ⟨hA, hP, h32, h8, h30, hmw, hb, hd⟩ := h
  have hj := hP.1.1
  have hjl := hP.2.2.2
  have hcl := (hP.1.2.1 j hjl).1.1
  have is2 := is_CC (X := X) (F := F) hA hP (q := 1) (by decide)
  rw [show kT 1 = 2 from rfl, if_neg (by omega)] at is2
  have is211 := is_CC (X := X) (F := F) hA hP (q := 27) (by decide)
  rw [show kT 27 = 211 from rfl, if_neg (by omega)] at is211
  have is40 := is_CC (X := X) (F := F) hA hP (q := 11) (by decide)
  rw [show kT 11 = 40 from rfl, if_pos hc] at is40
  have hk := kind_C (X := X) (F := F) hA hP
  have s11 := sign_TT (F := F) hP (q := 11) (by decide)
  rw [show wT 11 = 40 from rfl, if_pos hc] at s11
  have preT : ∀ self, t_X9_expr_L21_b F self (Int32.ofNat d) 1 1 τ = if Int32.ofNat d = 6 then some (0, tsI (tsI τ 8 2) 9 (Int32.ofNat (pl j))) else Option.bind (t_X9_pass F τ) fun q44 => if q44.1 = 0 then some (0, q44.2) else nm (Int32.ofNat d + 1) fun x47 => Option.bind (t_X9_await F 0 q44.2) fun q49 => self x47 1 1 q49 := fun self => by
    unfold t_X9_expr_L21_b
    rw [if_neg (by decide), if_neg (by decide), s11, Option.bind_some, if_neg (by decide)]
    by_cases e : Int32.ofNat d = 6
    · rw [if_pos e, if_pos e, wrong_T hP, Option.bind_some, if_pos (Or.inl rfl)]
    · rw [if_neg e, if_neg e]
  by_cases h6 : d = 6
  · subst h6
    refine Or.inr ⟨1, some (0, tsI (tsI τ 8 2) 9 (Int32.ofNat (pl j))), by omega, fun n => by rw [L21_s, preT, if_pos (by decide)], ?_⟩
    have e : f_X2_unit F rec (ad 6) (cM X ad σ B) = some (.inr B.2.1, cM X ad σ (ovl B [fltO 2 (pl j)] 8)) := by
      unfold f_X2_unit
      rw [oc6 hA, Option.bind_some, is2, Option.bind_some, if_pos rfl, Option.bind_some, hk, Option.bind_some, wi_1 _ hcl, if_neg (by omega), Option.bind_some, if_pos rfl, Option.bind_some, is211, Option.bind_some, if_pos rfl, Option.bind_some, is40, Option.bind_some, if_neg (by decide), o6_2 hA, Option.bind_some, h32, if_pos (by decide), Option.bind_some, fault_C hA hP, Option.bind_some, oc_flt hA, Option.bind_some]
    rw [e]
    exact (FL.at (R := Nat) (X := X) (m := m) (w := w) (k := 2) hA hP (by decide)).le (by omega)
  have hd6 : d < 6 := by omega
  have g6 : ¬ Int32.ofNat d = 6 := fun q => h6 ((c_eq d 6 (by omega) (by decide)).1 q)
  obtain ⟨σ1, eσ1⟩ : ∃ σ1, σ1 = csI σ 32 (Int32.ofNat (d + 1)) := ⟨_, rfl⟩
  have hP1 : PK c pl last j σ1 τ := by
    rw [eσ1]
    exact hP.ee EF.i32 (ET.rf (m := 0) (w := 0)) (csI_n _ _ _ _ (by decide)) rfl
  have preC : f_X2_unit F rec (ad 6) (cM X ad σ B) = Option.bind (f_X2_go F (ad 6) (cM X ad σ1 B)) fun q30 => thr q30.1 q30.2 fun x35 => Option.bind (oc q30.2 (ad 6) 2) fun u39 => Option.bind (rec (ad 6) q30.2) fun q37 => thr q37.1 q37.2 fun x42 => Option.bind (oc q37.2 (ad 6) 2) fun u46 => Option.bind (f_X2_must F (ad 6) 41 q37.2) fun q44 => thr q44.1 q44.2 fun x49 => Option.bind (gfI q44.2 (ad 6) 2 2) fun x51 => Option.bind (pf q44.2 (ad 6) 2 2 (.int (x51 - 1))) fun μ53 => some (.inl x42, μ53) := by
    unfold f_X2_unit
    rw [oc6 hA, Option.bind_some, is2, Option.bind_some, if_pos rfl, Option.bind_some, hk, Option.bind_some, wi_1 _ hcl, if_neg (by omega), Option.bind_some, if_pos rfl, Option.bind_some, is211, Option.bind_some, if_pos rfl, Option.bind_some, is40, Option.bind_some, if_neg (by decide), o6_2 hA, Option.bind_some, h32, if_neg g6, Option.bind_some, n_lp, p6_2 hA, Option.bind_some, ← eσ1, oc6 hA, Option.bind_some]
  have hE1 : EF σ σ1 := by rw [eσ1]; exact EF.i32
  rcases go_CT (F := F) (X := X) hA hP1 (by omega) (by omega) with ⟨g1, g2, g3⟩ | ⟨g2, g3⟩
  · obtain ⟨σ2, eσ2⟩ : ∃ σ2, σ2 = csI σ1 31 (Int32.ofNat (j + 1)) := ⟨_, rfl⟩
    obtain ⟨τ1, eτ1⟩ : ∃ τ1, τ1 = awT (tsI τ 7 (Int32.ofNat (j + 1))) w 0 := ⟨_, rfl⟩
    have hE2 : EF σ σ2 := by rw [eσ2]; exact hE1.tr EF.i31
    have hET1 : ET m w τ τ1 := by rw [eτ1]; exact ET.tr (ET.i7 (m := m) (w := w)) awT_ET (Nat.le_refl _) (Nat.le_refl _)
    have hP2 : PK c pl last (j + 1) σ2 τ1 := by
      rw [eσ2, eτ1]
      exact (hP1.go g1).ee EF.rf (awT_ET (m := m) (w := w)) rfl (tsI_n _ _ _ _ (by decide))
    have hX2 : ATX c pl last ad B σ2 τ1 (j + 1) m (w + 1) (d + 1) 1 := by
      refine ⟨hA, hP2, ?_, ?_, ?_, by omega, Or.inr ?_, by omega⟩
      · rw [eσ2, eσ1, csI_n _ _ _ _ (by decide), csI_s]
      · rw [eτ1]
        exact h8
      · rw [eτ1]
        exact awT_30
      · rw [Nat.add_sub_cancel, eτ1, awT_at]
        decide
    have stepT : ∀ n, t_X9_expr_L21 F (n + 1) (Int32.ofNat d) 1 1 τ = t_X9_expr_L21 F n (Int32.ofNat (d + 1)) 1 1 τ1 := fun n => by
      rw [L21_s, preT, if_neg g6, g3, Option.bind_some, if_neg (show ¬ (1 : Int32) = 0 by decide), nmE, n_lp, await_T (τ := tsI τ 7 (Int32.ofNat (j + 1))) (w := w) h30 (by omega), Option.bind_some, eτ1]
    rw [preC, g2, th_l, ← eσ2]
    rw [oc6 hA, Option.bind_some]
    rcases hR hd6 X B σ2 τ1 (j + 1) m (w + 1) hX2 with ⟨t, X', B', σ', τ', j', Q, os, s, a1, a2, ⟨a3, a4⟩, a5, a6, a7, a8, a9, a10, a11, a12, a13, a14, a15, a16, a17⟩ | ⟨s, rr, b1, b2, b3⟩
    · have hA' := a13.1
      have hj' := a5.2.2.2
      rw [a1, th_l, oc6 hA', Option.bind_some]
      have preE := fun self => end_T (F := F) (self := self) (v1 := Int32.ofNat (d + 1)) a5 a17
      have gd : ¬ Int32.ofNat (d + 1) ≤ 0 := fun q => by
        have := (c_le (d + 1) 0 (by omega) (by decide)).1 q
        omega
      have hMF : MF ad X B X' B' (2 * (j' + 1 - j)) := a13.le (by omega)
      have hEF : EF σ σ' := hE2.tr a14
      have hET : ET m w τ τ' := hET1.tr a15 (Nat.le_refl _) (Nat.le_succ _)
      by_cases h12 : c j' = 12
      · rcases go_CT (F := F) (X := X') hA' a5 (by omega) (by omega) with ⟨k1, k2, k3⟩ | ⟨k2, k3⟩
        · have hm := must_y (F := F) hA' a5 (q := 12) (by decide) h12 k2
          rw [show kT 12 = 41 from rfl] at hm
          obtain ⟨τ3, c1, c2, c3, c4, c5, c6⟩ := red_all (F := F) (r := 1) (by decide) os (tsI τ' 7 (Int32.ofNat (j' + 1))) (m + Q.length) (w + 1) F a7 a8 (by omega) (by omega) (stk_congr (τ := τ') (fun _ _ => rfl) a10) a16 (by
            refine Or.inr ?_
            rw [Nat.add_sub_cancel]
            have e := a15.2.2.2.2.1 w (Nat.lt_succ_self w)
            show rk (τ'.2.1 22 w) < 1
            rw [e, eτ1, awT_at]
            decide) (by omega)
          refine Or.inl ⟨t, X', B', csI (csI σ' 31 (Int32.ofNat (j' + 1))) 32 (Int32.ofNat d), tsI τ3 30 (Int32.ofNat w), j' + 1, Q ++ opC os, [], s + 2, ?_, fun n => ?_, ⟨by omega, by omega⟩, ?_, csI_s _ _ _, tsI_s _ _ _, ?_, ?_, trivial, ?_, ?_, hMF, ?_, ?_, rfl⟩
          · rw [hm, th_l]
            rw [o6_2 hA', Option.bind_some]
            have e : (csI σ' 31 (Int32.ofNat (j' + 1))).1 32 = Int32.ofNat (d + 1) := a6
            rw [e, dec_s, p6_2 hA', Option.bind_some]
          · rw [show n + (s + 2) = (n + 1 + s) + 1 by omega, stepT, a2, L21_s, preE, if_neg gd, if_pos h12, k3, Option.bind_some, if_neg (show ¬ (1 : Int32) = 0 by decide)]
            have e : t_X9_reduce F 1 0 (tsI τ' 7 (Int32.ofNat (j' + 1))) = some τ3 := c1
            show Option.bind (t_X9_reduce F 1 0 (tsI τ' 7 (Int32.ofNat (j' + 1)))) _ = _
            rw [e, Option.bind_some, nmE, nmE, c2, dec_s, dec_n]
          · refine ⟨?_, ?_, ?_, k1⟩
            · exact ((a5.go k1).1.e EF.i32 (c5 0)).e EF.rf (ET.i30 (m := 0) (w := 0))
            · exact (csI_n _ _ _ _ (by decide)).trans (csI_s _ _ _)
            · exact (tsI_n _ _ _ _ (by decide)).trans (c3.trans (tsI_s _ _ _))
          · show τ3.2.1 8 1 = _
            rw [c4, List.length_append]
            unfold opC
            rw [List.length_map]
            congr 1
            omega
          · refine cAt_app.2 ⟨?_, c6⟩
            have hk2 : ∀ (Q : Cd) (k : Nat), k + Q.length ≤ m + Q.length + 0 → True := fun _ _ _ => trivial
            have gen : ∀ (Q' : Cd) (k : Nat), k + Q'.length ≤ m + Q.length → cAt (vT τ') k Q' → cAt (vT (tsI τ3 30 (Int32.ofNat w))) k Q' := by
              intro Q'
              induction Q' with
              | nil => intro k _ _; trivial
              | cons p Q' ih =>
                intro k hk hq
                obtain ⟨x1, x2, x3⟩ := hq
                have y := (c5 0).2.2.2.1 (500 + k) (by rw [List.length_cons] at hk; omega)
                exact ⟨y.1.trans x1, y.2.trans x2, ih (k + 1) (by rw [List.length_cons] at hk; omega) x3⟩
            exact gen Q m (Nat.le_refl _) a9
          · show TrB B' (j' + 1 - j) t (Q ++ opC os ++ opC [])
            have e : opC [] = [] := rfl
            rw [e, List.append_nil]
            exact a11.up (by omega)
          · rw [List.length_append]
            unfold opC
            rw [List.length_map]
            show Q.length + os.length + 0 ≤ _
            omega
          · exact (hEF.tr EF.i31).tr EF.i32
          · exact (((hET.tr (ET.i7 (m := m) (w := w)) (Nat.le_refl _) (Nat.le_refl _)).tr (c5 w) (Nat.le_add_right _ _) (Nat.le_refl _))).tr (ET.i30 (m := m) (w := w)) (Nat.le_refl _) (Nat.le_refl _)
        · have hm := must_y (F := F) hA' a5 (q := 12) (by decide) h12 k2
          rw [show kT 12 = 41 from rfl] at hm
          refine Or.inr ⟨s + 2, some (0, tsI (tsI τ' 8 2) 9 (Int32.ofNat (pl j'))), by omega, fun n => ?_, ?_⟩
          · rw [show n + (s + 2) = (n + 1 + s) + 1 by omega, stepT, a2, L21_s, preE, if_neg gd, if_pos h12, k3, Option.bind_some, if_pos rfl]
          · rw [hm, th_r]
            exact (FL.pre (a13.le (Nat.le_refl _)) hEF hET (Nat.le_refl _) (Nat.le_refl _) (FL.at (R := Nat) (X := X') (m := m) (w := w) (k := 2) hA' a5 (by decide))).le (by omega)
      · have hm := must_n (F := F) (X := X') hA' a5 (q := 12) (by decide) h12
        rw [show kT 12 = 41 from rfl] at hm
        refine Or.inr ⟨s + 2, some (0, tsI (tsI τ' 8 1) 9 (Int32.ofNat (pl j'))), by omega, fun n => ?_, ?_⟩
        · rw [show n + (s + 2) = (n + 1 + s) + 1 by omega, stepT, a2, L21_s, preE, if_neg gd, if_neg h12]
        · rw [hm, th_r]
          exact (FL.pre (a13.le (Nat.le_refl _)) hEF hET (Nat.le_refl _) (Nat.le_refl _) (FL.at (R := Nat) (X := X') (m := m) (w := w) (k := 1) hA' a5 (by decide))).le (by omega)
    · refine Or.inr ⟨s + 1, rr, by omega, fun n => ?_, ?_⟩
      · rw [show n + (s + 1) = (n + s) + 1 by omega, stepT, b2]
      · obtain ⟨e, X2, B2, σ3, τ3, kk, p, f1, f2, f3, f4, f5, f6, f7, f8, f9⟩ := b3
        rw [f1, th_r]
        exact ⟨e, X2, B2, σ3, τ3, kk, p, rfl, f2, f3, f4, f5, f6, f7.le (by omega), hE2.tr f8, hET1.tr f9 (Nat.le_refl _) (Nat.le_succ _)⟩
  · refine Or.inr ⟨1, some (0, tsI (tsI τ 8 2) 9 (Int32.ofNat (pl j))), by omega, fun n => ?_, ?_⟩
    · rw [L21_s, preT, if_neg g6, g3, Option.bind_some, if_pos rfl]
    · rw [preC, g2, th_r]
      exact (FL.pre (MF.rf hA) hE1 (ET.rf (m := m) (w := w)) (Nat.le_refl _) (Nat.le_refl _) (FL.at (R := Nat) (X := X) (m := m) (w := w) (k := 2) hA hP1 (by decide))).le (by omega)
