set_option maxRecDepth 100000
/-! conditions, read: a relation's second half, on both sides -/
variable {X X' X2 : Nat → Option Ob} {ad : Nat → Nat} {B B' B2 : Sw} {A : Av} {σ σ' σ2 : Cs} {τ τ' τ2 : Tw} {F : Nat} {c pl : Nat → Nat} {last j : Nat}
/-- the relation's object, with or without 'not' -/
def rlB (B : Sw) (s : Int32) (a b : Nat) : Prop := (s = 0 ∧ a = b) ∨ (s = 1 ∧ B.1 a = some (.inr (16, [.ref b])))
theorem cAt_same (h9 : τ'.2.1 9 = τ.2.1 9) (h10 : τ'.2.1 10 = τ.2.1 10) : ∀ (Q : Cd) (k : Nat), cAt (vT τ) k Q → cAt (vT τ') k Q
  | [], _, _ => trivial
  | p :: Q, k, ⟨x1, x2, x3⟩ => ⟨(show τ'.2.1 9 (500 + k) = p.1 by rw [h9]; exact x1), (show τ'.2.1 10 (500 + k) = p.2 by rw [h10]; exact x2), cAt_same h9 h10 Q (k + 1) x3⟩
theorem rwT_cAt {l e k : Nat} {s v1 : Int32} {Q : Cd} (h : cAt (vT τ) k Q) : cAt (vT (rwT τ l e s v1)) k Q := cAt_same (τ := τ) (τ' := rwT τ l e s v1) rfl rfl Q k h
theorem rel_CT (hF : 100000 ≤ F) (hA : AdOK ad B) (hP : PK c pl last j σ τ) (h32 : σ.1 32 = 0) {m l t : Nat} {s v1 : Int32} (h8 : τ.2.1 8 1 = Int32.ofNat m) (h11 : τ.2.1 11 1 = Int32.ofNat l) (hm : m ≤ j) (hl : l < 200) (hs : s = 0 ∨ s = 1) (hq : isRl (c j)) {self : Int32 → Int32 → Tw → Option (Int32 × Tw)} : (∃ a b r X' B' σ' τ' j' cr, f_X2_literal_j92 F (ad 6) s t (rlS (c j)) (cM X ad σ B) = some (.inl a, cM X' ad σ' B') ∧ t_X9_cond_j140 F self v1 (Int32.ofNat (200 + l)) s 1 τ = RST F self v1 τ' ∧ j + 2 ≤ j' ∧ PK c pl last j' σ' τ' ∧ σ'.1 32 = 0 ∧ τ'.2.1 8 1 = Int32.ofNat (m + cr.length) ∧ τ'.2.1 11 1 = Int32.ofNat (l + 1) ∧ rlB B' s a b ∧ B'.1 b = some (.inr (15, [.int (rlS (c j)), .ref t, .ref r])) ∧ TrB B' (j' - j) r cr ∧ cAt (vT τ') m cr ∧ cr.length ≤ j' - j ∧ (τ'.2.1 13 (200 + l) = wT (c j) ∧ τ'.2.1 16 (200 + l) = Int32.ofNat (m + cr.length) ∧ τ'.2.1 12 (200 + l) = s ∧ τ'.2.1 17 (200 + l) = v1 ∧ τ'.2.1 14 = τ.2.1 14 ∧ τ'.2.1 15 = τ.2.1 15) ∧ MF ad X B X' B' (2 * (j' - j)) ∧ EF σ σ' ∧ CX m l τ τ') ∨ CNO last ad X B σ τ (2 * (last + 1 - j)) m l (f_X2_literal_j92 F (ad 6) s t (rlS (c j)) (cM X ad σ B)) (t_X9_cond_j140 F self v1 (Int32.ofNat (200 + l)) s 1 τ) := by
  obtain ⟨q1, q2, q3⟩ := isRl_n hq
  have hj := hP.1.1
  have hjl := hP.2.2.2
  have hw : τ.2.1 4 j = wT (c j) := (hP.1.2.1 j hjl).2.2.1 (by omega) (by omega)
  obtain ⟨τ5, e5⟩ : ∃ τ5, τ5 = twA τ 13 (upd (τ.2.1 13) (200 + l) (wT (c j))) := ⟨_, rfl⟩
  have hC5 : CX m l τ τ5 := by rw [e5]; exact CX.lit (by decide) (by decide) (Nat.le_refl _)
  have hP5 : PK c pl last j σ τ5 := hP.cc hC5 (by rw [e5]; rfl)
  have preT : t_X9_cond_j140 F self v1 (Int32.ofNat (200 + l)) s 1 τ = Option.bind (t_X9_pass F τ5) fun q6 => if q6.1 = 0 then some (0, q6.2) else Option.bind (t_X9_expr F q6.2) fun q9 => if q9.1 = 0 then some (0, q9.2) else Option.bind (taI q9.2 8 2 1) fun x12 => Option.bind (tsA q9.2 16 0 400 (Int32.ofNat (200 + l)) x12) fun τ15 => Option.bind (tsA τ15 12 4 400 (Int32.ofNat (200 + l)) s) fun τ17 => Option.bind (tsA τ17 17 0 400 (Int32.ofNat (200 + l)) v1) fun τ19 => Option.bind (taI τ19 11 2 1) fun x20 => Option.bind (tsA τ19 11 0 2 1 (x20 + 1)) fun τ23 => RST F self v1 τ23 := by
    unfold t_X9_cond_j140
    rw [if_neg (by decide), what_T hP, Option.bind_some, hw, tsA_n τ 13 0 400 _ _ (show 200 + l < 400 by omega) (by decide), Option.bind_some, nar0, ← e5]
    rfl
  have preC : f_X2_literal_j92 F (ad 6) s t (rlS (c j)) (cM X ad σ B) = Option.bind (f_X2_go F (ad 6) (cM X ad σ B)) fun q2 => thr q2.1 q2.2 fun x7 => nm (nw q2.2 (.inr (15, dfX15)) 3) fun μ9 => Option.bind (oc μ9 (ad 6) 2) fun u13 => Option.bind (f_sum F 9 (ad 6) μ9) fun q11 => thr q11.1 q11.2 fun x16 => Option.bind (f_X15_init F q2.2.2.1 (rlS (c j)) t x16 q11.2) fun q18 => if s = 0 then some (.inl q2.2.2.1, q18) else nm (nw q18 (.inr (16, dfX16)) 1) fun μ21 => Option.bind (f_X16_init F q18.2.1 q2.2.2.1 μ21) fun q23 => some (.inl q18.2.1, q23) := by
    unfold f_X2_literal_j92
    rw [if_neg q1, oc6 hA, Option.bind_some]
  rw [preC, preT]
  rcases go_CT (F := F) (X := X) hA hP5 (by omega) (by omega) with ⟨k1, k2, k3⟩ | ⟨k2, k3⟩
  · have hA2 : AdOK ad (nB B 3) := nB_ad hA
    have hP6 := hP5.go k1
    rw [k2, th_l, k3, Option.bind_some, if_neg (show ¬ (1 : Int32) = 0 by decide), nmE, nw_X hA, oc6 hA2, Option.bind_some]
    have hMF1 : MF ad X B (mX X B.2.1 (.inr (15, dfX15))) (nB B 3) 1 := MF.nb hA (by decide)
    have hC6 : CX m l τ (tsI τ5 7 (Int32.ofNat (j + 1))) := hC5.tr (ET.i7 (m := m) (w := 0)).x.cc (Nat.le_refl _) (Nat.le_refl _)
    rcases expr_CT (X := mX X B.2.1 (.inr (15, dfX15))) hF hA2 hP6 ((csI_n _ _ _ _ (by decide)).trans h32) (m := m) (by rw [e5]; exact h8) (by omega) with ⟨r, X2, B2, σ3, τ7, j2, cr, a1, a2, a3, a4, a5, a6, a7, a8, a9, a10, a11, a12, a13⟩ | hN
    · have hj2 := a4.2.2.2
      have hno1 : ¬ Own ad (nB B 3) B.2.1 := new_no hA (Nat.le_refl _)
      have hno2 : ¬ Own ad B2 B.2.1 := a11.no (Nat.lt_succ_self _) hno1
      have hxp : X2 B.2.1 = some (.inr (15, dfX15)) := (a11.2.2.2.1 B.2.1 (Nat.lt_succ_self _) hno1).trans mX_s
      have hlt : B.2.1 < B2.2.1 := Nat.lt_of_lt_of_le (Nat.lt_succ_self _) a11.2.2.2.2.1
      obtain ⟨B3, eB3⟩ : ∃ B3, B3 = frB B2 B.2.1 (.inr (15, [.int (rlS (c j)), .ref t, .ref r])) := ⟨_, rfl⟩
      obtain ⟨X3, eX3⟩ : ∃ X3, X3 = mX X2 B.2.1 (.inr (15, [.int (rlS (c j)), .ref t, .ref r])) := ⟨_, rfl⟩
      have hMF3 : MF ad X B X3 B3 (1 + 2 * (j2 - (j + 1))) := by
        rw [eX3, eB3]
        exact (hMF1.tr a11).fr (Nat.le_refl _) hlt hno2
      have hG3 : Gr B2 B3 := by rw [eB3]; exact fr_gr hno2
      have hb3 : B3.1 B.2.1 = some (.inr (15, [.int (rlS (c j)), .ref t, .ref r])) := by rw [eB3]; exact fr_at
      have init : f_X15_init F B.2.1 (rlS (c j)) t r (cM X2 ad σ3 B2) = some (cM X3 ad σ3 B3) := by
        unfold f_X15_init f_J3_init
        rw [Option.bind_some, pf_X hno2 hxp (show 0 < 3 by decide), Option.bind_some, pf_X hno2 mX_s (show 1 < 3 by decide), Option.bind_some, mX_mX, pf_X hno2 mX_s (show 2 < 3 by decide), Option.bind_some, mX_mX, eX3, eB3]
        exact congrArg some (fr_X hno2 mX_s)
      have h117 : τ7.2.1 11 1 = Int32.ofNat l := by
        rw [a13.2.1 11 (by decide) (by decide) (by decide) (by decide), e5]
        exact h11
      rw [a1, th_l, a2, Option.bind_some, if_neg (show ¬ (1 : Int32) = 0 by decide), rowl_T a7 h117 hl hs]
      have hC7 : CX m l τ (rwT τ7 l (m + cr.length) s v1) := (hC6.tr a13.cc (Nat.le_refl _) (Nat.le_refl _)).tr rwT_CX (Nat.le_refl _) (Nat.le_refl _)
      have hP7 : PK c pl last j2 σ3 (rwT τ7 l (m + cr.length) s v1) := a4.cc (rwT_CX (m := 0)) rfl
      obtain ⟨w1, w2, w3, w4⟩ := rwT_at (τ := τ7) (l := l) (e := m + cr.length) (s := s) (v1 := v1)
      have h13 : (rwT τ7 l (m + cr.length) s v1).2.1 13 (200 + l) = wT (c j) := by
        show τ7.2.1 13 (200 + l) = _
        rw [a13.2.1 13 (by decide) (by decide) (by decide) (by decide), e5]
        exact up_s _ _ _
      have h14 : (rwT τ7 l (m + cr.length) s v1).2.1 14 = τ.2.1 14 := by
        show τ7.2.1 14 = _
        rw [a13.2.1 14 (by decide) (by decide) (by decide) (by decide), e5]
        rfl
      have h15 : (rwT τ7 l (m + cr.length) s v1).2.1 15 = τ.2.1 15 := by
        show τ7.2.1 15 = _
        rw [a13.2.1 15 (by decide) (by decide) (by decide) (by decide), e5]
        rfl
      have hE3 : EF σ σ3 := EF.i31.tr a12
      simp only [cM_2]
      refine Or.inl ?_
      rw [init, Option.bind_some]
      rcases hs with rfl | rfl
      · rw [if_pos rfl]
        exact ⟨B.2.1, B.2.1, r, X3, B3, σ3, _, j2, cr, rfl, rfl, by omega, hP7, a5, a7, w4, Or.inl ⟨rfl, rfl⟩, hb3, (a9.gr hG3).up (by omega), rwT_cAt a8, by omega, ⟨h13, w1, w2, w3, h14, h15⟩, hMF3.le (by omega), hE3, hC7⟩
      · have hA3 : AdOK ad B3 := hMF3.1
        have hno4 : ¬ Own ad (nB B3 1) B3.2.1 := new_no hA3 (Nat.le_refl _)
        have hMF4 : MF ad X B (mX X3 B3.2.1 (.inr (16, [.ref B.2.1]))) (frB (nB B3 1) B3.2.1 (.inr (16, [.ref B.2.1]))) (1 + 2 * (j2 - (j + 1)) + 1) := by
          have := (hMF3.tr (MF.nb (X := X3) hA3 (o := .inr (16, dfX16)) (s := 1) (by decide))).fr (a := B3.2.1) (o := .inr (16, [.ref B.2.1])) hMF3.2.2.2.2.1 (Nat.lt_succ_self _) hno4
          rw [mX_mX] at this
          exact this
        have hG4 : Gr B3 (frB (nB B3 1) B3.2.1 (.inr (16, [.ref B.2.1]))) := fun a o h => fr_gr hno4 a o h
        have init4 : f_X16_init F B3.2.1 B.2.1 (cM (mX X3 B3.2.1 (.inr (16, dfX16))) ad σ3 (nB B3 1)) = some (cM (mX X3 B3.2.1 (.inr (16, [.ref B.2.1]))) ad σ3 (frB (nB B3 1) B3.2.1 (.inr (16, [.ref B.2.1])))) := by
          unfold f_X16_init f_J3_init
          rw [Option.bind_some, pf_X hno4 mX_s (show 0 < 1 by decide), Option.bind_some, mX_mX]
          exact congrArg some (fr_X hno4 mX_s)
        rw [if_neg (show ¬ (1 : Int32) = 0 by decide), nmE, nw_X hA3]
        refine ⟨B3.2.1, B.2.1, r, _, _, σ3, _, j2, cr, ?_, rfl, by omega, hP7, a5, a7, w4, Or.inr ⟨rfl, fr_at⟩, hG4 _ _ hb3, ((a9.gr hG3).gr hG4).up (by omega), rwT_cAt a8, by omega, ⟨h13, w1, w2, w3, h14, h15⟩, hMF4.le (by omega), hE3, hC7⟩
        show Option.bind (f_X16_init F B3.2.1 B.2.1 (cM (mX X3 B3.2.1 (.inr (16, dfX16))) ad σ3 (nB B3 1))) _ = _
        rw [init4, Option.bind_some]
        rfl
    · obtain ⟨e, X3, B3, σ4, τ6, kk, p, f1, f2, f3, f4, f5, f6, f7, f8, f9⟩ := hN
      rw [f1, th_r, f2, Option.bind_some, if_pos rfl]
      exact Or.inr ⟨e, X3, B3, σ4, τ6, kk, p, rfl, rfl, f3, f4, f5, f6, (hMF1.tr f7).le (by omega), EF.i31.tr f8, hC6.tr f9.cc (Nat.le_refl _) (Nat.le_refl _)⟩
  · rw [k2, th_r, k3, Option.bind_some, if_pos rfl]
    exact Or.inr ((CNO.pre (MF.rf hA) EF.rf hC5 (Nat.le_refl _) (Nat.le_refl _) (FL.at (R := Nat) (X := X) (m := m) (w := 0) (k := 2) hA hP5 (by decide)).cc).le (by omega))
