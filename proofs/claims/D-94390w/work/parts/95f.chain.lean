set_option maxRecDepth 100000
/-! sums, read: a chain of parts -/
variable {X X' X2 : Nat → Option Ob} {ad : Nat → Nat} {B B' B2 : Sw} {A : Av} {σ σ' σ2 : Cs} {τ τ' : Tw} {F : Nat} {c pl : Nat → Nat} {last j : Nat}
theorem cAt_keep {m w : Nat} (h : ET m w τ τ') : ∀ (Q : Cd) (k : Nat), k + Q.length ≤ m → cAt (vT τ) k Q → cAt (vT τ') k Q
  | [], _, _, _ => trivial
  | p :: Q, k, hk, ⟨x1, x2, x3⟩ => by
    rw [List.length_cons] at hk
    have y := h.2.2.2.1 (500 + k) (by omega)
    exact ⟨y.1.trans x1, y.2.trans x2, cAt_keep h Q (k + 1) (by omega) x3⟩
theorem stk_app {w : Nat} {o : Int32} : ∀ (os : List Int32), stk τ (w + 1) os → τ.2.1 22 w = o → stk τ w (os ++ [o])
  | [], _, h => ⟨h, trivial⟩
  | x :: os, ⟨h1, h2⟩, h => by
    refine ⟨?_, stk_app os h2 h⟩
    show τ.2.1 22 (w + (os ++ [o]).length) = x
    rw [List.length_append]
    show τ.2.1 22 (w + (os.length + 1)) = x
    rw [← h1, show w + (os.length + 1) = w + 1 + os.length by omega]
theorem opC_app {a b : List Int32} : opC (a ++ b) = opC a ++ opC b := List.map_append
theorem opC_len {a : List Int32} : (opC a).length = a.length := List.length_map _
theorem chain (hF : 100000 ≤ F) {d rs r' qa qb : Nat} {G : Sw → Option ((Nat ⊕ Nat) × Sw)} {LC : Nat → Nat → Sw → Option ((Nat ⊕ Nat) × Sw)} {Ps : Nat → List Int32 → Prop} {N : Nat → Prop} {op : Nat → Int32} (hsub : SPEC F c pl last ad d rs G Ps) (hPs : ∀ j os, Ps j os → (∀ o ∈ os, r' ≤ rk o) ∧ N j) (hr : r' ≤ 2) (hop : ∀ q, (q = qa ∨ q = qb) → rk (op q) = r' ∧ r' < rs ∧ SgOp (kT q) (op q) ∧ q < 42 ∧ q ≠ 2 ∧ q ≠ 3)
    (hStop : ∀ (f t : Nat) (X : Nat → Option Ob) (B : Sw) (σ : Cs) (τ : Tw) (j : Nat), AdOK ad B → PK c pl last j σ τ → ¬ (c j = qa ∨ c j = qb) → LC (f + 1) t (cM X ad σ B) = some (.inl t, cM X ad σ B))
    (hGo : ∀ (f t : Nat) (X : Nat → Option Ob) (B : Sw) (σ : Cs) (τ : Tw) (j : Nat), AdOK ad B → PK c pl last j σ τ → (c j = qa ∨ c j = qb) → LC (f + 1) t (cM X ad σ B) = Option.bind (f_X2_go F (ad 6) (cM X ad σ B)) fun q5 => thr q5.1 q5.2 fun x10 => nm (nw q5.2 (.inr (14, dfX14)) 3) fun μ12 => Option.bind (oc μ12 (ad 6) 2) fun u16 => Option.bind (G μ12) fun q14 => thr q14.1 q14.2 fun x19 => Option.bind (f_X14_init F q5.2.2.1 (kT (c j)) t x19 q14.2) fun q21 => LC f q5.2.2.1 q21)
    (hTgo : ∀ (self : Int32 → Int32 → Int32 → Tw → Option (Int32 × Tw)) (v1 : Int32) (σ : Cs) (τ : Tw) (j : Nat), PK c pl last j σ τ → (c j = qa ∨ c j = qb) → N j → ∀ τ3, t_X9_reduce F (Int32.ofNat r') 0 τ = some τ3 → PK c pl last j σ τ3 → t_X9_expr_L21_b F self v1 0 1 τ = Option.bind (t_X9_await F (op (c j)) τ3) fun q6 => Option.bind (t_X9_pass F q6) fun q8 => if q8.1 = 0 then some (0, q8.2) else self v1 1 1 q8.2)
    {m w : Nat} (hX : ATX c pl last ad B σ τ j m w d r') : ∀ (k t : Nat) (X' : Nat → Option Ob) (B' : Sw) (σ' : Cs) (τ' : Tw) (j' : Nat) (Q : Cd) (os : List Int32) (s f : Nat), last - j' ≤ k → k < f → (∀ n, t_X9_expr_L21 F (n + s) (Int32.ofNat d) 1 1 τ = t_X9_expr_L21 F n (Int32.ofNat d) 0 1 τ') → s ≤ 4 * (j' - j) → j < j' → PK c pl last j' σ' τ' → σ'.1 32 = Int32.ofNat d → τ'.1 30 = Int32.ofNat (w + os.length) → τ'.2.1 8 1 = Int32.ofNat (m + Q.length) → cAt (vT τ') m Q → stk τ' w os → TrB B' (j' - j) t (Q ++ opC os) → Q.length + os.length ≤ j' - j → MF ad X B X' B' (2 * (j' - j)) → EF σ σ' → ET m w τ τ' → (∀ o ∈ os, r' ≤ rk o) → N j' → AFT F c pl last ad X B σ τ j m w d (LC f t (cM X' ad σ' B')) (fun j os => (∀ o ∈ os, r' ≤ rk o) ∧ N j ∧ ¬ (c j = qa ∨ c j = qb)) ∨ BAD F last ad X B σ τ j m w d (LC f t (cM X' ad σ' B')) := by
  obtain ⟨hA, hP, h32, h8, h30, hmw, hb, hd⟩ := hX
  have hj := hP.1.1
  intro k
  induction k with
  | zero =>
    intro t X' B' σ' τ' j' Q os s f hk hf a2 a3 a4 a5 a6 a7 a8 a9 a10 a11 a12 a13 a14 a15 a16 a17
    obtain ⟨f, rfl⟩ : ∃ g, f = g + 1 := ⟨f - 1, by omega⟩
    have hA' := a13.1
    have hj' := a5.2.2.2
    by_cases hq : c j' = qa ∨ c j' = qb
    · obtain ⟨o1, o2, o3, o4, o5, o6⟩ := hop _ hq
      obtain ⟨τ3, c1, c2, c3, c4, c5, c6⟩ := red_all (F := F) (r := r') hr os τ' (m + Q.length) w F a7 a8 (by omega) (by omega) a10 a16 (by
        rcases hb with hb | hb
        · exact Or.inl hb
        · by_cases w0 : w = 0
          · exact Or.inl w0
          · refine Or.inr ?_
            rw [a15.2.2.2.2.1 (w - 1) (by omega)]
            exact hb) (by omega)
      have hP3 : PK c pl last j' σ' τ3 := a5.ee EF.rf (c5 0) rfl c3
      have hT := fun self => hTgo self (Int32.ofNat d) σ' τ' j' a5 hq a17 τ3 c1 hP3
      have hP4 : PK c pl last j' σ' (awT τ3 w (op (c j'))) := hP3.ee EF.rf (awT_ET (m := 0) (w := w)) rfl (tsI_n _ _ _ _ (by decide))
      have e40 : j' = 400 := by
        rcases a5.lt o5 o6 with e | e
        · exact e
        · omega
      rcases go_CT (F := F) (X := X') hA' hP4 o5 o6 with ⟨k1, k2, k3⟩ | ⟨k2, k3⟩
      · omega
      · refine Or.inr ⟨s + 1, some (0, tsI (tsI (awT τ3 w (op (c j'))) 8 2) 9 (Int32.ofNat (pl j'))), by omega, fun n => ?_, ?_⟩
        · rw [show n + (s + 1) = (n + 1) + s by omega, a2, L21_s, hT, await_T c2 (by omega), Option.bind_some, k3, Option.bind_some, if_pos rfl]
        · rw [hGo f t X' B' σ' τ' j' hA' a5 hq, k2, th_r]
          have hET : ET m w τ (awT τ3 w (op (c j'))) := (a15.tr (c5 w) (Nat.le_add_right _ _) (Nat.le_refl _)).tr (awT_ET (m := m) (w := w)) (Nat.le_refl _) (Nat.le_refl _)
          exact (FL.pre a13 a14 hET (Nat.le_refl _) (Nat.le_refl _) (FL.at (R := Nat) (X := X') (m := m) (w := w) (k := 2) hA' hP4 (by decide))).le (by omega)
    · exact Or.inl ⟨t, X', B', σ', τ', j', Q, os, s, hStop f t X' B' σ' τ' j' hA' a5 hq, a2, ⟨a3, a4⟩, a5, a6, a7, a8, a9, a10, a11, a12, a13, a14, a15, a16, a17, hq⟩
  | succ k ih =>
    intro t X' B' σ' τ' j' Q os s f hk hf a2 a3 a4 a5 a6 a7 a8 a9 a10 a11 a12 a13 a14 a15 a16 a17
    obtain ⟨f, rfl⟩ : ∃ g, f = g + 1 := ⟨f - 1, by omega⟩
    have hA' := a13.1
    have hj' := a5.2.2.2
    by_cases hq : c j' = qa ∨ c j' = qb
    · obtain ⟨o1, o2, o3, o4, o5, o6⟩ := hop _ hq
      obtain ⟨τ3, c1, c2, c3, c4, c5, c6⟩ := red_all (F := F) (r := r') hr os τ' (m + Q.length) w F a7 a8 (by omega) (by omega) a10 a16 (by
        rcases hb with hb | hb
        · exact Or.inl hb
        · by_cases w0 : w = 0
          · exact Or.inl w0
          · refine Or.inr ?_
            rw [a15.2.2.2.2.1 (w - 1) (by omega)]
            exact hb) (by omega)
      have hP3 : PK c pl last j' σ' τ3 := a5.ee EF.rf (c5 0) rfl c3
      have hT := fun self => hTgo self (Int32.ofNat d) σ' τ' j' a5 hq a17 τ3 c1 hP3
      have hP4 : PK c pl last j' σ' (awT τ3 w (op (c j'))) := hP3.ee EF.rf (awT_ET (m := 0) (w := w)) rfl (tsI_n _ _ _ _ (by decide))
      have hET : ET m w τ (awT τ3 w (op (c j'))) := (a15.tr (c5 w) (Nat.le_add_right _ _) (Nat.le_refl _)).tr (awT_ET (m := m) (w := w)) (Nat.le_refl _) (Nat.le_refl _)
      rcases go_CT (F := F) (X := X') hA' hP4 o5 o6 with ⟨k1, k2, k3⟩ | ⟨k2, k3⟩
      · obtain ⟨σ2, eσ2⟩ : ∃ σ2, σ2 = csI σ' 31 (Int32.ofNat (j' + 1)) := ⟨_, rfl⟩
        obtain ⟨τ4, eτ4⟩ : ∃ τ4, τ4 = tsI (awT τ3 w (op (c j'))) 7 (Int32.ofNat (j' + 1)) := ⟨_, rfl⟩
        have hP5 : PK c pl last (j' + 1) σ2 τ4 := by
          rw [eσ2, eτ4]
          exact hP4.go k1
        have hE2 : EF σ σ2 := by rw [eσ2]; exact a14.tr EF.i31
        have hET4 : ET m w τ τ4 := by rw [eτ4]; exact hET.tr (ET.i7 (m := m) (w := w)) (Nat.le_refl _) (Nat.le_refl _)
        have h34 : ET (m + Q.length + os.length) w τ3 τ4 := by
          rw [eτ4]
          exact ET.tr (awT_ET (m := m + Q.length + os.length) (w := w)) (ET.i7 (m := m + Q.length + os.length) (w := w)) (Nat.le_refl _) (Nat.le_refl _)
        have h22 : τ4.2.1 22 w = op (c j') := by rw [eτ4]; exact awT_at
        have hA2 : AdOK ad (nB B' 3) := nB_ad hA'
        have hX5 : ATX c pl last ad (nB B' 3) σ2 τ4 (j' + 1) (m + Q.length + os.length) (w + 1) d rs := by
          refine ⟨hA2, hP5, ?_, ?_, ?_, by omega, Or.inr ?_, hd⟩
          · rw [eσ2, csI_n _ _ _ _ (by decide)]
            exact a6
          · rw [eτ4]
            exact c4
          · rw [eτ4]
            exact (tsI_n _ _ _ _ (by decide)).trans awT_30
          · rw [Nat.add_sub_cancel, h22]
            omega
        have hMF1 : MF ad X B (mX X' B'.2.1 (.inr (14, dfX14))) (nB B' 3) (2 * (j' - j) + 1) := a13.tr (MF.nb hA' (by decide))
        have stepT : ∀ n, t_X9_expr_L21 F (n + (s + 1)) (Int32.ofNat d) 1 1 τ = t_X9_expr_L21 F n (Int32.ofNat d) 1 1 τ4 := fun n => by
          rw [show n + (s + 1) = (n + 1) + s by omega, a2, L21_s, hT, await_T c2 (by omega), Option.bind_some, k3, Option.bind_some, if_neg (show ¬ (1 : Int32) = 0 by decide), eτ4]
        rw [hGo f t X' B' σ' τ' j' hA' a5 hq, k2, th_l, ← eσ2, nmE, nw_X hA', oc6 hA2, Option.bind_some]
        rcases hsub (mX X' B'.2.1 (.inr (14, dfX14))) (nB B' 3) σ2 τ4 (j' + 1) (m + Q.length + os.length) (w + 1) hX5 with ⟨t2, X2, B2, σ3, τ5, j2, Q2, os2, s2, d1, d2, ⟨d3, d4⟩, d5, d6, d7, d8, d9, d10, d11, d12, d13, d14, d15, d16⟩ | ⟨s2, rr, b1, b2, b3⟩
        · have hno1 : ¬ Own ad (nB B' 3) B'.2.1 := new_no hA' (Nat.le_refl _)
          have hno2 : ¬ Own ad B2 B'.2.1 := d13.no (Nat.lt_succ_self _) hno1
          have hxp : X2 B'.2.1 = some (.inr (14, dfX14)) := (d13.2.2.2.1 B'.2.1 (Nat.lt_succ_self _) hno1).trans mX_s
          have hlt : B'.2.1 < B2.2.1 := Nat.lt_of_lt_of_le (Nat.lt_succ_self _) d13.2.2.2.2.1
          have hBle : B.2.1 ≤ B'.2.1 := a13.2.2.2.2.1
          obtain ⟨n1, n2⟩ := hPs _ _ d16
          have hj2 := d5.2.2.2
          have hMF2 : MF ad X B (mX X2 B'.2.1 (.inr (14, [.int (kT (c j')), .ref t, .ref t2]))) (frB B2 B'.2.1 (.inr (14, [.int (kT (c j')), .ref t, .ref t2]))) (2 * (j' - j) + 1 + 2 * (j2 - (j' + 1))) := (hMF1.tr d13).fr hBle hlt hno2
          have hG2 : Gr B2 (frB B2 B'.2.1 (.inr (14, [.int (kT (c j')), .ref t, .ref t2]))) := fr_gr hno2
          have init : f_X14_init F B'.2.1 (kT (c j')) t t2 (cM X2 ad σ3 B2) = some (cM (mX X2 B'.2.1 (.inr (14, [.int (kT (c j')), .ref t, .ref t2]))) ad σ3 (frB B2 B'.2.1 (.inr (14, [.int (kT (c j')), .ref t, .ref t2])))) := by
            unfold f_X14_init f_J3_init
            rw [Option.bind_some, pf_X hno2 hxp (show 0 < 3 by decide), Option.bind_some, pf_X hno2 mX_s (show 1 < 3 by decide), Option.bind_some, mX_mX, pf_X hno2 mX_s (show 2 < 3 by decide), Option.bind_some, mX_mX]
            exact congrArg some (fr_X hno2 mX_s)
          rw [d1, th_l]
          show AFT F c pl last ad X B σ τ j m w d (Option.bind (f_X14_init F B'.2.1 (kT (c j')) t t2 (cM X2 ad σ3 B2)) fun q21 => LC f B'.2.1 q21) _ ∨ BAD F last ad X B σ τ j m w d (Option.bind (f_X14_init F B'.2.1 (kT (c j')) t t2 (cM X2 ad σ3 B2)) fun q21 => LC f B'.2.1 q21)
          rw [init, Option.bind_some]
          refine ih B'.2.1 _ _ σ3 τ5 j2 (Q ++ opC os ++ Q2) (os2 ++ [op (c j')]) (s + 1 + s2) f (by omega) (by omega) (fun n => ?_) (by omega) (by omega) d5 d6 ?_ ?_ ?_ ?_ ?_ ?_ (hMF2.le (by omega)) (hE2.tr d14) (hET4.tr d15 (by omega) (Nat.le_succ _)) (fun o ho => ?_) n2
          · rw [show n + (s + 1 + s2) = (n + s2) + (s + 1) by omega, stepT, d2]
          · rw [d7, List.length_append]
            show Int32.ofNat (w + 1 + os2.length) = Int32.ofNat (w + (os2.length + 1))
            congr 1
            omega
          · rw [d8, List.length_append, List.length_append, opC_len]
            congr 1
            omega
          · refine cAt_app.2 ⟨cAt_app.2 ⟨?_, ?_⟩, ?_⟩
            · exact cAt_keep d15 _ _ (by omega) (cAt_keep h34 _ _ (by omega) (cAt_keep (c5 0) _ _ (Nat.le_refl _) a9))
            · exact cAt_keep d15 _ _ (by rw [opC_len]; exact Nat.le_refl _) (cAt_keep h34 _ _ (by rw [opC_len]; exact Nat.le_refl _) c6)
            · rw [List.length_append, opC_len, ← Nat.add_assoc]
              exact d9
          · exact stk_app os2 d10 ((d15.2.2.2.2.1 w (Nat.lt_succ_self w)).trans h22)
          · obtain ⟨D, hD⟩ : ∃ D, j2 - j = D + 1 := ⟨j2 - j - 1, by omega⟩
            rw [hD]
            refine Or.inr (Or.inr ⟨kT (c j'), op (c j'), t, t2, Q ++ opC os, Q2 ++ opC os2, o3, fr_at, ?_, ?_, ?_⟩)
            · have hG3 : Gr B' (frB B2 B'.2.1 (.inr (14, [.int (kT (c j')), .ref t, .ref t2]))) := fun a o h => hG2 a o (d13.2.1 a o h)
              exact (a11.gr hG3).up (by omega)
            · exact ((d11.gr hG2).up (by omega))
            · rw [opC_app]
              simp only [List.append_assoc]
              rfl
          · rw [List.length_append, List.length_append, List.length_append, opC_len]
            show Q.length + os.length + Q2.length + (os2.length + 1) ≤ j2 - j
            omega
          · rcases List.mem_append.1 ho with ho | ho
            · exact n1 o ho
            · rw [List.mem_singleton.1 ho, o1]
              exact Nat.le_refl _
        · refine Or.inr ⟨s + 1 + s2, rr, by omega, fun n => ?_, ?_⟩
          · rw [show n + (s + 1 + s2) = (n + s2) + (s + 1) by omega, stepT, b2]
          · obtain ⟨e, X3, B3, σ4, τ6, kk, p, f1, f2, f3, f4, f5, f6, f7, f8, f9⟩ := b3
            rw [f1, th_r]
            exact ⟨e, X3, B3, σ4, τ6, kk, p, rfl, f2, f3, f4, f5, f6, (hMF1.tr f7).le (by omega), hE2.tr f8, hET4.tr f9 (by omega) (Nat.le_succ _)⟩
      · refine Or.inr ⟨s + 1, some (0, tsI (tsI (awT τ3 w (op (c j'))) 8 2) 9 (Int32.ofNat (pl j'))), by omega, fun n => ?_, ?_⟩
        · rw [show n + (s + 1) = (n + 1) + s by omega, a2, L21_s, hT, await_T c2 (by omega), Option.bind_some, k3, Option.bind_some, if_pos rfl]
        · rw [hGo f t X' B' σ' τ' j' hA' a5 hq, k2, th_r]
          exact (FL.pre a13 a14 hET (Nat.le_refl _) (Nat.le_refl _) (FL.at (R := Nat) (X := X') (m := m) (w := w) (k := 2) hA' hP4 (by decide))).le (by omega)
    · exact Or.inl ⟨t, X', B', σ', τ', j', Q, os, s, hStop f t X' B' σ' τ' j' hA' a5 hq, a2, ⟨a3, a4⟩, a5, a6, a7, a8, a9, a10, a11, a12, a13, a14, a15, a16, a17, hq⟩
