set_option maxRecDepth 100000
/-! conditions, read: a relation -/
variable {X X' X2 : Nat → Option Ob} {ad : Nat → Nat} {B B' B2 : Sw} {A : Av} {σ σ' σ2 : Cs} {τ τ' τ2 : Tw} {F : Nat} {c pl : Nat → Nat} {last j : Nat}
/-- nothing that can stand behind a sum there -/
theorem relno_CT {m l t : Nat} {w1 v1 v3 v4 : Int32} {self : Int32 → Int32 → Tw → Option (Int32 × Tw)} (hA : AdOK ad B) (hP : PK c pl last j σ τ) : CNO last ad X B σ τ 1 m l (f_X2_literal_j92 F (ad 6) w1 t 0 (cM X ad σ B)) (t_X9_cond_j140 F self v1 v3 v4 0 τ) := by
  have e1 : f_X2_literal_j92 F (ad 6) w1 t 0 (cM X ad σ B) = some (.inr B.2.1, cM X ad σ (ovl B [fltO 1 (pl j)] 8)) := by
    unfold f_X2_literal_j92
    rw [if_pos rfl, oc6 hA, Option.bind_some, fault_C hA hP, Option.bind_some, oc_flt hA, Option.bind_some]
  have e2 : t_X9_cond_j140 F self v1 v3 v4 0 τ = some (0, tsI (tsI τ 8 1) 9 (Int32.ofNat (pl j))) := by
    unfold t_X9_cond_j140
    rw [if_pos rfl, wrong_T hP, Option.bind_some, if_pos (Or.inl rfl)]
  rw [e1, e2]
  exact (FL.at (R := Nat) (X := X) (m := m) (w := 0) (k := 1) hA hP (by decide)).cc
theorem lit_pre {l : Nat} {v1 : Int32} {self : Int32 → Int32 → Tw → Option (Int32 × Tw)} (h11 : τ.2.1 11 1 = Int32.ofNat l) : t_X9_cond_L14_b F self v1 1 τ = t_X9_cond_L32 F (fun w6 τ7 => Option.bind (t_X9_expr F τ7) fun q8 => if q8.1 = 0 then some (0, q8.2) else Option.bind (tsA q8.2 14 0 400 (Int32.ofNat (200 + l)) (q8.2.1 32)) fun τ12 => Option.bind (taI τ12 8 2 1) fun x13 => Option.bind (tsA τ12 15 0 400 (Int32.ofNat (200 + l)) x13) fun τ16 => Option.bind (t_X9_isSign F 300 τ16) fun q17 => if q17 = 0 then Option.bind (t_X9_isSign F 301 τ16) fun q20 => if q20 = 0 then Option.bind (t_X9_isSign F 302 τ16) fun q23 => if q23 = 0 then Option.bind (t_X9_isSign F 60 τ16) fun q26 => if q26 = 0 then t_X9_cond_j140 F self v1 (Int32.ofNat (200 + l)) w6 0 τ16 else t_X9_cond_j135 F self v1 (Int32.ofNat (200 + l)) w6 τ16 else t_X9_cond_j135 F self v1 (Int32.ofNat (200 + l)) w6 τ16 else t_X9_cond_j135 F self v1 (Int32.ofNat (200 + l)) w6 τ16 else t_X9_cond_j135 F self v1 (Int32.ofNat (200 + l)) w6 τ16) v1 (Int32.ofNat (200 + l)) F 0 τ := by
  have i2 : taI τ 11 2 1 = some (τ.2.1 11 1) := taI_n τ 11 2 1 (by decide) (by decide)
  unfold t_X9_cond_L14_b
  rw [if_neg (by decide), i2, Option.bind_some, h11, nmE, n_pl]
/-- the first sum's code, noted in the row -/
def rfT (τ : Tw) (l f0 e : Nat) : Tw := twA (twA τ 14 (upd (τ.2.1 14) (200 + l) (Int32.ofNat f0))) 15 (upd (τ.2.1 15) (200 + l) (Int32.ofNat e))
theorem rfT_CX {m l f0 e : Nat} : CX m l τ (rfT τ l f0 e) := CX.tr (CX.lit (by decide) (by decide) (Nat.le_refl _)) (CX.lit (r := 15) (τ := twA τ 14 (upd (τ.2.1 14) (200 + l) (Int32.ofNat f0))) (by decide) (by decide) (Nat.le_refl _)) (Nat.le_refl _) (Nat.le_refl _)
theorem rf_T {l f0 e : Nat} (h32 : τ.1 32 = Int32.ofNat f0) (h8 : τ.2.1 8 1 = Int32.ofNat e) (hl : l < 200) {K : Tw → Option (Int32 × Tw)} : (Option.bind (tsA τ 14 0 400 (Int32.ofNat (200 + l)) (τ.1 32)) fun τ12 => Option.bind (taI τ12 8 2 1) fun x13 => Option.bind (tsA τ12 15 0 400 (Int32.ofNat (200 + l)) x13) fun τ16 => K τ16) = K (rfT τ l f0 e) := by
  have i1 : ∀ τ : Tw, taI τ 8 2 1 = some (τ.2.1 8 1) := fun τ => taI_n τ 8 2 1 (by decide) (by decide)
  rw [h32, tsA_n τ 14 0 400 _ _ (show 200 + l < 400 by omega) (by decide), Option.bind_some, i1, Option.bind_some]
  have e1 : ∀ f, (twA τ 14 f).2.1 8 1 = Int32.ofNat e := fun f => h8
  rw [e1, tsA_n _ 15 0 400 _ _ (show 200 + l < 400 by omega) (by decide), Option.bind_some]
  rfl
theorem rfT_at {l f0 e : Nat} : (rfT τ l f0 e).2.1 14 (200 + l) = Int32.ofNat f0 ∧ (rfT τ l f0 e).2.1 15 (200 + l) = Int32.ofNat e := ⟨(show upd (τ.2.1 14) (200 + l) (Int32.ofNat f0) (200 + l) = _ from up_s _ _ _), (show upd (τ.2.1 15) (200 + l) (Int32.ofNat e) (200 + l) = _ from up_s _ _ _)⟩
