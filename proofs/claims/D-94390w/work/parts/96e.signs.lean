set_option maxRecDepth 100000
/-! conditions, read: which relation -/
variable {X X' X2 : Nat → Option Ob} {ad : Nat → Nat} {B B' B2 : Sw} {A : Av} {σ σ' σ2 : Cs} {τ τ' τ2 : Tw} {F : Nat} {c pl : Nat → Nat} {last j : Nat}
theorem rsg_C (hA : AdOK ad B) (hP : PK c pl last j σ τ) {w1 : Int32} {t : Nat} : (Option.bind (oc (cM X ad σ B) (ad 6) 2) fun u12 => Option.bind (f_X2_is F (ad 6) 101 (cM X ad σ B)) fun q10 => if q10 = 0 then Option.bind (oc (cM X ad σ B) (ad 6) 2) fun u17 => Option.bind (f_X2_is F (ad 6) 110 (cM X ad σ B)) fun q15 => if q15 = 0 then Option.bind (oc (cM X ad σ B) (ad 6) 2) fun u22 => Option.bind (f_X2_is F (ad 6) 60 (cM X ad σ B)) fun q20 => if q20 = 0 then Option.bind (oc (cM X ad σ B) (ad 6) 2) fun u27 => Option.bind (f_X2_is F (ad 6) 109 (cM X ad σ B)) fun q25 => if q25 = 0 then f_X2_literal_j92 F (ad 6) w1 t 0 (cM X ad σ B) else f_X2_literal_j92 F (ad 6) w1 t 109 (cM X ad σ B) else f_X2_literal_j92 F (ad 6) w1 t 60 (cM X ad σ B) else f_X2_literal_j92 F (ad 6) w1 t 33 (cM X ad σ B) else f_X2_literal_j92 F (ad 6) w1 t 61 (cM X ad σ B)) = f_X2_literal_j92 F (ad 6) w1 t (if c j = 13 then 61 else if c j = 14 then 33 else if c j = 10 then 60 else if c j = 15 then 109 else 0) (cM X ad σ B) := by
  have i13 := is_CC (X := X) (F := F) hA hP (q := 13) (by decide)
  have i14 := is_CC (X := X) (F := F) hA hP (q := 14) (by decide)
  have i10 := is_CC (X := X) (F := F) hA hP (q := 10) (by decide)
  have i15 := is_CC (X := X) (F := F) hA hP (q := 15) (by decide)
  rw [show kT 13 = 101 from rfl] at i13
  rw [show kT 14 = 110 from rfl] at i14
  rw [show kT 10 = 60 from rfl] at i10
  rw [show kT 15 = 109 from rfl] at i15
  have o := oc6 (X := X) hA σ
  simp only [o, i13, i14, i10, i15, Option.bind_some]
  by_cases e13 : c j = 13
  · rw [if_pos e13, if_pos e13, if_neg (by decide)]
  · rw [if_neg e13, if_neg e13, if_pos rfl]
    by_cases e14 : c j = 14
    · rw [if_pos e14, if_pos e14, if_neg (by decide)]
    · rw [if_neg e14, if_neg e14, if_pos rfl]
      by_cases e10 : c j = 10
      · rw [if_pos e10, if_pos e10, if_neg (by decide)]
      · rw [if_neg e10, if_neg e10, if_pos rfl]
        by_cases e15 : c j = 15
        · rw [if_pos e15, if_pos e15, if_neg (by decide)]
        · rw [if_neg e15, if_neg e15, if_pos rfl]
theorem rsg_T (hP : PK c pl last j σ τ) {self : Int32 → Int32 → Tw → Option (Int32 × Tw)} {v1 v3 v4 : Int32} : (Option.bind (t_X9_isSign F 300 τ) fun q17 => if q17 = 0 then Option.bind (t_X9_isSign F 301 τ) fun q20 => if q20 = 0 then Option.bind (t_X9_isSign F 302 τ) fun q23 => if q23 = 0 then Option.bind (t_X9_isSign F 60 τ) fun q26 => if q26 = 0 then t_X9_cond_j140 F self v1 v3 v4 0 τ else t_X9_cond_j135 F self v1 v3 v4 τ else t_X9_cond_j135 F self v1 v3 v4 τ else t_X9_cond_j135 F self v1 v3 v4 τ else t_X9_cond_j135 F self v1 v3 v4 τ) = t_X9_cond_j140 F self v1 v3 v4 (if c j = 13 ∨ c j = 14 ∨ c j = 15 ∨ c j = 10 then 1 else 0) τ := by
  have i13 := sign_TT (F := F) hP (q := 13) (by decide)
  have i14 := sign_TT (F := F) hP (q := 14) (by decide)
  have i15 := sign_TT (F := F) hP (q := 15) (by decide)
  have i10 := sign_TT (F := F) hP (q := 10) (by decide)
  rw [show wT 13 = 300 from rfl] at i13
  rw [show wT 14 = 301 from rfl] at i14
  rw [show wT 15 = 302 from rfl] at i15
  rw [show wT 10 = 60 from rfl] at i10
  have jj : t_X9_cond_j135 F self v1 v3 v4 τ = t_X9_cond_j140 F self v1 v3 v4 1 τ := rfl
  simp only [i13, i14, i10, i15, Option.bind_some, jj]
  by_cases e13 : c j = 13
  · rw [if_pos e13, if_neg (by decide), if_pos (Or.inl e13)]
  · rw [if_neg e13, if_pos rfl]
    by_cases e14 : c j = 14
    · rw [if_pos e14, if_neg (by decide), if_pos (Or.inr (Or.inl e14))]
    · rw [if_neg e14, if_pos rfl]
      by_cases e15 : c j = 15
      · rw [if_pos e15, if_neg (by decide), if_pos (Or.inr (Or.inr (Or.inl e15)))]
      · rw [if_neg e15, if_pos rfl]
        by_cases e10 : c j = 10
        · rw [if_pos e10, if_neg (by decide), if_pos (Or.inr (Or.inr (Or.inr e10)))]
        · rw [if_neg e10, if_pos rfl, if_neg (by omega)]
