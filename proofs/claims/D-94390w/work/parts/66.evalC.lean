set_option maxRecDepth 100000
variable {X : Nat → Option Ob}
/-! the component's laws -/
theorem csA_csA (σ : Cs) (r : Nat) (f g : Nat → Int32) : csA (csA σ r f) r g = csA σ r g := by
  refine Prod.ext rfl (Prod.ext (funext fun q => ?_) rfl)
  show (if q = r then g else if q = r then f else σ.2.1 q) = if q = r then g else σ.2.1 q
  by_cases h : q = r
  · rw [if_pos h, if_pos h]
  · rw [if_neg h, if_neg h, if_neg h]
theorem csA_self (σ : Cs) (r : Nat) : csA σ r (σ.2.1 r) = σ := by
  refine Prod.ext rfl (Prod.ext (funext fun q => ?_) rfl)
  show (if q = r then σ.2.1 r else σ.2.1 q) = σ.2.1 q
  by_cases h : q = r
  · rw [if_pos h, h]
  · rw [if_neg h]
section EVC
variable {ad : Nat → Nat} {B : Sw}
theorem clear_C {F : Nat} (hF : 100 ≤ F) (hA : AdOK ad B) (σ : Cs) : ∃ g, f_X7_clear F (ad 10) (cM X ad σ B) = some (cM X ad (csA σ 11 g) B) ∧ ∀ j, j < 9 → g j = 0 := by
  unfold f_X7_clear
  refine for_up (L := f_X7_clear_L2 F (ad 10)) (N := 9) (Inv := fun k s => ∃ g, s = cM X ad (csA σ 11 g) B ∧ ∀ j, j < k → g j = 0) (Post := fun r => ∃ g, r = some (cM X ad (csA σ 11 g) B) ∧ ∀ j, j < 9 → g j = 0) ?_ ?_ 9 0 F _ rfl (by omega) ⟨σ.2.1 11, by rw [csA_self], fun j hj => absurd hj (Nat.not_lt_zero j)⟩
  · intro n k s hk ⟨g, e, hg⟩
    subst e
    refine Or.inl ⟨cM X ad (csA σ 11 (upd g k 0)) B, ⟨_, rfl, fun j hj => ?_⟩, ?_⟩
    · by_cases h : j = k
      · rw [h, up_s]
      · rw [up_n _ _ _ _ h]
        exact hg j (by omega)
    · show f_X7_clear_L2_b F (ad 10) (f_X7_clear_L2 F (ad 10) n) (Int32.ofNat k) _ = _
      unfold f_X7_clear_L2_b
      simp (disch := omega) only [Option.bind_some, Option.bind_none, nmE, n_pp, n_pl, n_lp, n_mm, n_ml, n_lm, csI_s, csI_n, csI_2, csA_1, csA_s, csA_n, csA_2, csL_1, csL_2, csL_s, csL_n, csL_3, csQ_1, csQ_2, csQ_3, csQ_s, csQ_n, nar0, c_le, c_le_l, c_le_r, c_lt, c_lt_l, c_lt_r, c_eq, c_eq_l, c_eq_r, if_true, if_false, if_pos, if_neg, o10_0 hA, n11 hA, s11 hA, csA_csA]
  · intro n s ⟨g, e, hg⟩
    subst e
    show ∃ h, f_X7_clear_L2_b F (ad 10) (f_X7_clear_L2 F (ad 10) n) (Int32.ofNat 9) _ = _ ∧ _
    unfold f_X7_clear_L2_b
    simp (disch := omega) only [Option.bind_some, Option.bind_none, nmE, n_pp, n_pl, n_lp, n_mm, n_ml, n_lm, csI_s, csI_n, csI_2, csA_1, csA_s, csA_n, csA_2, csL_1, csL_2, csL_s, csL_n, csL_3, csQ_1, csQ_2, csQ_3, csQ_s, csQ_n, nar0, c_le, c_le_l, c_le_r, c_lt, c_lt_l, c_lt_r, c_eq, c_eq_l, c_eq_r, if_true, if_false, if_pos, if_neg, o10_0 hA, n11 hA]
    exact ⟨g, rfl, hg⟩
theorem TB.tw {A : Av} (hB : TB ad B A) : ∀ σ : Cs, gfR (cM X ad σ B) (ad 114) 3 0 = some (ad 115) ∧ gfR (cM X ad σ B) (ad 114) 3 1 = some (ad 116) ∧ gfR (cM X ad σ B) (ad 114) 3 2 = some (ad 117) ∧ gfR (cM X ad σ B) (ad 114) 3 3 = some (ad 118) ∧ gfR (cM X ad σ B) (ad 114) 3 4 = some (ad 119) ∧ gfR (cM X ad σ B) (ad 114) 3 5 = some (ad 120) ∧ gfI (cM X ad σ B) (ad 114) 3 6 = some (A 6 1) ∧ gfR (cM X ad σ B) (ad 114) 3 9 = some (ad 122) ∧ gfI (cM X ad σ B) (ad 114) 3 10 = some (A 6 4) ∧ gfI (cM X ad σ B) (ad 114) 3 11 = some (A 6 6) ∧ gfI (cM X ad σ B) (ad 114) 3 12 = some (A 6 7) ∧ gfR (cM X ad σ B) (ad 114) 3 13 = some (ad 123) ∧ gfR (cM X ad σ B) (ad 114) 3 14 = some (ad 124) ∧ gfR (cM X ad σ B) (ad 114) 3 15 = some (ad 125) := fun σ =>
  have h := hB.1
  ⟨F_gR h rfl, F_gR h rfl, F_gR h rfl, F_gR h rfl, F_gR h rfl, F_gR h rfl, F_gI h rfl, F_gR h rfl, F_gI h rfl, F_gI h rfl, F_gI h rfl, F_gR h rfl, F_gR h rfl, F_gR h rfl⟩
/-- houses, stairs, wood -/
theorem TB.hs {A : Av} (hB : TB ad B A) (F : Nat) {h : Nat} (hh : h < zN A 6 0) : ∀ σ : Cs, f_J2_get F (ad 115) (Int32.ofNat h) (cM X ad σ B) = some (ad (1000 + h)) ∧ oc (cM X ad σ B) (ad (1000 + h)) 11 = some () ∧ gfI (cM X ad σ B) (ad (1000 + h)) 11 0 = some (sX A h) ∧ gfI (cM X ad σ B) (ad (1000 + h)) 11 1 = some (A 6 (20 + 3 * h + 1)) ∧ gfI (cM X ad σ B) (ad (1000 + h)) 11 2 = some (sLd A h) := fun σ =>
  have e := hB.2.1.2 h hh
  ⟨F_get hB.2.1.1 hh, F_oc e, F_gI e rfl, F_gI e rfl, F_gI e rfl⟩
theorem TB.hn {A : Av} (hB : TB ad B A) (F : Nat) : ∀ σ : Cs, oc (cM X ad σ B) (ad 115) 20 = some () ∧ f_J2_size F (ad 115) (cM X ad σ B) = some (Int32.ofNat (zN A 6 0)) := fun _ => ⟨F_ocL hB.2.1.1, F_size hB.2.1.1⟩
theorem TB.ss {A : Av} (hB : TB ad B A) (F : Nat) {s : Nat} (hs : s < zN A 6 3) : ∀ σ : Cs, f_J2_get F (ad 116) (Int32.ofNat s) (cM X ad σ B) = some (ad (1100 + s)) ∧ oc (cM X ad σ B) (ad (1100 + s)) 12 = some () ∧ gfI (cM X ad σ B) (ad (1100 + s)) 12 0 = some (A 6 (120 + 3 * s)) ∧ gfI (cM X ad σ B) (ad (1100 + s)) 12 1 = some (A 6 (120 + 3 * s + 1)) ∧ gfI (cM X ad σ B) (ad (1100 + s)) 12 2 = some (A 6 (120 + 3 * s + 2)) := fun σ =>
  have e := hB.2.2.1.2 s hs
  ⟨F_get hB.2.2.1.1 hs, F_oc e, F_gI e rfl, F_gI e rfl, F_gI e rfl⟩
theorem TB.sn {A : Av} (hB : TB ad B A) (F : Nat) : ∀ σ : Cs, oc (cM X ad σ B) (ad 116) 20 = some () ∧ f_J2_size F (ad 116) (cM X ad σ B) = some (Int32.ofNat (zN A 6 3)) := fun _ => ⟨F_ocL hB.2.2.1.1, F_size hB.2.2.1.1⟩
theorem TB.ws {A : Av} (hB : TB ad B A) (F : Nat) {w : Nat} (hw : w < zN A 6 5) : ∀ σ : Cs, f_J2_get F (ad 117) (Int32.ofNat w) (cM X ad σ B) = some (ad (1200 + w)) ∧ oc (cM X ad σ B) (ad (1200 + w)) 13 = some () ∧ gfI (cM X ad σ B) (ad (1200 + w)) 13 0 = some (A 6 (170 + 2 * w)) ∧ gfI (cM X ad σ B) (ad (1200 + w)) 13 1 = some (A 6 (170 + 2 * w + 1)) := fun σ =>
  have e := hB.2.2.2.1.2 w hw
  ⟨F_get hB.2.2.2.1.1 hw, F_oc e, F_gI e rfl, F_gI e rfl⟩
theorem TB.wn {A : Av} (hB : TB ad B A) (F : Nat) : ∀ σ : Cs, oc (cM X ad σ B) (ad 117) 20 = some () ∧ f_J2_size F (ad 117) (cM X ad σ B) = some (Int32.ofNat (zN A 6 5)) := fun _ => ⟨F_ocL hB.2.2.2.1.1, F_size hB.2.2.2.1.1⟩
theorem TB.ro {A : Av} (hB : TB ad B A) {o : Nat} (ho : o < zN A 6 1) (ho2 : o < 12) : ∀ σ : Cs, aI (cM X ad σ B) 0 (ad 120) (Int32.ofNat o) = some (A 6 (70 + o)) := fun σ => by
  obtain ⟨f, h1, h2⟩ := hB.2.2.2.2.2.2.1
  rw [F_aI h1 ho2 (by decide), h2 o ho]
theorem rankOf_C {F h : Nat} {A : Av} (hE : EV ad B A) (σ : Cs) (hC : CR ad B A σ) (hh : h < 16) : f_X0_rankOf F (ad 0) (Int32.ofNat h) (cM X ad σ B) = some (sRk A h) := by
  obtain ⟨hA, hB, hW⟩ := hE
  unfold f_X0_rankOf sRk
  simp (disch := omega) only [Option.bind_some, Option.bind_none, nmE, n_pp, n_pl, n_lp, n_mm, n_ml, n_lm, csI_s, csI_n, csI_2, csA_1, csA_s, csA_n, csA_2, csL_1, csL_2, csL_s, csL_n, csL_3, csQ_1, csQ_2, csQ_3, csQ_s, csQ_n, nar0, c_le, c_le_l, c_le_r, c_lt, c_lt_l, c_lt_r, c_eq, c_eq_l, c_eq_r, if_true, if_false, if_pos, if_neg, o0_4 hA, o46_1 hA, a48 hA, hC.2.2.2.2.1]
  rcases hW.held hh with e | ⟨e, h1, h2, -⟩
  · rw [if_pos e, if_pos rfl, if_pos e]
  · have n2 : ¬ A 7 (30 + h) = -2 := by rw [e]; exact ofNat_ne_m2 (by omega)
    have n1 : ¬ A 7 (30 + h) = -1 := by rw [e]; exact ofNat_ne_m1 (by omega)
    rw [if_neg n2, if_neg n1, if_neg n2]
    simp (disch := omega) only [Option.bind_some, Option.bind_none, nmE, n_pp, n_pl, n_lp, n_mm, n_ml, n_lm, csI_s, csI_n, csI_2, csA_1, csA_s, csA_n, csA_2, csL_1, csL_2, csL_s, csL_n, csL_3, csQ_1, csQ_2, csQ_3, csQ_s, csQ_n, nar0, c_le, c_le_l, c_le_r, c_lt, c_lt_l, c_lt_r, c_eq, c_eq_l, c_eq_r, if_true, if_false, if_pos, if_neg, o0_4 hA, o46_1 hA, a48 hA, hC.2.2.2.2.1, o0_3 hA, hB.tw]
    rw [e]
    simp (disch := omega) only [Option.bind_some, Option.bind_none, nmE, n_pp, n_pl, n_lp, n_mm, n_ml, n_lm, csI_s, csI_n, csI_2, csA_1, csA_s, csA_n, csA_2, csL_1, csL_2, csL_s, csL_n, csL_3, csQ_1, csQ_2, csQ_3, csQ_s, csQ_n, nar0, c_le, c_le_l, c_le_r, c_lt, c_lt_l, c_lt_r, c_eq, c_eq_l, c_eq_r, if_true, if_false, if_pos, if_neg, hB.ro h1 (by omega)]
theorem look_C {F h : Nat} {A : Av} (hF : 1000 ≤ F) (hE : EV ad B A) (σ : Cs) (hC : CR ad B A σ) (hh : h < zN A 6 0) : ∃ g, f_X0_look F (ad 0) (Int32.ofNat h) (cM X ad σ B) = some (cM X ad (csA σ 11 g) B) ∧ ∀ j, j < 9 → g j = (if j = 0 then sHt A h else if j = 1 then sRk A h else if j = 2 then sLd A h else if j = 3 then sX A h else 0) := by
  have hh16 : h < 16 := Nat.lt_of_lt_of_le hh hE.2.2.1.1.1.2
  have hE' := hE
  obtain ⟨hA, hB, hW⟩ := hE
  unfold f_X0_look
  obtain ⟨g, e, hg⟩ := clear_C (X := X) (F := F) (by omega) hA σ
  simp (disch := omega) only [Option.bind_some, Option.bind_none, nmE, n_pp, n_pl, n_lp, n_mm, n_ml, n_lm, csI_s, csI_n, csI_2, csA_1, csA_s, csA_n, csA_2, csL_1, csL_2, csL_s, csL_n, csL_3, csQ_1, csQ_2, csQ_3, csQ_s, csQ_n, nar0, c_le, c_le_l, c_le_r, c_lt, c_lt_l, c_lt_r, c_eq, c_eq_l, c_eq_r, if_true, if_false, if_pos, if_neg, o0_6 hA, oc10 hA, e, o10_0 hA, o0_4 hA, o46_0 hA, a47 hA, hC.2.2.2.1, sl11 hA, csA_csA, oc0 hA]
  rw [rankOf_C hE' _ (hC.a rfl) hh16]
  simp (disch := omega) only [Option.bind_some, Option.bind_none, nmE, n_pp, n_pl, n_lp, n_mm, n_ml, n_lm, csI_s, csI_n, csI_2, csA_1, csA_s, csA_n, csA_2, csL_1, csL_2, csL_s, csL_n, csL_3, csQ_1, csQ_2, csQ_3, csQ_s, csQ_n, nar0, c_le, c_le_l, c_le_r, c_lt, c_lt_l, c_lt_r, c_eq, c_eq_l, c_eq_r, if_true, if_false, if_pos, if_neg, o0_6 hA, o10_0 hA, sl11 hA, csA_csA, o0_3 hA, hB.tw, hB.hn F, hB.hs F hh]
  refine ⟨_, rfl, fun j hj => ?_⟩
  unfold upd
  by_cases h3 : j = 3
  · subst h3; rfl
  by_cases h2 : j = 2
  · subst h2; rfl
  by_cases h1 : j = 1
  · subst h1; rfl
  by_cases h0 : j = 0
  · subst h0; rfl
  simp [h0, h1, h2, h3, hg j hj]
theorem held_C {F : Nat} (x : Int32) : p_X0_held F x 99 = some (hold x) := by
  unfold p_X0_held hold mx mn
  by_cases h : x < 0
  · have h2 : ¬ (0 : Int32) ≤ x := Int32.not_le.mpr h
    rw [if_pos h, if_neg h2]
    rfl
  · have h2 : (0 : Int32) ≤ x := Int32.not_lt.mp h
    rw [if_neg h, if_pos h2]
    by_cases h3 : x ≤ 99
    · have h4 : ¬ (99 : Int32) < x := Int32.not_lt.mpr h3
      rw [if_pos h3, if_neg h4]
    · have h4 : (99 : Int32) < x := Int32.not_le.mp h3
      rw [if_neg h3, if_pos h4]
theorem says_C {F w : Nat} {A : Av} {σ : Cs} {t : Nat} {c0 : Int32 × Int32} {env : Nat → Int32} {oth : Int32} (hA : AdOK ad B) (hC : CR ad B A σ) (hL : LawB A B t w c0) (h0 : ∀ st, ev env [c0] st = some (oth :: st)) (he : ∀ j, j < 9 → σ.2.1 11 j = env j) : ∃ b, f_X7_says F (ad 10) t 99 (cM X ad σ B) = some (sSay A w oth env, cM X ad (csI σ 41 b) B) := by
  unfold f_X7_says
  rw [p10_1 hA, Option.bind_some]
  obtain ⟨d, c, h1, h2, h3⟩ := hL
  obtain ⟨v, σ1, e1, h4⟩ := value_C (X := X) (F := F) hA d 410 t c (csI σ 41 0) h1 h2 he
  rw [e1, Option.bind_some, o10_1 hA, Option.bind_some]
  have hv : ∀ r : Int32, (vl env c).getD 0 = r → sSay A w oth env = hold r := by
    intro r hr
    rcases h3 with ⟨q1, q2⟩ | ⟨f0, q1, q2, q3, q4⟩
    · rw [sSay_n q1, ← hr, q2, vl_s h0]
      rfl
    · rw [sSay_s q1 q2 q3 q4, hr]
  rcases h4 with ⟨e, h5⟩ | ⟨e, h5⟩
  · subst e
    rw [csI_s, if_pos rfl, held_C, hv v (by rw [vl_s h5]; rfl)]
    exact ⟨0, rfl⟩
  · subst e
    rw [csI_s, if_neg (by decide), csI_csI, hv 0 (by rw [vl_n h5]; rfl)]
    exact ⟨1, rfl⟩
theorem dueOf_C {F h : Nat} {A : Av} {σ : Cs} (hF : 1000 ≤ F) (hE : EV ad B A) (hC : CR ad B A σ) (hh : h < zN A 6 0) : ∃ σ', f_X0_dueOf F (ad 0) (Int32.ofNat h) (cM X ad σ B) = some (sDue A h, cM X ad σ' B) ∧ ∃ g b, σ' = csI (csA σ 11 g) 41 b := by
  have hE' := hE
  obtain ⟨hA, hB, hW⟩ := hE
  unfold f_X0_dueOf
  obtain ⟨g, e, hg⟩ := look_C (X := X) (F := F) hF hE' σ hC hh
  simp (disch := omega) only [Option.bind_some, Option.bind_none, nmE, n_pp, n_pl, n_lp, n_mm, n_ml, n_lm, csI_s, csI_n, csI_2, csA_1, csA_s, csA_n, csA_2, csL_1, csL_2, csL_s, csL_n, csL_3, csQ_1, csQ_2, csQ_3, csQ_s, csQ_n, nar0, c_le, c_le_l, c_le_r, c_lt, c_lt_l, c_lt_r, c_eq, c_eq_l, c_eq_r, if_true, if_false, if_pos, if_neg, oc0 hA, e, o0_6 hA, o10_0 hA, sl11 hA, csA_csA, o0_3 hA, hB.tw, oc10 hA]
  obtain ⟨b, e2⟩ := says_C (X := X) (F := F) (w := 1) (σ := csA σ 11 (upd g 0 0)) (env := envD A h) (oth := sRk A h) hA (hC.a rfl) hB.2.2.2.2.2.2.2.2.2.1 (fun st => rfl) (fun j hj => by
    rw [csA_s]
    unfold envD upd
    by_cases h0 : j = 0
    · subst h0; rfl
    rw [if_neg h0, hg j hj, if_neg h0])
  rw [e2]
  exact ⟨_, rfl, _, _, rfl⟩
theorem tideAt_C {F : Nat} {A : Av} {σ : Cs} {hour : Int32} (hF : 1000 ≤ F) (hE : EV ad B A) (hC : CR ad B A σ) : ∃ σ', f_X0_tideAt F (ad 0) hour (cM X ad σ B) = some (sTide A hour, cM X ad σ' B) ∧ ∃ g b, σ' = csI (csA σ 11 g) 41 b := by
  obtain ⟨hA, hB, hW⟩ := hE
  unfold f_X0_tideAt
  obtain ⟨g, e, hg⟩ := clear_C (X := X) (F := F) (by omega) hA σ
  simp (disch := omega) only [Option.bind_some, Option.bind_none, nmE, n_pp, n_pl, n_lp, n_mm, n_ml, n_lm, csI_s, csI_n, csI_2, csA_1, csA_s, csA_n, csA_2, csL_1, csL_2, csL_s, csL_n, csL_3, csQ_1, csQ_2, csQ_3, csQ_s, csQ_n, nar0, c_le, c_le_l, c_le_r, c_lt, c_lt_l, c_lt_r, c_eq, c_eq_l, c_eq_r, if_true, if_false, if_pos, if_neg, oc10 hA, e, o0_6 hA, o10_0 hA, sl11 hA, csA_csA, o0_3 hA, o0_4 hA, o46_3 hA, hC.1.2.2.2.2, hB.tw]
  obtain ⟨b, e2⟩ := says_C (X := X) (F := F) (w := 0) (σ := csA σ 11 (upd (upd g 4 hour) 5 (A 7 0))) (env := envT A hour) (oth := 0) hA (hC.a rfl) hB.2.2.2.2.2.2.2.2.1 (fun st => rfl) (fun j hj => by
    rw [csA_s]
    unfold envT upd
    by_cases h5 : j = 5
    · subst h5; rfl
    by_cases h4 : j = 4
    · subst h4; rfl
    rw [if_neg h5, if_neg h4, if_neg h4, if_neg h5, hg j hj])
  rw [e2]
  exact ⟨_, rfl, _, _, rfl⟩
theorem swayOf_C {F h : Nat} {A : Av} {σ : Cs} {wind : Int32} (hF : 1000 ≤ F) (hE : EV ad B A) (hC : CR ad B A σ) (hh : h < zN A 6 0) : ∃ σ', f_X0_swayOf F (ad 0) (Int32.ofNat h) wind (cM X ad σ B) = some (sSway A h wind, cM X ad σ' B) ∧ ∃ g b, σ' = csI (csA σ 11 g) 41 b ∧ ∀ j, j < 9 → g j = envL A h wind j := by
  have hE' := hE
  obtain ⟨hA, hB, hW⟩ := hE
  unfold f_X0_swayOf
  obtain ⟨g, e, hg⟩ := look_C (X := X) (F := F) hF hE' σ hC hh
  simp (disch := omega) only [Option.bind_some, Option.bind_none, nmE, n_pp, n_pl, n_lp, n_mm, n_ml, n_lm, csI_s, csI_n, csI_2, csA_1, csA_s, csA_n, csA_2, csL_1, csL_2, csL_s, csL_n, csL_3, csQ_1, csQ_2, csQ_3, csQ_s, csQ_n, nar0, c_le, c_le_l, c_le_r, c_lt, c_lt_l, c_lt_r, c_eq, c_eq_l, c_eq_r, if_true, if_false, if_pos, if_neg, oc0 hA, oc10 hA, e, o0_6 hA, o10_0 hA, sl11 hA, csA_csA, o0_3 hA, o0_4 hA, o46_3 hA, hC.1.2.2.2.2, hB.tw]
  have hg2 : ∀ j, j < 9 → upd (upd g 5 (A 7 0)) 6 wind j = envL A h wind j := fun j hj => by
    unfold envL upd
    by_cases h6 : j = 6
    · subst h6; rfl
    by_cases h5 : j = 5
    · subst h5; rfl
    rw [if_neg h6, if_neg h5, hg j hj, if_neg h5, if_neg h6]
  obtain ⟨b, e2⟩ := says_C (X := X) (F := F) (w := 2) (σ := csA σ 11 (upd (upd g 5 (A 7 0)) 6 wind)) (env := envL A h wind) (oth := 0) hA (hC.a rfl) hB.2.2.2.2.2.2.2.2.2.2 (fun st => rfl) (fun j hj => by rw [csA_s]; exact hg2 j hj)
  rw [e2]
  exact ⟨_, rfl, _, _, rfl, hg2⟩
end EVC
