set_option maxRecDepth 100000
/-! the reading's begin: an empty town on both sides -/
variable {X X' X2 : Nat → Option Ob} {ad ad' : Nat → Nat} {B B' B2 : Sw} {A A' : Av} {σ σ' σ2 : Cs} {τ τ' τ2 : Tw} {F : Nat} {c pl : Nat → Nat} {last j : Nat}
def a130 (ad : Nat → Nat) (t : Nat) : Nat → Nat := fun r => if r = 130 then t else ad r
theorem a130_n {t r : Nat} (h : r ≠ 130) : a130 ad t r = ad r := if_neg h
theorem AdOK.lo (h : AdOK ad B) (e : ∀ i, i < 114 → ad' i = ad i) : AdOK ad' B := by
  refine ⟨fun r r' a b q z => ?_, fun r a b d => ?_, fun r a => ?_, h.2.2.2⟩
  · rw [e r a] at q z
    rw [e r' b] at z
    exact h.1 r r' a b q z
  · rw [e r a]
    exact h.2.1 r a b d
  · rw [e r a]
    exact h.2.2.1 r a
theorem Own.lo (e : ∀ i, i < 114 → ad' i = ad i) {a : Nat} : Own ad' B a ↔ Own ad B a := by
  constructor
  · rintro (h | ⟨r, x, y⟩)
    · exact Or.inl h
    · exact Or.inr ⟨r, x, by rw [← e r x]; exact y⟩
  · rintro (h | ⟨r, x, y⟩)
    · exact Or.inl h
    · exact Or.inr ⟨r, x, by rw [e r x]; exact y⟩
theorem cB_130 {t i : Nat} (hl : i < 114) (h6 : i ≠ 6) : cB (a130 ad t) σ i = cB ad σ i := by
  by_cases h0 : (cK σ i).1 = 0
  · rw [cB_o h0, cB_o h0]
    have g : cO (a130 ad t) σ i = cO ad σ i := by
      rcases kind0 hl h0 with e | e | e | e | e | e | e | e | e
      · subst e; rfl
      · subst e; rfl
      · exact absurd e h6
      · subst e; rfl
      · subst e; rfl
      · subst e; rfl
      · subst e; rfl
      · subst e; rfl
      · rw [cO_54 e, cO_54 e, a130_n (by omega), a130_n (by omega)]
    rw [g]
  · unfold cB
    rw [if_neg h0, if_neg h0]
/-- the reader's town is another one -/
theorem p6_5 (hA : AdOK ad B) {t : Nat} : pf (cM X ad σ B) (ad 6) 2 5 (.ref t) = some (cM X (a130 ad (t + 1)) σ B) := by
  have lo : ∀ i, i < 114 → a130 ad (t + 1) i = ad i := fun i hi => a130_n (by omega)
  have hb6 : B.1 (ad 6) = none := hA.2.1 6 (by decide) (by decide) (by decide)
  have h6 : (cM X ad σ B).1 (ad 6) = some (.inr (cO ad σ 6)) := by
    rw [cM_at hA (by decide) (by decide) (by decide), cB_o rfl]
  have hpf : pf (cM X ad σ B) (ad 6) 2 5 (.ref t) = some (mup (cM X ad σ B).1 (ad 6) (.inr (2, (cO ad σ 6).2.set 5 (.ref t))), (cM X ad σ B).2) := m_pf h6 (show 5 < 9 by decide)
  rw [hpf]
  refine congrArg some (cM_of (hA.lo lo) rfl (fun a o h => ?_) (fun r hr hb => ?_) (fun a hb hx => ?_))
  · have : a ≠ ad 6 := fun e => by rw [e, hb6] at h; cases h
    show mup (cM X ad σ B).1 (ad 6) _ a = _
    rw [mup_ne this]
    exact cM_fz h
  · rw [lo r hr] at hb ⊢
    show mup (cM X ad σ B).1 (ad 6) _ (ad r) = _
    by_cases r6 : r = 6
    · subst r6
      rw [mup_eq, cB_o rfl]
      rfl
    · have : ad r ≠ ad 6 := fun e => r6 (hA.1 r 6 hr (by decide) hb e)
      rw [mup_ne this, cM_rl hA hr hb, cB_130 hr r6]
  · have n0 : a ≠ ad 6 := fun e => hx 6 (by decide) (by rw [lo 6 (by decide), e])
    show mup (cM X ad σ B).1 (ad 6) _ a = _
    rw [mup_ne n0, cM_1, hb, rl_none (fun r hr e => hx r hr (by rw [lo r hr]; exact e))]
/-- fresh cells that may change -/
def oX (X : Nat → Option Ob) (B : Sw) (T : List Ob) : Nat → Option Ob := fun b => if B.2.1 ≤ b ∧ b < B.2.1 + T.length then T[b - B.2.1]? else X b
def gwB (B : Sw) (n s : Nat) : Sw := (B.1, B.2.1 + n, B.2.2.1 + s, B.2.2.2)
theorem oX_at {T : List Ob} {i : Nat} {o : Ob} (h : T[i]? = some o) : oX X B T (B.2.1 + i) = some o := by
  have hi : i < T.length := by
    obtain ⟨q, -⟩ := List.getElem?_eq_some_iff.1 h
    exact q
  show (if B.2.1 ≤ B.2.1 + i ∧ B.2.1 + i < B.2.1 + T.length then T[B.2.1 + i - B.2.1]? else X (B.2.1 + i)) = some o
  rw [if_pos (by omega), Nat.add_sub_cancel_left]
  exact h
theorem oX_lo {T : List Ob} {b : Nat} (h : b < B.2.1) : oX X B T b = X b := if_neg (by omega)
theorem ov_X (hA : AdOK ad B) {T : List Ob} {s : Nat} : ovl (cM X ad σ B) T s = cM (oX X B T) ad σ (gwB B T.length s) := by
  refine Prod.ext (funext fun b => ?_) rfl
  rw [cM_1]
  show (if B.2.1 ≤ b ∧ b < B.2.1 + T.length then T[b - B.2.1]? else (cM X ad σ B).1 b) = match B.1 b with | some o => some o | none => match rl ad b with | some r => some (cB ad σ r) | none => if B.2.1 ≤ b ∧ b < B.2.1 + T.length then T[b - B.2.1]? else X b
  by_cases q : B.2.1 ≤ b ∧ b < B.2.1 + T.length
  · have hb := hA.2.2.2 b q.1
    have hr : rl ad b = none := rl_none fun r hr e => by
      have := hA.2.2.1 r hr
      omega
    rw [if_pos q, hb, hr]
  · rw [if_neg q, cM_1]
    rfl
theorem gw_ad (hA : AdOK ad B) {n s : Nat} : AdOK ad (gwB B n s) := sm_ad hA rfl (Nat.le_add_right _ _)
theorem gw_own {n s a : Nat} : Own ad (gwB B n s) a ↔ Own ad B a := sm_own rfl
/-- the cells of an empty town at a -/
def g0F (a z : Nat) : Nat → Nat := fun x => if x < 6 then a + x else if x < 11 then z else a + (x - 5)
def Dz (a : Nat) : Dn := (fun _ => 0, fun _ _ => 0, fun x j => if x = 12 then (if j < 16 then -1 else 0) else 0, fun z => if z = 6 then 2 else 10, fun w => a + 9 + w)
def ob0 (a z : Nat) : Nat → Ob := fun x => if x = 0 then .inr (3, twF (g0F a z) (Dz a)) else if x < 6 then zE z else if x = 11 then z2 0 12 else if x = 12 then mC 16 else z2 4 16
theorem q3_at {a z : Nat} : ∀ x, x < 9 → (qX3 a z)[x]? = some (ob0 a z (if x < 6 then x else x + 5)) := by
  intro x hx
  match x, hx with
  | 0, _ => rfl
  | 1, _ => rfl
  | 2, _ => rfl
  | 3, _ => rfl
  | 4, _ => rfl
  | 5, _ => rfl
  | 6, _ => rfl
  | 7, _ => rfl
  | 8, _ => rfl
  | n + 9, h => exact absurd h (by omega)
def r0C (σ : Cs) : Cs := csI (csI (csI (csI σ 31 0) 32 0) 33 0) 38 0
theorem r0_i {z : Nat} (h1 : z ≠ 31) (h2 : z ≠ 32) (h3 : z ≠ 33) (h4 : z ≠ 38) : (r0C σ).1 z = σ.1 z := by
  unfold r0C
  rw [csI_n _ _ _ _ h4, csI_n _ _ _ _ h3, csI_n _ _ _ _ h2, csI_n _ _ _ _ h1]
theorem r0_2 : (r0C σ).2 = σ.2 := rfl
/-- the reader begins -/
theorem read_C (hF : 100000 ≤ F) (hA : AdOK ad B) (hK : KB B) : ∃ X1 B1, f_X2_read F (ad 6) (cM X ad σ B) = f_X2_read_L31 F (ad 6) F (cM X1 (a130 ad (B.2.1 + 1)) (r0C σ) B1) ∧ MF (a130 ad (B.2.1 + 1)) X B X1 B1 12 ∧ TWD (a130 ad (B.2.1 + 1)) B.2.1 X1 B1 (g0F B.2.1 (B.2.2.2 0)) (ob0 B.2.1 (B.2.2.2 0)) (Dz B.2.1) ∧ B1.1 (B.2.1 + 9) = some (.inr (4, [.int 0])) ∧ B1.1 (B.2.1 + 10) = some (.inr (5, [.int 1])) ∧ B1.1 (B.2.1 + 11) = some (.inr (4, [.int 0])) := by
  obtain ⟨a, ea⟩ : ∃ a, a = B.2.1 := ⟨_, rfl⟩
  obtain ⟨z, ez⟩ : ∃ z, z = B.2.2.2 0 := ⟨_, rfl⟩
  obtain ⟨Bg, eBg⟩ : ∃ Bg, Bg = gwB B 12 78 := ⟨_, rfl⟩
  obtain ⟨X1, eX1⟩ : ∃ X1, X1 = oX X B (qX3 a z) := ⟨_, rfl⟩
  obtain ⟨ad1, ead⟩ : ∃ ad1, ad1 = a130 ad (a + 1) := ⟨_, rfl⟩
  have lo : ∀ i, i < 114 → ad1 i = ad i := fun i hi => by rw [ead]; exact a130_n (by omega)
  have hAg : AdOK ad Bg := by rw [eBg]; exact gw_ad hA
  have hA1 : AdOK ad1 Bg := hAg.lo lo
  have hlen : (qX3 a z).length = 12 := rfl
  have atX : ∀ i o, (qX3 a z)[i]? = some o → X1 (a + i) = some o := fun i o h => by
    rw [eX1, ea]
    rw [ea] at h
    exact oX_at h
  have lz : z < a := by rw [ez, ea]; exact hA.lt hK.1
  have sz : Bg.2.1 = a + 12 := by rw [eBg, ea]; rfl
  have sz2 : Bg.2.2.1 = B.2.2.1 + 78 := by rw [eBg]; rfl
  have nog : ∀ i, ¬ Own ad1 Bg (a + i) := fun i h => by
    rw [eBg] at h
    exact new_no hA (by omega) (gw_own.1 ((Own.lo lo).1 h))
  have eC : f_X2_read F (ad 6) (cM X ad σ B) = f_X2_read_L31 F (ad 6) F (cM X1 ad1 (r0C σ) Bg) := by
    unfold f_X2_read
    have i3 := i_X3 (F := F) (M := cM X ad (r0C σ) B) (a := a) (z := z) (by omega) ea.symm ez.symm
    rw [p6_1 hA, Option.bind_some, p6_2 hA, Option.bind_some, p6_3 hA, Option.bind_some, p6_8 hA, Option.bind_some, nmE, ov_new]
    show Option.bind (f_X3_init F (cM X ad (r0C σ) B).2.1 (ovl (cM X ad (r0C σ) B) [.inr (3, dfX3)] 16)) _ = _
    rw [i3, Option.bind_some, ov_X hA, hlen, ← eX1, ← eBg]
    show Option.bind (pf (cM X1 ad (r0C σ) Bg) (ad 6) 2 5 (.ref B.2.1)) _ = _
    rw [p6_5 hAg, Option.bind_some, ← ea, ← ead]
  -- the three terms are frozen
  have M0 : MF ad1 X B X1 Bg 12 := by
    refine ⟨hA1, fun b o h => by rw [eBg]; exact h, fun b h => ?_, fun b h _ => by rw [eX1]; exact oX_lo h, by omega, ⟨by omega, fun b _ q => by rw [eBg]; exact q⟩, by omega, by rw [eBg]; rfl⟩
    rw [eBg] at h
    exact Or.inl ((Own.lo lo).2 (gw_own.1 ((Own.lo lo).1 h)))
  have x9 : X1 (a + 9) = some (.inr (4, [.int 0])) := atX 9 _ rfl
  have x10 : X1 (a + 10) = some (.inr (5, [.int 1])) := atX 10 _ rfl
  have x11 : X1 (a + 11) = some (.inr (4, [.int 0])) := atX 11 _ rfl
  obtain ⟨B9, e9⟩ : ∃ B9, B9 = frB Bg (a + 9) (.inr (4, [.int 0])) := ⟨_, rfl⟩
  have o9 : ∀ q, Own ad1 B9 q → Own ad1 Bg q ∨ q = a + 9 := fun q h => by rw [e9] at h; exact fr_own h
  have M9 : MF ad1 X B X1 B9 12 := by rw [e9]; exact M0.fz x9 (by omega) (by omega) (nog 9)
  have s9 : B9.2 = Bg.2 := by rw [e9]; rfl
  obtain ⟨B10, e10⟩ : ∃ B10, B10 = frB B9 (a + 10) (.inr (5, [.int 1])) := ⟨_, rfl⟩
  have n10 : ¬ Own ad1 B9 (a + 10) := fun h => by
    rcases o9 _ h with h | h
    · exact nog 10 h
    · omega
  have o10 : ∀ q, Own ad1 B10 q → Own ad1 B9 q ∨ q = a + 10 := fun q h => by rw [e10] at h; exact fr_own h
  have M10 : MF ad1 X B X1 B10 12 := by rw [e10]; exact M9.fz x10 (by omega) (by rw [s9]; omega) n10
  have s10 : B10.2 = Bg.2 := by rw [e10]; exact s9
  obtain ⟨B11, e11⟩ : ∃ B11, B11 = frB B10 (a + 11) (.inr (4, [.int 0])) := ⟨_, rfl⟩
  have n11 : ¬ Own ad1 B10 (a + 11) := fun h => by
    rcases o10 _ h with h | h
    · rcases o9 _ h with h | h
      · exact nog 11 h
      · omega
    · omega
  have o11 : ∀ q, Own ad1 B11 q → Own ad1 B10 q ∨ q = a + 11 := fun q h => by rw [e11] at h; exact fr_own h
  have M11 : MF ad1 X B X1 B11 12 := by rw [e11]; exact M10.fz x11 (by omega) (by rw [s10]; omega) n11
  have s11 : B11.2 = Bg.2 := by rw [e11]; exact s10
  have eM : cM X1 ad1 (r0C σ) Bg = cM X1 ad1 (r0C σ) B11 := by
    rw [fr_X (σ := r0C σ) (nog 9) x9, ← e9, fr_X (σ := r0C σ) n10 x10, ← e10, fr_X (σ := r0C σ) n11 x11, ← e11]
  have no11 : ∀ i, i < 9 → ¬ Own ad1 B11 (a + i) := fun i hi h => by
    rcases o11 _ h with h | h
    · rcases o10 _ h with h | h
      · rcases o9 _ h with h | h
        · exact nog i h
        · omega
      · omega
    · omega
  have f9 : B11.1 (a + 9) = some (.inr (4, [.int 0])) := by
    rw [e11]
    refine fr_gr n11 _ _ ?_
    rw [e10]
    refine fr_gr n10 _ _ ?_
    rw [e9]
    exact fr_at
  have f10 : B11.1 (a + 10) = some (.inr (5, [.int 1])) := by
    rw [e11]
    refine fr_gr n11 _ _ ?_
    rw [e10]
    exact fr_at
  have f11 : B11.1 (a + 11) = some (.inr (4, [.int 0])) := by
    rw [e11]
    exact fr_at
  have r11 : B11.2.2.2 = B.2.2.2 := by rw [s11, eBg]; rfl
  rw [← ea, ← ez, ← ead]
  refine ⟨X1, B11, eC.trans (by rw [eM]), M11, ⟨⟨fun x hx => ?_, fun x y hx hy ho he => ?_⟩, rfl, fun i hi => ?_, rfl, rfl, rfl⟩, f9, f10, f11⟩
  · by_cases h6 : x < 6
    · left
      have eg : g0F a z x = a + x := if_pos h6
      rw [eg]
      refine ⟨no11 x (by omega), by rw [s11]; omega, by omega, atX x _ ?_⟩
      have := q3_at (a := a) (z := z) x (by omega)
      rw [if_pos h6] at this
      exact this
    · by_cases h11 : x < 11
      · right
        exact ⟨by omega, h11, by rw [r11, ← ez]; exact (if_neg h6).trans (if_pos h11)⟩
      · left
        have eg : g0F a z x = a + (x - 5) := (if_neg h6).trans (if_neg h11)
        rw [eg]
        refine ⟨no11 _ (by omega), by rw [s11]; omega, by omega, atX _ _ ?_⟩
        have := q3_at (a := a) (z := z) (x - 5) (by omega)
        rw [if_neg (by omega), show x - 5 + 5 = x by omega] at this
        exact this
  · have oz : Own ad1 B11 z := Or.inl fun q => by
      have := M11.2.1 _ _ hK.1
      rw [ez] at q
      rw [q] at this
      cases this
    unfold g0F at ho he
    by_cases x6 : x < 6
    · rw [if_pos x6] at he
      by_cases y6 : y < 6
      · rw [if_pos y6] at he; omega
      · rw [if_neg y6] at he
        by_cases y11 : y < 11
        · rw [if_pos y11] at he; omega
        · rw [if_neg y11] at he; omega
    · rw [if_neg x6] at he ho
      by_cases x11 : x < 11
      · rw [if_pos x11] at ho
        exact absurd oz ho
      · rw [if_neg x11] at he
        by_cases y6 : y < 6
        · rw [if_pos y6] at he; omega
        · rw [if_neg y6] at he
          by_cases y11 : y < 11
          · rw [if_pos y11] at he; omega
          · rw [if_neg y11] at he; omega
  · refine ⟨0, 0, fun _ => none, ?_, Or.inl ⟨rfl, ?_⟩, fun k hk => absurd hk (Nat.not_lt_zero k)⟩
    · have eo : ob0 a z (1 + i) = zE z := (if_neg (by omega)).trans (if_pos (by omega))
      have eg : g0F a z (6 + i) = z := (if_neg (by omega)).trans (if_pos (by omega))
      rw [eo, eg]
      rfl
    · rw [r11, ← ez]
      exact (if_neg (by omega)).trans (if_pos (by omega))
/-- the reference begins -/
def r0T (τ : Tw) : Tw := tsI (tsI (twA (twA (twA (tsI (tsI (tsI τ 8 0) 9 (-1)) 10 0) 6 (bgF 1 (τ.2.1 6))) 8 (upd (τ.2.1 8) 1 0)) 11 (upd (τ.2.1 11) 1 0)) 7 0) 25 0
theorem r0T_i {z : Nat} (h1 : z ≠ 8) (h2 : z ≠ 9) (h3 : z ≠ 10) (h4 : z ≠ 7) (h5 : z ≠ 25) : (r0T τ).1 z = τ.1 z := by
  unfold r0T
  rw [tsI_n _ _ _ _ h5, tsI_n _ _ _ _ h4]
  show (tsI (tsI (tsI τ 8 0) 9 (-1)) 10 0).1 z = _
  rw [tsI_n _ _ _ _ h3, tsI_n _ _ _ _ h2, tsI_n _ _ _ _ h1]
theorem r0T_o {r : Nat} (h6 : r ≠ 6) (h8 : r ≠ 8) (h11 : r ≠ 11) : (r0T τ).2.1 r = τ.2.1 r := by
  show (twA (twA (twA (tsI (tsI (tsI τ 8 0) 9 (-1)) 10 0) 6 (bgF 1 (τ.2.1 6))) 8 (upd (τ.2.1 8) 1 0)) 11 (upd (τ.2.1 11) 1 0)).2.1 r = _
  rw [twA_n _ _ _ _ h11, twA_n _ _ _ _ h8, twA_n _ _ _ _ h6]
  rfl
theorem r0T_3 : (r0T τ).2.2 = τ.2.2 := rfl
theorem r0T_6 : (r0T τ).2.1 6 = bgF 1 (τ.2.1 6) := rfl
theorem r0T_VW {k : Nat} (hk : k < 210) : VW (r0T τ) 6 k = if k = 6 then 2 else if k = 7 then 10 else if 10 ≤ k ∧ k < 16 then -1 else 0 := by
  show bgF 1 (τ.2.1 6) (210 + k) = _
  unfold bgF
  exact paF_in (a := 210 * 1) (n := 210) (j := k) (v := fun j => if j = 6 then 2 else if j = 7 then 10 else if 10 ≤ j ∧ j < 16 then -1 else 0) (f := τ.2.1 6) hk
theorem r0T_lo {k : Nat} (hk : k < 210) : (r0T τ).2.1 6 k = τ.2.1 6 k := by
  rw [r0T_6]
  unfold bgF
  exact paF_out (Or.inl (by omega))
theorem read_T (hF : 1000 ≤ F) (hs : t_X9_scanAll F τ' = some τ) : t_X9_read F τ' = Option.bind (t_X9_parses_L10 F F (r0T τ)) fun q11 => if q11.1 = 0 then t_X9_read_j54 F q11.2 else if q11.2.1 10 = 0 then t_X9_read_j54 F q11.2 else nm (tsI q11.2 8 (q11.2.1 10)) fun τ15 => nm (tsI τ15 9 (τ15.1 11)) fun τ17 => t_X9_read_j54 F τ17 := by
  unfold t_X9_read
  have hb : t_X9_begin F 1 (tsI (tsI (tsI τ 8 0) 9 (-1)) 10 0) = _ := t_begin (F := F) (τ := tsI (tsI (tsI τ 8 0) 9 (-1)) 10 0) (c := 1) (by omega) (by decide)
  rw [hs, Option.bind_some, nmE, nmE, nmE, hb, Option.bind_some]
  unfold t_X9_parses
  rw [nmE, nmE]
  rfl
/-- both begin: nothing is told yet -/
theorem read_TI (hA : AdOK ad B) (hK : KB B) {X1 : Nat → Option Ob} {B1 : Sw} (h : TKS c pl last σ τ) (hM : MF (a130 ad (B.2.1 + 1)) X B X1 B1 12) (hW : TWD (a130 ad (B.2.1 + 1)) B.2.1 X1 B1 (g0F B.2.1 (B.2.2.2 0)) (ob0 B.2.1 (B.2.2.2 0)) (Dz B.2.1)) (f9 : B1.1 (B.2.1 + 9) = some (.inr (4, [.int 0]))) (f10 : B1.1 (B.2.1 + 10) = some (.inr (5, [.int 1]))) (f11 : B1.1 (B.2.1 + 11) = some (.inr (4, [.int 0]))) : TI c pl last (a130 ad (B.2.1 + 1)) X B (r0C σ) (r0T τ) X1 B1 (r0C σ) (r0T τ) 0 := by
  have e : ∀ k, k < 210 → k ≠ 6 → k ≠ 7 → ¬ (10 ≤ k ∧ k < 16) → VW (r0T τ) 6 k = 0 := fun k h1 h2 h3 h4 => by
    rw [r0T_VW h1, if_neg h2, if_neg h3, if_neg h4]
  have e6 : VW (r0T τ) 6 6 = 2 := r0T_VW (by decide)
  have e7 : VW (r0T τ) 6 7 = 10 := r0T_VW (by decide)
  have eL : ∀ k, 10 ≤ k → k < 16 → VW (r0T τ) 6 k = -1 := fun k h1 h2 => by
    rw [r0T_VW (by omega), if_neg (by omega), if_neg (by omega), if_pos ⟨h1, h2⟩]
  have k33 : (r0C σ).1 33 = 0 := by
    unfold r0C
    rw [csI_n _ _ _ _ (by decide), csI_s]
  have k10 : (r0T τ).1 10 = 0 := by
    unfold r0T
    rw [tsI_n _ _ _ _ (by decide), tsI_n _ _ _ _ (by decide)]
    show (tsI (tsI (tsI τ 8 0) 9 (-1)) 10 0).1 10 = _
    exact tsI_s _ _ _
  have k31 : (r0C σ).1 31 = 0 := by
    unfold r0C
    rw [csI_n _ _ _ _ (by decide), csI_n _ _ _ _ (by decide), csI_n _ _ _ _ (by decide), csI_s]
  have k32 : (r0C σ).1 32 = 0 := by
    unfold r0C
    rw [csI_n _ _ _ _ (by decide), csI_n _ _ _ _ (by decide), csI_s]
  have k38 : (r0C σ).1 38 = 0 := csI_s _ _ _
  have t7 : (r0T τ).1 7 = 0 := by
    unfold r0T
    rw [tsI_n _ _ _ _ (by decide), tsI_s]
  have t25 : (r0T τ).1 25 = 0 := tsI_s _ _ _
  have z6 : zN (VW (r0T τ)) 6 6 = 2 := by unfold zN; rw [e6]; rfl
  have z7 : zN (VW (r0T τ)) 6 7 = 10 := by unfold zN; rw [e7]; rfl
  have nl : ∀ {n : Nat}, ¬ n < 0 := fun {n} => Nat.not_lt_zero n
  refine ⟨_, _, _, 0, 0, ⟨hM.le (by omega), hK.mf hM, RF.rf, TX.rf, ⟨h.of (by rw [r0_2]) (by rw [r0_2]) (by rw [r0_2]) (r0T_o (by decide) (by decide) (by decide)) (r0T_o (by decide) (by decide) (by decide)) (r0T_o (by decide) (by decide) (by decide)) (by rw [r0T_3]), k31, t7, Nat.zero_le _⟩, k32, Or.inl ⟨k33, k10⟩, q89.rf⟩, ?_, hW, ?_, ⟨k38, t25, by show (0 : Nat) ≤ 16; omega, by show (0 : Nat) ≤ 12; omega, fun k hk => (nl hk).elim⟩, fun _ => ⟨fun k k' hk => (nl hk).elim, ?_⟩, ⟨rfl, Nat.le_refl _⟩, rfl, Nat.le_refl _⟩
  · show (if 130 = 130 then B.2.1 + 1 else ad 130) = g0F B.2.1 (B.2.2.2 0) 0 + 1
    rw [if_pos rfl]
    rfl
  · unfold CNT
    rw [e 0 (by decide) (by decide) (by decide) (by decide), e 1 (by decide) (by decide) (by decide) (by decide), e 2 (by decide) (by decide) (by decide) (by decide), e 3 (by decide) (by decide) (by decide) (by decide), e 4 (by decide) (by decide) (by decide) (by decide), e 5 (by decide) (by decide) (by decide) (by decide), e 8 (by decide) (by decide) (by decide) (by decide), e 9 (by decide) (by decide) (by decide) (by decide)]
    exact ⟨⟨rfl, Nat.zero_le _⟩, ⟨rfl, Nat.zero_le _⟩, ⟨rfl, Nat.zero_le _⟩, ⟨rfl, Nat.zero_le _⟩, ⟨rfl, Nat.zero_le _⟩, ⟨rfl, Nat.zero_le _⟩, ⟨rfl, Nat.zero_le _⟩, rfl, Nat.zero_le _⟩
  · refine ⟨⟨⟨by rw [e6]; rfl, by rw [e6]; exact isN.of (k := 2) (by decide) (by decide), by rw [z6]; decide⟩, by rw [e7]; rfl, by rw [e7]; exact isN.of (k := 10) (by decide) (by decide), by rw [z7]; decide⟩, ⟨⟨1, [(0, 0)], Or.inl ⟨0, f9, rfl⟩, by decide, Or.inl ⟨eL _ (by decide) (by decide), rfl⟩⟩, ⟨1, [(1, 1)], Or.inr (Or.inl ⟨1, by decide, f10, rfl⟩), by decide, Or.inl ⟨eL _ (by decide) (by decide), rfl⟩⟩, ⟨1, [(0, 0)], Or.inl ⟨0, f11, rfl⟩, by decide, Or.inl ⟨eL _ (by decide) (by decide), rfl⟩⟩⟩, ⟨fun k hk => (nl hk).elim, fun k hk _ => e _ (by omega) (by omega) (by omega) (by omega)⟩, fun o ho => (nl ho).elim, ⟨fun i hi => (nl hi).elim, rfl⟩, fun k hk => (nl hk).elim, ⟨fun x hx => Or.inr ⟨rfl, fun q hq => (nl hq).elim⟩, fun q hq => (nl hq).elim⟩, ⟨fun k hk => (nl hk).elim, fun k hk _ => e _ (by omega) (by omega) (by omega) (by omega)⟩, fun k hk => (nl hk).elim, fun k hk => (nl hk).elim⟩
