set_option maxRecDepth 100000
/-! the invariant at the start, whole -/
variable {F : Nat}
/-- the frozen cells at the start -/
def BI (M : Sw) (z z1 n2 s2 : Nat) : Sw := (fun q => if q = z ∨ q = z1 then M.1 q else if M.2.1 + 9 ≤ q ∧ q < M.2.1 + 21 then (qT M.2.1 z)[q - M.2.1]? else none, n2, s2, M.2.2.2)
theorem BI_z {M : Sw} {z z1 n2 s2 q : Nat} (h : q = z ∨ q = z1) : (BI M z z1 n2 s2).1 q = M.1 q := if_pos h
theorem BI_t {M : Sw} {z z1 n2 s2 i : Nat} (hz : z < M.2.1) (hz1 : z1 < M.2.1) (h : 9 ≤ i ∧ i < 21) : (BI M z z1 n2 s2).1 (M.2.1 + i) = (qT M.2.1 z)[i]? := by
  refine (if_neg (by omega)).trans ((if_pos (by omega)).trans ?_)
  rw [Nat.add_sub_cancel_left]
theorem BI_n {M : Sw} {z z1 n2 s2 q : Nat} (h1 : q ≠ z) (h2 : q ≠ z1) (h : q < M.2.1 + 9 ∨ M.2.1 + 21 ≤ q) : (BI M z z1 n2 s2).1 q = none := (if_neg (by omega)).trans (if_neg (by omega))
theorem BI_ad {M : Sw} {z z1 s2 : Nat} (hz : z < M.2.1) (hz1 : z1 < M.2.1) (hM : M.1 z ≠ none) : AdOK (adI M.2.1 z) (BI M z z1 (M.2.1 + 124 + 35) s2) := by
  have ge : ∀ r, r < 114 → r ≠ 51 → r ≠ 53 → (BI M z z1 (M.2.1 + 124 + 35) s2).1 (adI M.2.1 z r) = none := fun r a b c => by
    rw [adI_r a b c]
    have := ixI_b r a
    exact BI_n (by omega) (by omega) (by omega)
  have no : ∀ r, (r = 51 ∨ r = 53) → (BI M z z1 (M.2.1 + 124 + 35) s2).1 (adI M.2.1 z r) ≠ none := fun r h => by
    rw [adI_z h, BI_z (Or.inl rfl)]
    exact hM
  refine ⟨fun r r' h h' hb e => ?_, fun r h a b => ge r h a b, fun r h => ?_, fun q hq => ?_⟩
  · have a1 : r ≠ 51 := fun q => no r (Or.inl q) hb
    have a2 : r ≠ 53 := fun q => no r (Or.inr q) hb
    have a3 : r' ≠ 51 := fun q => no r' (Or.inl q) (by rw [← e]; exact hb)
    have a4 : r' ≠ 53 := fun q => no r' (Or.inr q) (by rw [← e]; exact hb)
    rw [adI_r h a1 a2, adI_r h' a3 a4] at e
    have : ixI r = ixI r' := by omega
    rw [← ixI_a r h a1 a2, ← ixI_a r' h' a3 a4, this]
  · show adI M.2.1 z r < M.2.1 + 124 + 35
    by_cases a1 : r = 51 ∨ r = 53
    · rw [adI_z a1]
      omega
    · rw [adI_r h (by omega) (by omega)]
      have := ixI_b r h
      omega
  · have hq : M.2.1 + 124 + 35 ≤ q := hq
    exact BI_n (by omega) (by omega) (by omega)
theorem BI_tb {M : Sw} {z z1 n2 s2 : Nat} (hz : z < M.2.1) (hz1 : z1 < M.2.1) (hM : M.1 z = some (.inl (12, (0, .inr (.inr (fun _ => none)))))) : TB (adI M.2.1 z) (BI M z z1 n2 s2) AI := by
  have li : ∀ i, 10 ≤ i ∧ i < 15 → (qT M.2.1 z)[i]? = some (zE z) → ∀ e, LB (BI M z z1 n2 s2) (M.2.1 + i) 0 e := fun i hi h e => ⟨by decide, 0, z, 0, 12, fun _ => none, (BI_t hz hz1 (by omega)).trans h, (BI_z (Or.inl rfl)).trans hM, fun q => absurd rfl q, Or.inr rfl, Nat.le_refl _, by decide, fun j hj => absurd hj (Nat.not_lt_zero j)⟩
  refine ⟨?_, ⟨?_, ?_⟩, ⟨?_, ?_⟩, ⟨?_, ?_⟩, ⟨?_, ?_⟩, ⟨?_, ?_⟩, ?_, ?_, ?_, ?_, ?_⟩
  · exact (BI_t (i := 9) hz hz1 (by decide)).trans rfl
  · exact li 10 (by decide) rfl _
  · exact fun j hj => absurd (show j < 0 from hj) (Nat.not_lt_zero j)
  · exact li 11 (by decide) rfl _
  · exact fun j hj => absurd (show j < 0 from hj) (Nat.not_lt_zero j)
  · exact li 12 (by decide) rfl _
  · exact fun j hj => absurd (show j < 0 from hj) (Nat.not_lt_zero j)
  · exact li 13 (by decide) rfl _
  · exact fun j hj => absurd (show j < 0 from hj) (Nat.not_lt_zero j)
  · exact li 14 (by decide) rfl _
  · exact fun j hj => absurd (show j < 0 from hj) (Nat.not_lt_zero j)
  · exact ⟨_, (BI_t (i := 15) hz hz1 (by decide)).trans rfl, fun o ho => absurd (show o < 0 from ho) (Nat.not_lt_zero o)⟩
  · exact ⟨_, (BI_t (i := 17) hz hz1 (by decide)).trans rfl, fun h hh => Or.inr ⟨rfl, fun q hq => absurd (show q < 0 from hq) (Nat.not_lt_zero q)⟩⟩
  · exact ⟨1, _, Or.inl ⟨0, (BI_t (i := 18) hz hz1 (by decide)).trans rfl, rfl⟩, by decide, Or.inl ⟨rfl, rfl⟩⟩
  · exact ⟨1, _, Or.inr (Or.inl ⟨1, by decide, (BI_t (i := 19) hz hz1 (by decide)).trans rfl, rfl⟩), by decide, Or.inl ⟨rfl, rfl⟩⟩
  · exact ⟨1, _, Or.inl ⟨0, (BI_t (i := 20) hz hz1 (by decide)).trans rfl, rfl⟩, by decide, Or.inl ⟨rfl, rfl⟩⟩
theorem CR_I {a z : Nat} {B : Sw} (hz : B.2.2.2 0 = z) : CR (adI a z) B AI (σI a) := by
  refine ⟨⟨rfl, rfl, rfl, rfl, rfl⟩, ?_, ?_, ?_, ?_, ?_, ?_, ?_, ⟨?_, ?_, ?_⟩, ⟨rfl, Or.inr ⟨rfl, ?_⟩, ?_⟩, ⟨rfl, Or.inr ⟨rfl, ?_⟩, ?_⟩, ?_⟩
  · exact fun k hk => absurd (show k < 0 from hk) (Nat.not_lt_zero k)
  · exact fun k hk => absurd (show k < 0 from hk) (Nat.not_lt_zero k)
  · intro h hh
    have : AI 7 (10 + h) = 0 := by
      show (if 7 = 6 ∧ 10 + h = 6 then (2 : Int32) else if 7 = 6 ∧ 10 + h = 7 then 10 else if 7 = 6 ∧ 10 ≤ 10 + h ∧ 10 + h < 16 then -1 else if 7 = 7 ∧ 30 ≤ 10 + h ∧ 10 + h < 46 then -2 else 0) = 0
      rw [if_neg (by omega), if_neg (by omega), if_neg (by omega), if_neg (by omega)]
    rw [this]
    rfl
  · intro h hh
    have : AI 7 (30 + h) = -2 := by
      show (if 7 = 6 ∧ 30 + h = 6 then (2 : Int32) else if 7 = 6 ∧ 30 + h = 7 then 10 else if 7 = 6 ∧ 10 ≤ 30 + h ∧ 30 + h < 16 then -1 else if 7 = 7 ∧ 30 ≤ 30 + h ∧ 30 + h < 46 then -2 else 0) = -2
      rw [if_neg (by omega), if_neg (by omega), if_neg (by omega), if_pos (by omega)]
    rw [this, if_pos rfl]
    exact if_pos hh
  · intro w hw
    have : AI 7 (50 + w) = 0 := by
      show (if 7 = 6 ∧ 50 + w = 6 then (2 : Int32) else if 7 = 6 ∧ 50 + w = 7 then 10 else if 7 = 6 ∧ 10 ≤ 50 + w ∧ 50 + w < 16 then -1 else if 7 = 7 ∧ 30 ≤ 50 + w ∧ 50 + w < 46 then -2 else 0) = 0
      rw [if_neg (by omega), if_neg (by omega), if_neg (by omega), if_neg (by omega)]
    rw [this]
    rfl
  · exact fun k h hk => absurd (show k < 0 from hk) (Nat.not_lt_zero k)
  · exact fun k h hk => absurd (show k < 0 from hk) (Nat.not_lt_zero k)
  · intro j hj
    rw [adI_r (by omega) (by omega) (by omega)]
    show (if j < 20 then some (a + 64 + 3 * j) else none) = some (a + ixI (54 + j))
    rw [if_pos hj]
    unfold ixI
    rw [if_neg (by omega), if_neg (by omega), if_neg (by omega), if_neg (by omega), if_pos (by omega)]
    congr 1
    omega
  · intro j hj
    rw [adI_r (by omega) (by omega) (by omega)]
    show some (a + 35 + 1 + j) = some (a + ixI (18 + j))
    unfold ixI
    rw [if_neg (by omega), if_pos (by omega)]
    congr 1
    omega
  · intro j hj
    rw [adI_r (by omega) (by omega) (by omega)]
    show some (a + 50 + 1 + j) = some (a + ixI (33 + j))
    unfold ixI
    rw [if_neg (by omega), if_pos (by omega)]
    congr 1
    omega
  · rw [hz]
    rfl
  · exact fun j hj => absurd (show j < 0 from hj) (Nat.not_lt_zero j)
  · rw [hz]
    rfl
  · exact fun j hj => absurd (show j < 0 from hj) (Nat.not_lt_zero j)
  · intro s hs
    exact Or.inl ⟨rfl, rfl⟩
theorem mTo_lo {M : Sw} {T : List Ob} {s tw n2 s2 q : Nat} {τ : Tw} {ro : Nat → Nat} (h : q < M.2.1) (ht : M.2.1 ≤ tw) : (mT tw τ ((ovl M T s).1, n2, s2, ro)).1 q = M.1 q := by
  rw [mT_off (by omega)]
  exact ov_lo (s := s) h
theorem mTo_at {M : Sw} {T : List Ob} {s tw n2 s2 i : Nat} {τ : Tw} {ro : Nat → Nat} (h : i < T.length) (ht : M.2.1 + T.length ≤ tw) : (mT tw τ ((ovl M T s).1, n2, s2, ro)).1 (M.2.1 + i) = T[i]? := by
  rw [mT_off (by omega)]
  show (ovl M T s).1 (M.2.1 + i) = _
  rw [ov_at (List.getElem?_eq_getElem h), List.getElem?_eq_getElem h]
theorem II_I {M : Sw} {b L s s2 : Nat} {xs : Nat → Int32} (hb : M.1 b = some (.inl (10, (L, .inl xs)))) (h0 : M.1 (M.2.2.2 0) = some (.inl (12, (0, .inr (.inr (fun _ => none)))))) (h1 : M.1 (M.2.2.2 1) = some (.inl (11, (26, .inr (.inr (fun j => some (M.2.2.2 (10 + j)))))))) (hn : ∀ a : Nat, M.2.1 ≤ a → M.1 a = none) : II M.2.1 (M.2.1 + 124) b L xs (mT (M.2.1 + 124) τI ((ovl M (qT M.2.1 (M.2.2.2 0)) s).1, M.2.1 + 124 + 35, s2, M.2.2.2)) τI := by
  have lt : ∀ {q : Nat} {o : Ob}, M.1 q = some o → q < M.2.1 := fun {q o} h => by
    refine Nat.lt_of_not_le fun c => ?_
    rw [hn q c] at h
    cases h
  have lb := lt hb
  have l0 := lt h0
  have l1 := lt h1
  obtain ⟨z, ez⟩ : ∃ z, z = M.2.2.2 0 := ⟨_, rfl⟩
  obtain ⟨z1, ez1⟩ : ∃ z1, z1 = M.2.2.2 1 := ⟨_, rfl⟩
  rw [← ez] at h0 l0 ⊢
  rw [← ez1] at h1 l1
  have hA : AdOK (adI M.2.1 z) (BI M z z1 (M.2.1 + 124 + 35) s2) := BI_ad l0 l1 (by rw [h0]; exact fun q => by cases q)
  have hlen : (qT M.2.1 z).length = 124 := by
    show (qR M.2.1 z (mC 16) (zQ (M.2.1 + 64) 20) ++ lotsL (M.2.1 + 64) 20).length + 1 = 124
    rw [List.length_append, lotsL_n]
    rfl
  obtain ⟨Y, eY⟩ : ∃ Y, Y = mT (M.2.1 + 124) τI ((ovl M (qT M.2.1 z) s).1, M.2.1 + 124 + 35, s2, M.2.2.2) := ⟨_, rfl⟩
  have cell : ∀ i, i < 124 → Y.1 (M.2.1 + i) = (qT M.2.1 z)[i]? := fun i hi => by
    rw [eY]
    exact mTo_at (by omega) (by omega)
  have low : ∀ q, q < M.2.1 → Y.1 q = M.1 q := fun q hq => by
    rw [eY]
    exact mTo_lo hq (by omega)
  have hY2 : Y.2 = (M.2.1 + 124 + 35, s2, M.2.2.2) := by rw [eY]; rfl
  have hYt : ∀ j, j ≤ 34 → Y.1 (M.2.1 + 124 + j) = some (tB (M.2.1 + 124) τI j) := fun j hj => by
    rw [eY]
    exact mT_at hj
  rw [← eY]
  clear eY
  have own : ∀ q, Own (adI M.2.1 z) (BI M z z1 (M.2.1 + 124 + 35) s2) q → q = z ∨ q = z1 ∨ (M.2.1 ≤ q ∧ q < M.2.1 + 124) := fun q h => by
    rcases h with h | ⟨r, hr, e⟩
    · by_cases a1 : q = z ∨ q = z1
      · omega
      · by_cases a2 : M.2.1 + 9 ≤ q ∧ q < M.2.1 + 21
        · omega
        · exact absurd (BI_n (by omega) (by omega) (by omega)) h
    · by_cases a1 : r = 51 ∨ r = 53
      · rw [adI_z a1] at e
        omega
      · rw [adI_r hr (by omega) (by omega)] at e
        have := ixI_b r hr
        omega
  refine ⟨adI M.2.1 z, BI M z z1 (M.2.1 + 124 + 35) s2, AI, σI M.2.1, Y.1, ?_, ?_, ⟨⟨hA, BI_tb l0 l1 h0, WF_I⟩, ⟨?_, ?_⟩, CR_I ez.symm, TR_I⟩, ?_, ?_, ?_, ⟨?_, ?_⟩, ?_⟩
  · refine Prod.ext (funext fun q => ?_) hY2
    rw [cM_1]
    cases hq : (BI M z z1 (M.2.1 + 124 + 35) s2).1 q with
    | some o =>
      show _ = some o
      by_cases a1 : q = z ∨ q = z1
      · rw [BI_z a1] at hq
        rw [low q (lt hq), hq]
      · by_cases a2 : M.2.1 + 9 ≤ q ∧ q < M.2.1 + 21
        · obtain ⟨i, rfl⟩ : ∃ i, q = M.2.1 + i := ⟨q - M.2.1, by omega⟩
          rw [BI_t l0 l1 (by omega)] at hq
          rw [cell i (by omega), hq]
        · rw [BI_n (by omega) (by omega) (by omega)] at hq
          cases hq
    | none =>
      cases hr : rl (adI M.2.1 z) q with
      | none => rfl
      | some r =>
        show _ = some (cB (adI M.2.1 z) (σI M.2.1) r)
        obtain ⟨hr1, hr2⟩ := rl_some hr
        by_cases a1 : r = 51 ∨ r = 53
        · rw [adI_z a1] at hr2
          rw [BI_z (Or.inl hr2.symm), ← hr2, h0] at hq
          cases hq
        · rw [adI_r hr1 (by omega) (by omega)] at hr2
          rw [← hr2, cell _ (ixI_b r hr1).1]
          exact qI_all r hr1 (by omega) (by omega)
  · exact adI_r (by decide) (by decide) (by decide)
  · show (BI M z z1 (M.2.1 + 124 + 35) s2).1 (M.2.2.2 0) = _
    rw [BI_z (Or.inl ez.symm), ← ez]
    exact h0
  · show (BI M z z1 (M.2.1 + 124 + 35) s2).1 (M.2.2.2 1) = _
    rw [BI_z (Or.inr ez1.symm), ← ez1]
    exact h1
  · exact hYt
  · rw [low b lb]
    exact hb
  · exact fun j hj => ⟨fun h => by have := own _ h; omega, by show M.2.1 + 124 + j < M.2.1 + 124 + 35; omega⟩
  · intro h
    rcases own _ h with e | e | e
    · rw [e, h0] at hb
      cases hb
    · rw [e, h1] at hb
      cases hb
    · omega
  · show b < M.2.1 + 124 + 35
    omega
  · omega
/-- the plain law, if the reading agrees -/
theorem plain_of (h2 : ∃ F, 1000000 ≤ F ∧ ST2 F) : PlainLaw := by
  obtain ⟨F, hF, h2⟩ := h2
  refine ⟨F, fun M0 b L xs hL hs hb h0 h1 hn => ?_⟩
  obtain ⟨s, hs2, e⟩ := i_X0 (F := F) (M := M0) (z := M0.2.2.2 0) (by omega) rfl
  have hlen : (ovl M0 (qT M0.2.1 (M0.2.2.2 0)) s).2.1 = M0.2.1 + 124 := by
    show M0.2.1 + ((qR M0.2.1 (M0.2.2.2 0) (mC 16) (zQ (M0.2.1 + 64) 20) ++ lotsL (M0.2.1 + 64) 20).length + 1) = M0.2.1 + 124
    rw [List.length_append, lotsL_n]
    rfl
  refine ⟨_, τI, II M0.2.1 (M0.2.1 + 124) b L xs, e, t_first (by omega), ?_, ?_, ?_, ?_, ?_⟩
  · rw [hlen]
    exact ii_ok
  · rw [hlen]
    exact ii_st hF h2
  · rw [hlen]
    exact II_I hb h0 h1 hn
  · rw [hlen]
    omega
  · show M0.2.2.1 + s + 20527 ≤ M0.2.2.1 + 60000
    omega
