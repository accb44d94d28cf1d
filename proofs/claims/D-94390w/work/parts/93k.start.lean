set_option maxRecDepth 100000
/-! the invariant at the start -/
variable {F : Nat}
/-- the first address of a role -/
def ixI (r : Nat) : Nat := if r < 9 then r else if r < 46 then r + 18 else if r < 51 then r - 25 else if r < 54 then 26 else if r < 74 then 64 + 3 * (r - 54) else if r < 94 then 64 + 3 * (r - 74) + 1 else 64 + 3 * (r - 94) + 2
def riI (i : Nat) : Nat := if i < 9 then i else if i < 26 then i + 25 else if i = 26 then 52 else if i < 64 then i - 18 else if (i - 64) % 3 = 0 then 54 + (i - 64) / 3 else if (i - 64) % 3 = 1 then 74 + (i - 64) / 3 else 94 + (i - 64) / 3
def adI (a z : Nat) (r : Nat) : Nat := if r = 51 ∨ r = 53 then z else if r < 114 then a + ixI r else if r < 126 then a + 9 + (r - 114) else 0
theorem ixI_a : ∀ r, r < 114 → r ≠ 51 → r ≠ 53 → riI (ixI r) = r := by decide
theorem ixI_b : ∀ r, r < 114 → ixI r < 124 ∧ ¬ (9 ≤ ixI r ∧ ixI r < 21) := by decide
theorem adI_r {a z r : Nat} (h : r < 114) (h1 : r ≠ 51) (h3 : r ≠ 53) : adI a z r = a + ixI r := (if_neg (by omega)).trans (if_pos h)
theorem adI_z {a z r : Nat} (h : r = 51 ∨ r = 53) : adI a z r = z := if_pos h
def σI (a : Nat) : Cs := (fun k => if k = 2 then -1 else 0, fun r => if r = 48 then (fun j => if j < 16 then -1 else 0) else fun _ => 0, fun _ _ => 0, fun r => if r = 15 then (fun j => if j < 20 then some (a + 64 + 3 * j) else none) else if r = 17 then (fun j => some (a + 35 + 1 + j)) else if r = 32 then (fun j => some (a + 50 + 1 + j)) else fun _ => none)
def AI : Av := fun j => if j = 0 then τI.1 else τI.2.1 j
section cells
variable {a z : Nat}
theorem qI_0 : (qT a z)[0]? = some (cB (adI a z) (σI a) 0) := rfl
theorem qI_1 : (qT a z)[1]? = some (cB (adI a z) (σI a) 1) := rfl
theorem qI_2 : (qT a z)[2]? = some (cB (adI a z) (σI a) 2) := rfl
theorem qI_3 : (qT a z)[3]? = some (cB (adI a z) (σI a) 3) := rfl
theorem qI_4 : (qT a z)[4]? = some (cB (adI a z) (σI a) 4) := rfl
theorem qI_5 : (qT a z)[5]? = some (cB (adI a z) (σI a) 5) := rfl
theorem qI_6 : (qT a z)[6]? = some (cB (adI a z) (σI a) 6) := rfl
theorem qI_7 : (qT a z)[7]? = some (cB (adI a z) (σI a) 7) := rfl
theorem qI_8 : (qT a z)[8]? = some (cB (adI a z) (σI a) 8) := rfl
theorem qI_9 : (qT a z)[27]? = some (cB (adI a z) (σI a) 9) := rfl
theorem qI_10 : (qT a z)[28]? = some (cB (adI a z) (σI a) 10) := rfl
theorem qI_11 : (qT a z)[29]? = some (cB (adI a z) (σI a) 11) := rfl
theorem qI_12 : (qT a z)[30]? = some (cB (adI a z) (σI a) 12) := rfl
theorem qI_13 : (qT a z)[31]? = some (cB (adI a z) (σI a) 13) := rfl
theorem qI_14 : (qT a z)[32]? = some (cB (adI a z) (σI a) 14) := rfl
theorem qI_15 : (qT a z)[33]? = some (cB (adI a z) (σI a) 15) := rfl
theorem qI_16 : (qT a z)[34]? = some (cB (adI a z) (σI a) 16) := rfl
theorem qI_17 : (qT a z)[35]? = some (cB (adI a z) (σI a) 17) := rfl
theorem qI_18 : (qT a z)[36]? = some (cB (adI a z) (σI a) 18) := rfl
theorem qI_19 : (qT a z)[37]? = some (cB (adI a z) (σI a) 19) := rfl
theorem qI_20 : (qT a z)[38]? = some (cB (adI a z) (σI a) 20) := rfl
theorem qI_21 : (qT a z)[39]? = some (cB (adI a z) (σI a) 21) := rfl
theorem qI_22 : (qT a z)[40]? = some (cB (adI a z) (σI a) 22) := rfl
theorem qI_23 : (qT a z)[41]? = some (cB (adI a z) (σI a) 23) := rfl
theorem qI_24 : (qT a z)[42]? = some (cB (adI a z) (σI a) 24) := rfl
theorem qI_25 : (qT a z)[43]? = some (cB (adI a z) (σI a) 25) := rfl
theorem qI_26 : (qT a z)[44]? = some (cB (adI a z) (σI a) 26) := rfl
theorem qI_27 : (qT a z)[45]? = some (cB (adI a z) (σI a) 27) := rfl
theorem qI_28 : (qT a z)[46]? = some (cB (adI a z) (σI a) 28) := rfl
theorem qI_29 : (qT a z)[47]? = some (cB (adI a z) (σI a) 29) := rfl
theorem qI_30 : (qT a z)[48]? = some (cB (adI a z) (σI a) 30) := rfl
theorem qI_31 : (qT a z)[49]? = some (cB (adI a z) (σI a) 31) := rfl
theorem qI_32 : (qT a z)[50]? = some (cB (adI a z) (σI a) 32) := rfl
theorem qI_33 : (qT a z)[51]? = some (cB (adI a z) (σI a) 33) := rfl
theorem qI_34 : (qT a z)[52]? = some (cB (adI a z) (σI a) 34) := rfl
theorem qI_35 : (qT a z)[53]? = some (cB (adI a z) (σI a) 35) := rfl
theorem qI_36 : (qT a z)[54]? = some (cB (adI a z) (σI a) 36) := rfl
theorem qI_37 : (qT a z)[55]? = some (cB (adI a z) (σI a) 37) := rfl
theorem qI_38 : (qT a z)[56]? = some (cB (adI a z) (σI a) 38) := rfl
theorem qI_39 : (qT a z)[57]? = some (cB (adI a z) (σI a) 39) := rfl
theorem qI_40 : (qT a z)[58]? = some (cB (adI a z) (σI a) 40) := rfl
theorem qI_41 : (qT a z)[59]? = some (cB (adI a z) (σI a) 41) := rfl
theorem qI_42 : (qT a z)[60]? = some (cB (adI a z) (σI a) 42) := rfl
theorem qI_43 : (qT a z)[61]? = some (cB (adI a z) (σI a) 43) := rfl
theorem qI_44 : (qT a z)[62]? = some (cB (adI a z) (σI a) 44) := rfl
theorem qI_45 : (qT a z)[63]? = some (cB (adI a z) (σI a) 45) := rfl
theorem qI_46 : (qT a z)[21]? = some (cB (adI a z) (σI a) 46) := rfl
theorem qI_47 : (qT a z)[22]? = some (cB (adI a z) (σI a) 47) := rfl
theorem qI_48 : (qT a z)[23]? = some (cB (adI a z) (σI a) 48) := rfl
theorem qI_49 : (qT a z)[24]? = some (cB (adI a z) (σI a) 49) := rfl
theorem qI_50 : (qT a z)[25]? = some (cB (adI a z) (σI a) 50) := rfl
theorem qI_52 : (qT a z)[26]? = some (cB (adI a z) (σI a) 52) := rfl
end cells
theorem qI_all {a z : Nat} (r : Nat) (h : r < 114) (h1 : r ≠ 51) (h3 : r ≠ 53) : (qT a z)[ixI r]? = some (cB (adI a z) (σI a) r) := by
  by_cases h54 : r < 54
  · match r, h54 with
    | 0, _ => exact qI_0
    | 1, _ => exact qI_1
    | 2, _ => exact qI_2
    | 3, _ => exact qI_3
    | 4, _ => exact qI_4
    | 5, _ => exact qI_5
    | 6, _ => exact qI_6
    | 7, _ => exact qI_7
    | 8, _ => exact qI_8
    | 9, _ => exact qI_9
    | 10, _ => exact qI_10
    | 11, _ => exact qI_11
    | 12, _ => exact qI_12
    | 13, _ => exact qI_13
    | 14, _ => exact qI_14
    | 15, _ => exact qI_15
    | 16, _ => exact qI_16
    | 17, _ => exact qI_17
    | 18, _ => exact qI_18
    | 19, _ => exact qI_19
    | 20, _ => exact qI_20
    | 21, _ => exact qI_21
    | 22, _ => exact qI_22
    | 23, _ => exact qI_23
    | 24, _ => exact qI_24
    | 25, _ => exact qI_25
    | 26, _ => exact qI_26
    | 27, _ => exact qI_27
    | 28, _ => exact qI_28
    | 29, _ => exact qI_29
    | 30, _ => exact qI_30
    | 31, _ => exact qI_31
    | 32, _ => exact qI_32
    | 33, _ => exact qI_33
    | 34, _ => exact qI_34
    | 35, _ => exact qI_35
    | 36, _ => exact qI_36
    | 37, _ => exact qI_37
    | 38, _ => exact qI_38
    | 39, _ => exact qI_39
    | 40, _ => exact qI_40
    | 41, _ => exact qI_41
    | 42, _ => exact qI_42
    | 43, _ => exact qI_43
    | 44, _ => exact qI_44
    | 45, _ => exact qI_45
    | 46, _ => exact qI_46
    | 47, _ => exact qI_47
    | 48, _ => exact qI_48
    | 49, _ => exact qI_49
    | 50, _ => exact qI_50
    | 51, _ => exact absurd rfl h1
    | 52, _ => exact qI_52
    | 53, _ => exact absurd rfl h3
    | n + 54, q => exact absurd (Nat.le_add_left 54 n) (Nat.not_le_of_lt q)
  · have hq : ∀ j i, j < 20 → i < 3 → (qT a z)[64 + 3 * j + i]? = (qX8 (a + 64 + 3 * j))[i]? := fun j i hj hi => by
      show (.inr (0, qF a) :: (qR a z (mC 16) (zQ (a + 64) 20) ++ lotsL (a + 64) 20) : List Ob)[64 + 3 * j + i]? = _
      rw [show 64 + 3 * j + i = (63 + (3 * j + i)) + 1 by omega, List.getElem?_cons_succ, List.getElem?_append_right (show 63 ≤ 63 + (3 * j + i) by omega)]
      show (lotsL (a + 64) 20)[63 + (3 * j + i) - 63]? = _
      rw [Nat.add_sub_cancel_left, lotsL_at hi 20 hj]
    by_cases h74 : r < 74
    · obtain ⟨j, rfl⟩ : ∃ j, r = 54 + j := ⟨r - 54, by omega⟩
      have e : ixI (54 + j) = 64 + 3 * j + 0 := by
        unfold ixI
        rw [if_neg (by omega), if_neg (by omega), if_neg (by omega), if_neg (by omega), if_pos (by omega)]
        omega
      have k0 : (cK (σI a) (54 + j)).1 = 0 := by
        have : ∀ j, j < 20 → (cK (σI 0) (54 + j)).1 = 0 := by decide
        rw [cK_3 (σI a) (σI 0) (by omega) (by omega)]
        exact this j (by omega)
      rw [e, hq j 0 (by omega) (by omega), cB_o k0, cO_54 ⟨by omega, h74⟩, adI_r (by omega) (by omega) (by omega), adI_r (by omega) (by omega) (by omega)]
      have e1 : ixI (54 + j + 20) = 64 + 3 * j + 1 := by
        unfold ixI
        rw [if_neg (by omega), if_neg (by omega), if_neg (by omega), if_neg (by omega), if_neg (by omega), if_pos (by omega)]
        omega
      have e2 : ixI (54 + j + 40) = 64 + 3 * j + 2 := by
        unfold ixI
        rw [if_neg (by omega), if_neg (by omega), if_neg (by omega), if_neg (by omega), if_neg (by omega), if_neg (by omega)]
        omega
      rw [e1, e2]
      show (some (.inr (8, [.ref (a + 64 + 3 * j + 1), .ref (a + 64 + 3 * j + 2)])) : Option Ob) = some (.inr (8, [.ref (a + (64 + 3 * j + 1)), .ref (a + (64 + 3 * j + 2))]))
      rw [show a + 64 + 3 * j + 1 = a + (64 + 3 * j + 1) by omega, show a + 64 + 3 * j + 2 = a + (64 + 3 * j + 2) by omega]
    · by_cases h94 : r < 94
      · obtain ⟨j, rfl⟩ : ∃ j, r = 74 + j := ⟨r - 74, by omega⟩
        have e : ixI (74 + j) = 64 + 3 * j + 1 := by
          unfold ixI
          rw [if_neg (by omega), if_neg (by omega), if_neg (by omega), if_neg (by omega), if_neg (by omega), if_pos (by omega)]
          omega
        have k0 : cK (σI 0) (74 + j) = (1, 0, 16) := by
          have : ∀ j, j < 20 → cK (σI 0) (74 + j) = (1, 0, 16) := by decide
          exact this j (by omega)
        rw [e, hq j 1 (by omega) (by omega), cB_i (by rw [cK_3 (σI a) (σI 0) (by omega) (by omega)]; exact k0)]
        have : (σI a).2.1 (74 + j) = fun _ => 0 := if_neg (by omega)
        rw [this]
        rfl
      · obtain ⟨j, rfl⟩ : ∃ j, r = 94 + j := ⟨r - 94, by omega⟩
        have e : ixI (94 + j) = 64 + 3 * j + 2 := by
          unfold ixI
          rw [if_neg (by omega), if_neg (by omega), if_neg (by omega), if_neg (by omega), if_neg (by omega), if_neg (by omega)]
          omega
        have k0 : cK (σI 0) (94 + j) = (1, 0, 8) := by
          have : ∀ j, j < 20 → cK (σI 0) (94 + j) = (1, 0, 8) := by decide
          exact this j (by omega)
        rw [e, hq j 2 (by omega) (by omega), cB_i (by rw [cK_3 (σI a) (σI 0) (by omega) (by omega)]; exact k0)]
        have : (σI a).2.1 (94 + j) = fun _ => 0 := if_neg (by omega)
        rw [this]
        rfl
theorem isN_0 {m : Nat} : isN 0 m := ⟨by decide, Nat.zero_le _⟩
theorem WF_I : WF AI := by
  have z : ∀ k, k < 6 ∨ (7 < k ∧ k < 10) ∨ 16 ≤ k → AI 6 k = 0 := fun k hk => by
    show (if 6 = 6 ∧ k = 6 then (2 : Int32) else if 6 = 6 ∧ k = 7 then 10 else if 6 = 6 ∧ 10 ≤ k ∧ k < 16 then -1 else if 6 = 7 ∧ 30 ≤ k ∧ k < 46 then -2 else 0) = 0
    rw [if_neg (by omega), if_neg (by omega), if_neg (by omega), if_neg (by omega)]
  have z7 : ∀ k, k < 30 ∨ 46 ≤ k → AI 7 k = 0 := fun k hk => by
    show (if 7 = 6 ∧ k = 6 then (2 : Int32) else if 7 = 6 ∧ k = 7 then 10 else if 7 = 6 ∧ 10 ≤ k ∧ k < 16 then -1 else if 7 = 7 ∧ 30 ≤ k ∧ k < 46 then -2 else 0) = 0
    rw [if_neg (by omega), if_neg (by omega), if_neg (by omega), if_neg (by omega)]
  have m7 : ∀ k, k < 16 → AI 7 (30 + k) = -2 := fun k hk => by
    show (if 7 = 6 ∧ 30 + k = 6 then (2 : Int32) else if 7 = 6 ∧ 30 + k = 7 then 10 else if 7 = 6 ∧ 10 ≤ 30 + k ∧ 30 + k < 16 then -1 else if 7 = 7 ∧ 30 ≤ 30 + k ∧ 30 + k < 46 then -2 else 0) = -2
    rw [if_neg (by omega), if_neg (by omega), if_neg (by omega), if_pos (by omega)]
  have n0 : ∀ k, k < 6 ∨ (7 < k ∧ k < 10) ∨ 16 ≤ k → zN AI 6 k = 0 := fun k hk => by
    unfold zN
    rw [z k hk]
    rfl
  have n7 : ∀ k, k < 30 ∨ 46 ≤ k → (AI 7 k).toNatClampNeg = 0 := fun k hk => by
    rw [z7 k hk]
    rfl
  have i6 : ∀ k m, k < 6 ∨ (7 < k ∧ k < 10) ∨ 16 ≤ k → isN (AI 6 k) m := fun k m hk => by
    rw [z k hk]
    exact isN_0
  have i7 : ∀ k m, k < 30 ∨ 46 ≤ k → isN (AI 7 k) m := fun k m hk => by
    rw [z7 k hk]
    exact isN_0
  refine ⟨⟨⟨i6 0 _ (by decide), i6 1 _ (by decide), i6 3 _ (by decide), i6 4 _ (by decide), i6 5 _ (by decide), ⟨by decide, by decide⟩, ⟨by decide, by decide⟩, i6 8 _ (by decide), i6 9 _ (by decide), by decide, by decide⟩, ?_, ?_, ?_, ?_, ?_⟩, ⟨isN_0, isN_0, isN_0, ?_, ?_, ?_, ?_⟩, ⟨⟨i7 0 _ (by decide), i7 1 _ (by decide), i7 2 _ (by decide)⟩, fun h hh => i7 _ _ (by omega), fun h hh => Or.inl (m7 h hh), fun h i hh hi e => Or.inl (m7 h hh), fun w hw => i7 _ _ (by omega), ?_, ?_⟩, ?_⟩
  · intro h hh
    rw [n0 0 (by decide)] at hh
    exact absurd hh (Nat.not_lt_zero h)
  · intro h hh
    rw [n0 1 (by decide)] at hh
    exact absurd hh (Nat.not_lt_zero h)
  · intro h hh
    rw [n0 3 (by decide)] at hh
    exact absurd hh (Nat.not_lt_zero h)
  · intro h hh
    rw [n0 4 (by decide)] at hh
    exact absurd hh (Nat.not_lt_zero h)
  · intro h hh
    rw [n0 5 (by decide)] at hh
    exact absurd hh (Nat.not_lt_zero h)
  · intro k hk
    exact absurd (show k < 0 from hk) (Nat.not_lt_zero k)
  · intro k hk
    exact isN_0
  · intro j h hj
    exact absurd (show j < 0 from hj) (Nat.not_lt_zero j)
  · intro j h hj
    exact absurd (show j < 0 from hj) (Nat.not_lt_zero j)
  · intro j hj
    rw [n7 1 (by decide)] at hj
    exact absurd hj (Nat.not_lt_zero j)
  · intro j hj
    rw [n7 2 (by decide)] at hj
    exact absurd hj (Nat.not_lt_zero j)
  · intro s hs e
    have : AI 18 (s + 1) = 0 := rfl
    rw [this] at e
    exact absurd e (by decide)
theorem TR_I : TR AI τI := by
  refine ⟨fun k _ => rfl, fun j hj => ?_⟩
  by_cases e : j = 0
  · subst e
    exact absurd hj (by decide)
  · exact (if_neg e).symm
