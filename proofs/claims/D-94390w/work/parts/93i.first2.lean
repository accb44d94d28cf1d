set_option maxRecDepth 100000
/-! the component's first memory, whole -/
variable {F : Nat}
def qX6 (a z : Nat) : List Ob := [.inr (6, [.ref (a + 1), .ref (a + 2), .ref (a + 3), .int 0, .ref (a + 4), .ref (a + 5)]), z2 0 16, z2 0 16, z2 0 8, zE z, zE z]
theorem i_X6 {M : Sw} {a z : Nat} (ha : M.2.1 = a) (hz : M.2.2.2 0 = z) : f_X6_init F M.2.1 (ovl M [.inr (6, dfX6)] 6) = some (ovl M (qX6 a z) 52) := by
  subst ha hz
  exact init6
def zG (a n : Nat) : Ob := .inl (5, (n, .inr (.inr (fun j => some (a + 1 + j)))))
theorem i_nwG {M : Sw} {a n k : Nat} (ha : M.2.1 = a) : nwG M n k = ovl M (zG a n :: List.replicate n (z2 0 k)) (n + n * k) := by
  subst ha
  refine Prod.ext (funext fun b => ?_) ?_
  · show (if b = M.2.1 then some (.inl (5, (n, .inr (.inr (fun j => some (M.2.1 + 1 + j)))))) else if M.2.1 < b ∧ b ≤ M.2.1 + n then some (.inl (0, (k, .inl fun _ => 0))) else M.1 b) = (if M.2.1 ≤ b ∧ b < M.2.1 + (zG M.2.1 n :: List.replicate n (z2 0 k)).length then (zG M.2.1 n :: List.replicate n (z2 0 k))[b - M.2.1]? else M.1 b)
    have hl : (zG M.2.1 n :: List.replicate n (z2 0 k)).length = n + 1 := by rw [List.length_cons, List.length_replicate]
    rw [hl]
    by_cases e : b = M.2.1
    · subst e
      rw [if_pos rfl, if_pos (by omega), Nat.sub_self]
      rfl
    · rw [if_neg e]
      by_cases c : M.2.1 < b ∧ b ≤ M.2.1 + n
      · obtain ⟨j, rfl⟩ : ∃ j, b = M.2.1 + (j + 1) := ⟨b - M.2.1 - 1, by omega⟩
        rw [if_pos c, if_pos (by omega), Nat.add_sub_cancel_left, List.getElem?_cons_succ, List.getElem?_replicate, if_pos (by omega)]
        rfl
      · rw [if_neg c, if_neg (by omega)]
  · show (M.2.1 + 1 + n, M.2.2.1 + n + n * k, M.2.2.2) = (M.2.1 + (zG M.2.1 n :: List.replicate n (z2 0 k)).length, M.2.2.1 + (n + n * k), M.2.2.2)
    rw [List.length_cons, List.length_replicate, Nat.add_assoc, Nat.add_comm 1 n, Nat.add_assoc M.2.2.1]
def zQ (a k : Nat) : Ob := .inl (8, (20, .inr (.inr fun j => if j < k then some (a + 3 * j) else none)))
def lotsL (a : Nat) : Nat → List Ob
  | 0 => []
  | k + 1 => lotsL a k ++ qX8 (a + 3 * k)
theorem lotsL_n {a : Nat} : ∀ k, (lotsL a k).length = 3 * k
  | 0 => rfl
  | k + 1 => by
    show (lotsL a k ++ qX8 (a + 3 * k)).length = _
    rw [List.length_append, lotsL_n k]
    show 3 * k + 3 = _
    omega
theorem lotsL_at {a j i : Nat} (hi : i < 3) : ∀ k, j < k → (lotsL a k)[3 * j + i]? = (qX8 (a + 3 * j))[i]?
  | 0, h => by omega
  | k + 1, h => by
    show (lotsL a k ++ qX8 (a + 3 * k))[3 * j + i]? = _
    by_cases e : j = k
    · subst e
      rw [List.getElem?_append_right (by rw [lotsL_n]; omega), lotsL_n, Nat.add_sub_cancel_left]
    · rw [List.getElem?_append_left (by rw [lotsL_n]; omega)]
      exact lotsL_at hi k (by omega)
theorem i_lots {M : Sw} {R : List Ob} {s i a : Nat} {fs : List Value} {K : Sw → Option Sw} (hF : 20 < F) (h8 : fs[8]? = some (.ref (M.2.1 + (i + 1)))) (hi : i < R.length) (ha : M.2.1 + (R.length + 1) = a) : f_X0_init_L172 F K M.2.1 F 0 (ovl M (.inr (0, fs) :: (R.set i (zQ a 0) ++ lotsL a 0)) s) = K (ovl M (.inr (0, fs) :: (R.set i (zQ a 20) ++ lotsL a 20)) (s + 20 * 26)) := by
  refine for_up (L := f_X0_init_L172 F K M.2.1) (N := 20) (Inv := fun k m => m = ovl M (.inr (0, fs) :: (R.set i (zQ a k) ++ lotsL a k)) (s + k * 26)) (Post := fun r => r = K (ovl M (.inr (0, fs) :: (R.set i (zQ a 20) ++ lotsL a 20)) (s + 20 * 26))) ?_ ?_ 20 0 F _ (by decide) hF (by rw [Nat.zero_mul, Nat.add_zero])
  · intro n k m hk hm
    obtain ⟨T, eT⟩ : ∃ T : List Ob, T = .inr (0, fs) :: (R.set i (zQ a k) ++ lotsL a k) := ⟨_, rfl⟩
    have hT : T.length = R.length + 1 + 3 * k := by
      rw [eT, List.length_cons, List.length_append, List.length_set, lotsL_n]
      omega
    have e2 : (ovl M T (s + k * 26)).2.1 = a + 3 * k := by
      show M.2.1 + T.length = _
      omega
    rw [← eT] at hm
    subst hm
    refine Or.inl ⟨_, rfl, ?_⟩
    show f_X0_init_L172_b F K M.2.1 (f_X0_init_L172 F K M.2.1 n) (Int32.ofNat k) _ = _
    unfold f_X0_init_L172_b
    have h20 : ¬ ((20 : Int32) ≤ Int32.ofNat k) := fun q => absurd ((c_le 20 k (by decide) (by omega)).1 q) (by omega)
    have g1 : gfR (ovl M T (s + k * 26)) M.2.1 0 8 = some (M.2.1 + (i + 1)) := iGT (i := 0) (by rw [eT]; rfl) h8
    have hi2 : i + 1 < (T ++ qX8 (a + 3 * k)).length := by
      rw [List.length_append, hT]
      show i + 1 < R.length + 1 + 3 * k + 3
      omega
    have hz : (T ++ qX8 (a + 3 * k))[i + 1]? = some (zQ a k) := by
      rw [List.getElem?_append_left (by omega), eT, List.getElem?_cons_succ, List.getElem?_append_left (by rw [List.length_set]; exact hi), List.getElem?_set_self hi]
    have g2 : sQ (ovl M (T ++ qX8 (a + 3 * k)) (s + k * 26 + 26)) 8 (M.2.1 + (i + 1)) (Int32.ofNat k) (some (a + 3 * k)) = some (ovl M (.inr (0, fs) :: (R.set i (zQ a (k + 1)) ++ lotsL a (k + 1))) (s + (k + 1) * 26)) := by
      have e : sQ (ovl M (T ++ qX8 (a + 3 * k)) (s + k * 26 + 26)) 8 (M.2.1 + (i + 1)) (Int32.ofNat k) (some (a + 3 * k)) = some (mup (ovl M (T ++ qX8 (a + 3 * k)) (s + k * 26 + 26)).1 (M.2.1 + (i + 1)) (.inl (8, (20, .inr (.inr (va_up (fun j => if j < k then some (a + 3 * j) else none) k (some (a + 3 * k))))))), (ovl M (T ++ qX8 (a + 3 * k)) (s + k * 26 + 26)).2) := m_sQ (ov_at hz) hk (by decide)
      rw [e, ov_mup hi2]
      have e3 : (.inl (8, (20, .inr (.inr (va_up (fun j => if j < k then some (a + 3 * j) else none) k (some (a + 3 * k)))))) : Ob) = zQ a (k + 1) := by
        unfold zQ
        congr 5
        funext j
        unfold va_up
        by_cases e : j = k
        · subst e
          rw [if_pos rfl, if_pos (Nat.lt_succ_self _)]
        · rw [if_neg e]
          by_cases c : j < k
          · exact (if_pos c).trans (if_pos (by omega)).symm
          · exact (if_neg c).trans (if_neg (by omega)).symm
      rw [e3, eT]
      have e4 : (.inr (0, fs) :: (R.set i (zQ a k) ++ lotsL a k) ++ qX8 (a + 3 * k)).set (i + 1) (zQ a (k + 1)) = (.inr (0, fs) :: (R.set i (zQ a (k + 1)) ++ lotsL a (k + 1)) : List Ob) := by
        show .inr (0, fs) :: ((R.set i (zQ a k) ++ lotsL a k) ++ qX8 (a + 3 * k)).set i (zQ a (k + 1)) = .inr (0, fs) :: (R.set i (zQ a (k + 1)) ++ (lotsL a k ++ qX8 (a + 3 * k)))
        rw [List.append_assoc, List.set_append_left _ _ (by rw [List.length_set]; exact hi), List.set_set]
      rw [e4, show s + k * 26 + 26 = s + (k + 1) * 26 by omega]
    have g3 : oc (ovl M (T ++ qX8 (a + 3 * k)) (s + k * 26 + 26)) (a + 3 * k) 8 = some () := by
      have : M.2.1 + T.length = a + 3 * k := by omega
      have g : (T ++ qX8 (a + 3 * k))[T.length]? = some (.inr (8, [.ref (a + 3 * k + 1), .ref (a + 3 * k + 2)])) := by
        rw [List.getElem?_append_right (Nat.le_refl _), Nat.sub_self]
        rfl
      have g' := ov_at (M := M) (s := s + k * 26 + 26) g
      rw [this] at g'
      exact m_oc g'
    rw [if_neg h20, g1, Option.bind_some, nmE, ov_new, i_X8 e2, Option.bind_some, ov_app, e2, g2, Option.bind_some, g3, Option.bind_some, nmE, n_lp]
  · intro n m hm
    subst hm
    show f_X0_init_L172_b F K M.2.1 (f_X0_init_L172 F K M.2.1 n) (Int32.ofNat 20) _ = _
    unfold f_X0_init_L172_b
    rw [if_pos (by decide)]
theorem i_fill0 {M : Sw} {T : List Ob} {s i k6 : Nat} {fs f6 : List Value} (hF : 16 < F) (h0 : T[0]? = some (.inr (0, fs))) (h4 : fs[4]? = some (.ref (M.2.1 + k6))) (h6 : T[k6]? = some (.inr (6, f6))) (h1 : f6[1]? = some (.ref (M.2.1 + i))) (hi : i < T.length) (i0 : i ≠ 0) (i6 : i ≠ k6) : f_X0_init_L199 F M.2.1 F 0 (ovl M (T.set i (mC 0)) s) = some (ovl M (T.set i (mC 16)) s) := by
  refine for_up (L := f_X0_init_L199 F M.2.1) (N := 16) (Inv := fun k m => m = ovl M (T.set i (mC k)) s) (Post := fun r => r = some (ovl M (T.set i (mC 16)) s)) ?_ ?_ 16 0 F _ (by decide) hF rfl
  · intro n k m hk hm
    subst hm
    refine Or.inl ⟨_, rfl, ?_⟩
    show f_X0_init_L199_b F M.2.1 (f_X0_init_L199 F M.2.1 n) (Int32.ofNat k) _ = _
    unfold f_X0_init_L199_b
    have h16 : ¬ ((16 : Int32) ≤ Int32.ofNat k) := fun q => absurd ((c_le 16 k (by decide) (by omega)).1 q) (by omega)
    have g1 : gfR (ovl M (T.set i (mC k)) s) M.2.1 0 4 = some (M.2.1 + k6) := iGT (i := 0) (by rw [set_at (Ne.symm i0)]; exact h0) h4
    have g2 : gfR (ovl M (T.set i (mC k)) s) (M.2.1 + k6) 6 1 = some (M.2.1 + i) := iGT (by rw [set_at (Ne.symm i6)]; exact h6) h1
    rw [if_neg h16, g1, Option.bind_some, g2, Option.bind_some, m_mC hi hk, Option.bind_some, nmE, n_lp]
  · intro n m hm
    subst hm
    show f_X0_init_L199_b F M.2.1 (f_X0_init_L199 F M.2.1 n) (Int32.ofNat 16) _ = _
    unfold f_X0_init_L199_b
    rw [if_pos (by decide)]
/-- the main object's fields -/
def qF (a : Nat) : List Value := [.ref (a + 1), .ref (a + 6), .int (-1), .ref (a + 9), .ref (a + 21), .ref (a + 27), .ref (a + 28), .ref (a + 30), .ref (a + 33), .int 0, .ref (a + 34), .int 0, .ref (a + 35), .int 0, .ref (a + 45), .ref (a + 46), .ref (a + 47), .ref (a + 48), .ref (a + 49), .ref (a + 50)]
def qR (a z : Nat) (o l : Ob) : List Ob := [.inr (1, [.ref (a + 1 + 1), .int 0, .ref (a + 1 + 2), .ref (a + 1 + 3), .ref (a + 1 + 4), .int 0]), z2 2 2000, z2 3 402, z2 3 402, zL 1 402,
  .inr (2, [.ref (a + 1), .int 0, .int 0, .int 0, .int 0, .null, .ref (a + 6 + 1), .ref (a + 6 + 2), .int 0]), zL 1 28, z2 0 28,
  .inr (3, [.ref (a + 9 + 1), .ref (a + 9 + 2), .ref (a + 9 + 3), .ref (a + 9 + 4), .ref (a + 9 + 5), .ref (a + 9 + 6), .int 0, .ref (a + 9 + 7), .int 0, .ref (a + 9 + 8), .int 0, .int 2, .int 10, .ref (a + 9 + 9), .ref (a + 9 + 10), .ref (a + 9 + 11)]), zE z, zE z, zE z, zE z, zE z, z2 0 12, mC 16, z2 4 16, .inr (4, [.int 0]), .inr (5, [.int 1]), .inr (4, [.int 0]),
  .inr (6, [.ref (a + 21 + 1), .ref (a + 21 + 2), .ref (a + 21 + 3), .int 0, .ref (a + 21 + 4), .ref (a + 21 + 5)]), z2 0 16, o, z2 0 8, zE z, zE z,
  .inl (7, (2, .inr (.inr fun _ => none))), .inr (7, [.ref (a + 28 + 1), .int 0]), z2 0 9, .inr (8, [.ref (a + 30 + 1), .ref (a + 30 + 2)]), z2 0 16, z2 0 8, l, z2 0 12,
  zG (a + 35) 9, z2 0 100, z2 0 100, z2 0 100, z2 0 100, z2 0 100, z2 0 100, z2 0 100, z2 0 100, z2 0 100,
  z2 0 8, z2 0 8, z2 2 256, z2 4 256, z2 0 16,
  zG (a + 50) 13, z2 0 100, z2 0 100, z2 0 100, z2 0 100, z2 0 100, z2 0 100, z2 0 100, z2 0 100, z2 0 100, z2 0 100, z2 0 100, z2 0 100, z2 0 100]
def qT (a z : Nat) : List Ob := .inr (0, qF a) :: (qR a z (mC 16) (zQ (a + 64) 20) ++ lotsL (a + 64) 20)
theorem i_X0 {M : Sw} {z : Nat} (hF : 20 < F) (hz : M.2.2.2 0 = z) : ∃ s, s ≤ 30000 ∧ f_X0_init F M.2.1 (nw M (.inr (0, dfX0)) 20) = some (ovl M (qT M.2.1 z) s) := by
  refine ⟨6784, by decide, ?_⟩
  rw [ov_new]
  unfold f_X0_init
  rw [nmE, ov_new, i_X1 (M := ovl M _ _) (a := M.2.1 + 1) rfl, Option.bind_some, iC (n := 1) rfl rfl, Option.bind_some]
  rw [nmE, ov_new, iG (v := M.2.1 + 1) rfl, Option.bind_some, i_X2 (M := ovl M _ _) (a := M.2.1 + 6) rfl, Option.bind_some, iC (n := 6) rfl rfl, Option.bind_some]
  rw [iI rfl, Option.bind_some]
  rw [nmE, ov_new, i_X3 (M := ovl M _ _) (a := M.2.1 + 9) (z := z) (by omega) rfl hz, Option.bind_some, iC (n := 9) rfl rfl, Option.bind_some]
  rw [nmE, ov_new, i_X6 (M := ovl M _ _) (a := M.2.1 + 21) (z := z) rfl hz, Option.bind_some, iC (n := 21) rfl rfl, Option.bind_some]
  rw [nmE, ov_new, iC (n := 27) rfl rfl, Option.bind_some]
  rw [nmE, ov_new, i_X7 (M := ovl M _ _) (a := M.2.1 + 28) rfl, Option.bind_some, iC (n := 28) rfl rfl, Option.bind_some]
  rw [nmE, ov_new, i_X8 (M := ovl M _ _) (a := M.2.1 + 30) rfl, Option.bind_some, iC (n := 30) rfl rfl, Option.bind_some]
  rw [nmE, ov_new, iC (n := 33) rfl rfl, Option.bind_some]
  rw [nmE, ov_new, iC (n := 34) rfl rfl, Option.bind_some]
  rw [nmE, i_nwG (M := ovl M _ _) (a := M.2.1 + 35) rfl, iC (n := 35) rfl rfl, Option.bind_some]
  rw [nmE, ov_new, iC (n := 45) rfl rfl, Option.bind_some]
  rw [nmE, ov_new, iC (n := 46) rfl rfl, Option.bind_some]
  rw [nmE, ov_new, iC (n := 47) rfl rfl, Option.bind_some]
  rw [nmE, ov_new, iC (n := 48) rfl rfl, Option.bind_some]
  rw [nmE, ov_new, iC (n := 49) rfl rfl, Option.bind_some]
  rw [nmE, i_nwG (M := ovl M _ _) (a := M.2.1 + 50) rfl, iC (n := 50) rfl rfl, Option.bind_some]
  have hl := i_lots (F := F) (M := M) (R := qR M.2.1 z (z2 0 16) (zQ (M.2.1 + 64) 0)) (s := 6264) (i := 32) (a := M.2.1 + 64) (fs := qF M.2.1) (K := fun μ81 => f_X0_init_L199 F M.2.1 F 0 μ81) hF rfl (show 32 < 63 by decide) rfl
  have hf := i_fill0 (F := F) (M := M) (T := .inr (0, qF M.2.1) :: ((qR M.2.1 z (z2 0 16) (zQ (M.2.1 + 64) 0)).set 32 (zQ (M.2.1 + 64) 20) ++ lotsL (M.2.1 + 64) 20)) (s := 6784) (i := 23) (k6 := 21) (fs := qF M.2.1) (by omega) rfl rfl rfl rfl (by rw [List.length_cons, List.length_append, lotsL_n]; omega) (by decide) (by decide)
  refine Eq.trans ?_ (hl.trans (Eq.trans ?_ hf))
  · rfl
  · show f_X0_init_L199 F M.2.1 F 0 _ = f_X0_init_L199 F M.2.1 F 0 _
    rw [mC_0]
    rfl
