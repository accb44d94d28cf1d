set_option maxRecDepth 100000
/-! the component's first memory -/
variable {F : Nat}
theorem ov_app {M : Sw} {T Q : List Ob} {s t : Nat} : ovl (ovl M T s) Q t = ovl M (T ++ Q) (s + t) := by
  refine Prod.ext (funext fun b => ?_) ?_
  · show (if M.2.1 + T.length ≤ b ∧ b < M.2.1 + T.length + Q.length then Q[b - (M.2.1 + T.length)]? else if M.2.1 ≤ b ∧ b < M.2.1 + T.length then T[b - M.2.1]? else M.1 b) = (if M.2.1 ≤ b ∧ b < M.2.1 + (T ++ Q).length then (T ++ Q)[b - M.2.1]? else M.1 b)
    rw [List.length_append]
    by_cases c : M.2.1 + T.length ≤ b ∧ b < M.2.1 + T.length + Q.length
    · rw [if_pos c, if_pos (by omega), List.getElem?_append_right (by omega)]
      congr 1
      omega
    · rw [if_neg c]
      by_cases d : M.2.1 ≤ b ∧ b < M.2.1 + T.length
      · rw [if_pos d, if_pos (by omega), List.getElem?_append_left (by omega)]
      · rw [if_neg d, if_neg (by omega)]
  · show (M.2.1 + T.length + Q.length, M.2.2.1 + s + t, M.2.2.2) = (M.2.1 + (T ++ Q).length, M.2.2.1 + (s + t), M.2.2.2)
    rw [List.length_append, Nat.add_assoc, Nat.add_assoc]
theorem iC {M : Sw} {R Q : List Ob} {s t c j n : Nat} {fs : List Value} (h : decide (j < fs.length) = true) (hn : R.length + 1 = n) : pf (ovl (ovl M (.inr (c, fs) :: R) s) Q t) M.2.1 c j (.ref (ovl M (.inr (c, fs) :: R) s).2.1) = some (ovl M (.inr (c, fs.set j (.ref (M.2.1 + n))) :: (R ++ Q)) (s + t)) := by
  subst hn
  rw [ov_app]
  exact ov_pf (i := 0) (T := .inr (c, fs) :: (R ++ Q)) rfl (of_decide_eq_true h)
theorem iI {M : Sw} {R : List Ob} {s c j : Nat} {fs : List Value} {v : Value} (h : decide (j < fs.length) = true) : pf (ovl M (.inr (c, fs) :: R) s) M.2.1 c j v = some (ovl M (.inr (c, fs.set j v) :: R) s) := ov_pf (i := 0) (T := .inr (c, fs) :: R) rfl (of_decide_eq_true h)
theorem iG {M : Sw} {R Q : List Ob} {s t c j v : Nat} {fs : List Value} (h : fs[j]? = some (.ref v)) : gfR (ovl (ovl M (.inr (c, fs) :: R) s) Q t) M.2.1 c j = some v := by
  have e : gf (ovl M (.inr (c, fs) :: R ++ Q) (s + t)) M.2.1 c j = some (.ref v) := m_gf (ov_at (i := 0) (T := .inr (c, fs) :: (R ++ Q)) rfl) h
  unfold gfR
  rw [ov_app, e]
theorem iGT {M : Sw} {T : List Ob} {s i c j v : Nat} {fs : List Value} (ho : T[i]? = some (.inr (c, fs))) (h : fs[j]? = some (.ref v)) : gfR (ovl M T s) (M.2.1 + i) c j = some v := by
  unfold gfR
  rw [m_gf (ov_at ho) h]
def z2 (t n : Nat) : Ob := .inl (t, (n, .inl fun _ => 0))
def zL (t n : Nat) : Ob := .inl (t, (n, .inr (.inl fun _ => 0)))
def zE (z : Nat) : Ob := .inr (20, [.int 0, .ref z, .int 0])
def qX1 (a : Nat) : List Ob := [.inr (1, [.ref (a + 1), .int 0, .ref (a + 2), .ref (a + 3), .ref (a + 4), .int 0]), z2 2 2000, z2 3 402, z2 3 402, zL 1 402]
theorem i_X1 {M : Sw} {a : Nat} (ha : M.2.1 = a) : f_X1_init F M.2.1 (ovl M [.inr (1, dfX1)] 6) = some (ovl M (qX1 a) 3212) := by
  subst ha
  unfold f_X1_init
  rw [nmE, ov_new, iC (n := 1) rfl rfl, Option.bind_some, nmE, ov_new, iC (n := 2) rfl rfl, Option.bind_some, nmE, ov_new, iC (n := 3) rfl rfl, Option.bind_some, nmE, ov_new, iC (n := 4) rfl rfl, Option.bind_some]
  rfl
def qX2 (a p : Nat) : List Ob := [.inr (2, [.ref p, .int 0, .int 0, .int 0, .int 0, .null, .ref (a + 1), .ref (a + 2), .int 0]), zL 1 28, z2 0 28]
theorem i_X2 {M : Sw} {a p : Nat} (ha : M.2.1 = a) : f_X2_init F M.2.1 p (ovl M [.inr (2, dfX2)] 9) = some (ovl M (qX2 a p) 65) := by
  subst ha
  unfold f_X2_init
  rw [nmE, ov_new, iC (n := 1) rfl rfl, Option.bind_some, nmE, ov_new, iC (n := 2) rfl rfl, Option.bind_some, iI rfl, Option.bind_some]
  rfl
theorem i_J2 {M : Sw} {z : Nat} (hz : M.2.2.2 0 = z) : f_J2_init F M.2.1 (ovl M [.inr (20, dfJ2)] 3) = some (ovl M [zE z] 3) := by
  subst hz
  unfold f_J2_init f_J1_init f_J0_init
  rw [Option.bind_some, iI rfl, Option.bind_some, Option.bind_some, iI rfl, Option.bind_some]
  rfl
theorem i_X4 {M : Sw} {v : Int32} : f_X4_init F M.2.1 v (ovl M [.inr (4, dfX4)] 1) = some (ovl M [.inr (4, [.int v])] 1) := by
  unfold f_X4_init f_J3_init
  rw [Option.bind_some, iI rfl, Option.bind_some]
  rfl
theorem i_X5 {M : Sw} {v : Int32} : f_X5_init F M.2.1 v (ovl M [.inr (5, dfX5)] 1) = some (ovl M [.inr (5, [.int v])] 1) := by
  unfold f_X5_init f_J3_init
  rw [Option.bind_some, iI rfl, Option.bind_some]
  rfl
theorem i_X7 {M : Sw} {a : Nat} (ha : M.2.1 = a) : f_X7_init F M.2.1 (ovl M [.inr (7, dfX7)] 2) = some (ovl M [.inr (7, [.ref (a + 1), .int 0]), z2 0 9] 11) := by
  subst ha
  unfold f_X7_init
  rw [nmE, ov_new, iC (n := 1) rfl rfl, Option.bind_some]
  rfl
def qX8 (a : Nat) : List Ob := [.inr (8, [.ref (a + 1), .ref (a + 2)]), z2 0 16, z2 0 8]
theorem i_X8 {M : Sw} {a : Nat} (ha : M.2.1 = a) : f_X8_init F M.2.1 (ovl M [.inr (8, dfX8)] 2) = some (ovl M (qX8 a) 26) := by
  subst ha
  unfold f_X8_init
  rw [nmE, ov_new, iC (n := 1) rfl rfl, Option.bind_some, nmE, ov_new, iC (n := 2) rfl rfl, Option.bind_some]
  rfl
/-- an array whose first k are -1 -/
def mC (k : Nat) : Ob := .inl (0, (16, .inl fun j => if j < k then -1 else 0))
theorem mC_0 : mC 0 = z2 0 16 := by
  unfold mC z2
  congr 4
theorem m_sI {M : Sw} {a t n k : Nat} {f : Nat → Int32} {x : Int32} (h : M.1 a = some (.inl (t, (n, .inl f)))) (hk : k < n) (hn : n ≤ 2147483648) : sI M t a (Int32.ofNat k) x = some (mup M.1 a (.inl (t, (n, .inl (upd f k (nar t x))))), M.2) := by
  unfold sI
  rw [h]
  show (if t = t ∧ ¬ (Int32.ofNat k < 0 ∨ n ≤ (Int32.ofNat k).toNatClampNeg) then some (mup M.1 a (.inl (t, (n, .inl (upd f (Int32.ofNat k).toNatClampNeg (nar t x))))), M.2) else none) = _
  rw [if_pos ⟨rfl, i_in hk hn⟩, i_cl hk hn]
theorem m_mC {M : Sw} {T : List Ob} {s i k : Nat} (hi : i < T.length) (hk : k < 16) : sI (ovl M (T.set i (mC k)) s) 0 (M.2.1 + i) (Int32.ofNat k) (-1) = some (ovl M (T.set i (mC (k + 1))) s) := by
  have e : sI (ovl M (T.set i (mC k)) s) 0 (M.2.1 + i) (Int32.ofNat k) (-1) = some (mup (ovl M (T.set i (mC k)) s).1 (M.2.1 + i) (.inl (0, (16, .inl (upd (fun j => if j < k then -1 else 0) k (nar 0 (-1)))))), (ovl M (T.set i (mC k)) s).2) := m_sI (ov_at (set_me hi)) hk (by decide)
  rw [e, ov_mup (by rw [List.length_set]; exact hi), List.set_set, nar0]
  congr 3
  unfold mC
  congr 4
  funext j
  by_cases e : j = k
  · subst e
    rw [up_s, if_pos (Nat.lt_succ_self _)]
  · rw [up_n _ _ _ _ e]
    by_cases c : j < k
    · rw [if_pos c, if_pos (by omega)]
    · rw [if_neg c, if_neg (by omega)]
theorem i_fill {M : Sw} {R : List Ob} {s i : Nat} {fs : List Value} (hF : 16 < F) (h7 : fs[7]? = some (.ref (M.2.1 + (i + 1)))) (hi : i < R.length) : f_X3_init_L132 F M.2.1 F 0 (ovl M (.inr (3, fs) :: R.set i (mC 0)) s) = some (ovl M (.inr (3, fs) :: R.set i (mC 16)) s) := by
  refine for_up (L := f_X3_init_L132 F M.2.1) (N := 16) (Inv := fun k m => m = ovl M (.inr (3, fs) :: R.set i (mC k)) s) (Post := fun r => r = some (ovl M (.inr (3, fs) :: R.set i (mC 16)) s)) ?_ ?_ 16 0 F _ (by decide) hF rfl
  · intro n k m hk hm
    subst hm
    refine Or.inl ⟨_, rfl, ?_⟩
    show f_X3_init_L132_b F M.2.1 (f_X3_init_L132 F M.2.1 n) (Int32.ofNat k) _ = _
    unfold f_X3_init_L132_b
    have hs : sI (ovl M (.inr (3, fs) :: R.set i (mC k)) s) 0 (M.2.1 + (i + 1)) (Int32.ofNat k) (-1) = some (ovl M (.inr (3, fs) :: R.set i (mC (k + 1))) s) := m_mC (T := .inr (3, fs) :: R) (i := i + 1) (Nat.succ_lt_succ hi) hk
    have h16 : ¬ ((16 : Int32) ≤ Int32.ofNat k) := fun q => absurd ((c_le 16 k (by decide) (by omega)).1 q) (by omega)
    rw [if_neg h16, show gfR (ovl M (.inr (3, fs) :: R.set i (mC k)) s) M.2.1 3 7 = _ from iGT (i := 0) (T := .inr (3, fs) :: R.set i (mC k)) rfl h7, Option.bind_some, hs, Option.bind_some, nmE, n_lp]
  · intro n m hm
    subst hm
    show f_X3_init_L132_b F M.2.1 (f_X3_init_L132 F M.2.1 n) (Int32.ofNat 16) _ = _
    unfold f_X3_init_L132_b
    rw [if_pos (by decide)]
def qX3 (a z : Nat) : List Ob := [.inr (3, [.ref (a + 1), .ref (a + 2), .ref (a + 3), .ref (a + 4), .ref (a + 5), .ref (a + 6), .int 0, .ref (a + 7), .int 0, .ref (a + 8), .int 0, .int 2, .int 10, .ref (a + 9), .ref (a + 10), .ref (a + 11)]), zE z, zE z, zE z, zE z, zE z, z2 0 12, mC 16, z2 4 16, .inr (4, [.int 0]), .inr (5, [.int 1]), .inr (4, [.int 0])]
theorem i_X3 {M : Sw} {a z : Nat} (hF : 16 < F) (ha : M.2.1 = a) (hz : M.2.2.2 0 = z) : f_X3_init F M.2.1 (ovl M [.inr (3, dfX3)] 16) = some (ovl M (qX3 a z) 78) := by
  subst ha
  unfold f_X3_init
  rw [nmE, ov_new, i_J2 (M := ovl M _ _) (z := z) hz, Option.bind_some, iC (n := 1) rfl rfl, Option.bind_some]
  rw [nmE, ov_new, i_J2 (M := ovl M _ _) (z := z) hz, Option.bind_some, iC (n := 2) rfl rfl, Option.bind_some]
  rw [nmE, ov_new, i_J2 (M := ovl M _ _) (z := z) hz, Option.bind_some, iC (n := 3) rfl rfl, Option.bind_some]
  rw [nmE, ov_new, i_J2 (M := ovl M _ _) (z := z) hz, Option.bind_some, iC (n := 4) rfl rfl, Option.bind_some]
  rw [nmE, ov_new, i_J2 (M := ovl M _ _) (z := z) hz, Option.bind_some, iC (n := 5) rfl rfl, Option.bind_some]
  rw [nmE, ov_new, iC (n := 6) rfl rfl, Option.bind_some]
  rw [nmE, ov_new, iC (n := 7) rfl rfl, Option.bind_some]
  rw [nmE, ov_new, iC (n := 8) rfl rfl, Option.bind_some]
  rw [iI rfl, Option.bind_some, iI rfl, Option.bind_some]
  rw [nmE, ov_new, i_X4, Option.bind_some, iC (n := 9) rfl rfl, Option.bind_some]
  rw [nmE, ov_new, i_X5, Option.bind_some, iC (n := 10) rfl rfl, Option.bind_some]
  rw [nmE, ov_new, i_X4, Option.bind_some, iC (n := 11) rfl rfl, Option.bind_some]
  have := i_fill (F := F) (M := M) (R := [zE z, zE z, zE z, zE z, zE z, z2 0 12, z2 0 16, z2 4 16, .inr (4, [.int 0]), .inr (5, [.int 1]), .inr (4, [.int 0])]) (s := 78) (i := 6) (fs := [.ref (M.2.1 + 1), .ref (M.2.1 + 2), .ref (M.2.1 + 3), .ref (M.2.1 + 4), .ref (M.2.1 + 5), .ref (M.2.1 + 6), .int 0, .ref (M.2.1 + 7), .int 0, .ref (M.2.1 + 8), .int 0, .int 2, .int 10, .ref (M.2.1 + 9), .ref (M.2.1 + 10), .ref (M.2.1 + 11)]) hF rfl (show 6 < 11 by decide)
  rw [mC_0] at this
  exact this
