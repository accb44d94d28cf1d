set_option maxRecDepth 100000
/-! the reading's end: the component's new state -/
variable {X X' X2 : Nat → Option Ob} {ad ad' : Nat → Nat} {B B' B2 : Sw} {A A' A2 : Av} {σ σ' σ2 : Cs} {τ τ' τ2 : Tw} {F : Nat}
theorem sI_ov {M : Sw} {T : List Ob} {s i t n k : Nat} {f : Nat → Int32} {v : Int32} (h : T[i]? = some (.inl (t, (n, .inl f)))) (hk : k < n) (hn : n ≤ 2147483648) : sI (ovl M T s) t (M.2.1 + i) (Int32.ofNat k) v = some (ovl M (T.set i (.inl (t, (n, .inl (upd f k (nar t v)))))) s) := by
  have hi : i < T.length := by
    obtain ⟨q, -⟩ := List.getElem?_eq_some_iff.1 h
    exact q
  rw [m_sI (ov_at h) hk hn, ov_mup hi]
/-- the first k of a row -/
def rowF (H : Nat → Int32) (k : Nat) : Nat → Int32 := fun j => if j < k then H j else 0
theorem rowF_0 {H : Nat → Int32} : rowF H 0 = fun _ => 0 := rfl
theorem rowF_up {H : Nat → Int32} {k : Nat} {v : Int32} (hv : v = H k) : upd (rowF H k) k v = rowF H (k + 1) := by
  funext j
  unfold rowF
  by_cases e : j = k
  · subst e
    rw [up_s, if_pos (Nat.lt_succ_self _), hv]
  · rw [up_n _ _ _ _ e]
    by_cases q : j < k
    · rw [if_pos q, if_pos (by omega)]
    · rw [if_neg q, if_neg (by omega)]
/-- the new state's cells -/
def nsT (a z : Nat) (f1 f2 f3 : Nat → Int32) : List Ob := [.inr (6, [.ref (a + 1), .ref (a + 2), .ref (a + 3), .int 0, .ref (a + 4), .ref (a + 5)]), .inl (0, (16, .inl f1)), .inl (0, (16, .inl f2)), .inl (0, (8, .inl f3)), zE z, zE z]
theorem nsT_0 {a z : Nat} : qX6 a z = nsT a z (fun _ => 0) (fun _ => 0) (fun _ => 0) := rfl
/-- what the component reads of the town -/
def TWR (ad : Nat → Nat) (B : Sw) (nh nw : Nat) (eh ew : Nat → Nat) (H W fo : Nat → Int32) : Prop := (∃ fs, B.1 (ad 114) = some (.inr (3, fs)) ∧ fs[0]? = some (.ref (ad 115)) ∧ fs[2]? = some (.ref (ad 117)) ∧ fs[7]? = some (.ref (ad 121))) ∧ (LB B (ad 115) nh eh ∧ ∀ k, k < nh → ∃ x y, B.1 (eh k) = some (.inr (11, [.int x, .int (H k), .int y]))) ∧ (LB B (ad 117) nw ew ∧ ∀ k, k < nw → ∃ x, B.1 (ew k) = some (.inr (13, [.int x, .int (W k)]))) ∧ B.1 (ad 121) = some (.inl (0, (16, .inl fo))) ∧ nh ≤ 16 ∧ nw ≤ 8
theorem TWR.gr {nh nw : Nat} {eh ew : Nat → Nat} {H W fo : Nat → Int32} (h : TWR ad B nh nw eh ew H W fo) (g : Gr B B') : TWR ad B' nh nw eh ew H W fo := by
  obtain ⟨⟨fs, a1, a2⟩, ⟨b1, b2⟩, ⟨c1, c2⟩, d1, d2⟩ := h
  refine ⟨⟨fs, g _ _ a1, a2⟩, ⟨b1.gr g, fun k hk => ?_⟩, ⟨c1.gr g, fun k hk => ?_⟩, g _ _ d1, d2⟩
  · obtain ⟨x, y, q⟩ := b2 k hk
    exact ⟨x, y, g _ _ q⟩
  · obtain ⟨x, q⟩ := c2 k hk
    exact ⟨x, g _ _ q⟩
theorem r_L50 {K : Sw → Option (Int32 × Sw)} (hF : 100 ≤ F) (hA : AdOK ad B) {nh nw z : Nat} {eh ew : Nat → Nat} {H W fo f2 f3 : Nat → Int32} (h : TWR ad B nh nw eh ew H W fo) : f_X0_read_L50 F K (ad 0) B.2.1 F 0 (ovl (cM X ad σ B) (nsT B.2.1 z (fun _ => 0) f2 f3) 52) = K (ovl (cM X ad σ B) (nsT B.2.1 z (rowF H nh) f2 f3) 52) := by
  obtain ⟨-, -, -, -, h16, -⟩ := h
  refine for_up (L := f_X0_read_L50 F K (ad 0) B.2.1) (N := nh) (Inv := fun k m => m = ovl (cM X ad σ B) (nsT B.2.1 z (rowF H k) f2 f3) 52) (Post := fun r => r = K (ovl (cM X ad σ B) (nsT B.2.1 z (rowF H nh) f2 f3) 52)) ?_ ?_ nh 0 F _ (by omega) (by omega) rfl
  · intro n k m hk hm
    subst hm
    have hA' : AdOK ad (ovl B (nsT B.2.1 z (rowF H k) f2 f3) 52) := ov_ad hA
    obtain ⟨⟨fs, a1, a2, a3, a4⟩, ⟨b1, b2⟩, -⟩ := h.gr (ov_gr hA (T := nsT B.2.1 z (rowF H k) f2 f3) (s := 52))
    obtain ⟨x, y, hq⟩ := b2 k hk
    refine Or.inl ⟨_, rfl, ?_⟩
    show f_X0_read_L50_b F K (ad 0) B.2.1 (f_X0_read_L50 F K (ad 0) B.2.1 n) (Int32.ofNat k) _ = _
    have hk' : ¬ Int32.ofNat nh ≤ Int32.ofNat k := fun q => by
      have := (c_le nh k (by omega) (by omega)).1 q
      omega
    have ho : (ovl B (nsT B.2.1 z (rowF H k) f2 f3) 52).1 B.2.1 = some (.inr (6, [.ref (B.2.1 + 1), .ref (B.2.1 + 2), .ref (B.2.1 + 3), .int 0, .ref (B.2.1 + 4), .ref (B.2.1 + 5)])) := ov_at (i := 0) rfl
    have hs : sI (ovl (cM X ad σ B) (nsT B.2.1 z (rowF H k) f2 f3) 52) 0 (B.2.1 + 1) (Int32.ofNat k) (H k) = some (ovl (cM X ad σ B) (nsT B.2.1 z (rowF H (k + 1)) f2 f3) 52) := by
      have := sI_ov (M := cM X ad σ B) (T := nsT B.2.1 z (rowF H k) f2 f3) (s := 52) (i := 1) (t := 0) (n := 16) (k := k) (f := rowF H k) (v := H k) rfl (by omega) (by decide)
      rw [nar0, rowF_up rfl] at this
      exact this
    unfold f_X0_read_L50_b
    rw [ov_cM, o0_3 hA', Option.bind_some, F_gR a1 a2, Option.bind_some, F_ocL b1, Option.bind_some, F_size b1, Option.bind_some, if_neg hk', F_gR (k := 0) ho rfl, Option.bind_some, Option.bind_some, Option.bind_some, Option.bind_some, F_get b1 hk, Option.bind_some, F_oc hq, Option.bind_some, F_gI (k := 1) hq rfl, Option.bind_some, ← ov_cM, hs, Option.bind_some, nmE, n_lp]
  · intro n m hm
    subst hm
    have hA' : AdOK ad (ovl B (nsT B.2.1 z (rowF H nh) f2 f3) 52) := ov_ad hA
    obtain ⟨⟨fs, a1, a2, a3, a4⟩, ⟨b1, b2⟩, -⟩ := h.gr (ov_gr hA (T := nsT B.2.1 z (rowF H nh) f2 f3) (s := 52))
    show f_X0_read_L50_b F K (ad 0) B.2.1 (f_X0_read_L50 F K (ad 0) B.2.1 n) (Int32.ofNat nh) _ = _
    unfold f_X0_read_L50_b
    rw [ov_cM, o0_3 hA', Option.bind_some, F_gR a1 a2, Option.bind_some, F_ocL b1, Option.bind_some, F_size b1, Option.bind_some, if_pos (Int32.le_refl _)]
theorem r_L113 {K : Sw → Option (Int32 × Sw)} (hF : 100 ≤ F) (hA : AdOK ad B) {nh nw z : Nat} {eh ew : Nat → Nat} {H W fo f1 f2 : Nat → Int32} (h : TWR ad B nh nw eh ew H W fo) : f_X0_read_L113 F K (ad 0) B.2.1 F 0 (ovl (cM X ad σ B) (nsT B.2.1 z f1 f2 (fun _ => 0)) 52) = K (ovl (cM X ad σ B) (nsT B.2.1 z f1 f2 (rowF W nw)) 52) := by
  obtain ⟨-, -, -, -, -, h8⟩ := h
  refine for_up (L := f_X0_read_L113 F K (ad 0) B.2.1) (N := nw) (Inv := fun k m => m = ovl (cM X ad σ B) (nsT B.2.1 z f1 f2 (rowF W k)) 52) (Post := fun r => r = K (ovl (cM X ad σ B) (nsT B.2.1 z f1 f2 (rowF W nw)) 52)) ?_ ?_ nw 0 F _ (by omega) (by omega) rfl
  · intro n k m hk hm
    subst hm
    have hA' : AdOK ad (ovl B (nsT B.2.1 z f1 f2 (rowF W k)) 52) := ov_ad hA
    obtain ⟨⟨fs, a1, a2, a3, a4⟩, -, ⟨b1, b2⟩, -⟩ := h.gr (ov_gr hA (T := nsT B.2.1 z f1 f2 (rowF W k)) (s := 52))
    obtain ⟨x, hq⟩ := b2 k hk
    refine Or.inl ⟨_, rfl, ?_⟩
    show f_X0_read_L113_b F K (ad 0) B.2.1 (f_X0_read_L113 F K (ad 0) B.2.1 n) (Int32.ofNat k) _ = _
    have hk' : ¬ Int32.ofNat nw ≤ Int32.ofNat k := fun q => by
      have := (c_le nw k (by omega) (by omega)).1 q
      omega
    have ho : (ovl B (nsT B.2.1 z f1 f2 (rowF W k)) 52).1 B.2.1 = some (.inr (6, [.ref (B.2.1 + 1), .ref (B.2.1 + 2), .ref (B.2.1 + 3), .int 0, .ref (B.2.1 + 4), .ref (B.2.1 + 5)])) := ov_at (i := 0) rfl
    have hs : sI (ovl (cM X ad σ B) (nsT B.2.1 z f1 f2 (rowF W k)) 52) 0 (B.2.1 + 3) (Int32.ofNat k) (W k) = some (ovl (cM X ad σ B) (nsT B.2.1 z f1 f2 (rowF W (k + 1))) 52) := by
      have := sI_ov (M := cM X ad σ B) (T := nsT B.2.1 z f1 f2 (rowF W k)) (s := 52) (i := 3) (t := 0) (n := 8) (k := k) (f := rowF W k) (v := W k) rfl (by omega) (by decide)
      rw [nar0, rowF_up rfl] at this
      exact this
    unfold f_X0_read_L113_b
    rw [ov_cM, o0_3 hA', Option.bind_some, F_gR a1 a3, Option.bind_some, F_ocL b1, Option.bind_some, F_size b1, Option.bind_some, if_neg hk', F_gR (k := 2) ho rfl, Option.bind_some, Option.bind_some, Option.bind_some, Option.bind_some, F_get b1 hk, Option.bind_some, F_oc hq, Option.bind_some, F_gI (k := 1) hq rfl, Option.bind_some, ← ov_cM, hs, Option.bind_some, nmE, n_lp]
  · intro n m hm
    subst hm
    have hA' : AdOK ad (ovl B (nsT B.2.1 z f1 f2 (rowF W nw)) 52) := ov_ad hA
    obtain ⟨⟨fs, a1, a2, a3, a4⟩, -, ⟨b1, b2⟩, -⟩ := h.gr (ov_gr hA (T := nsT B.2.1 z f1 f2 (rowF W nw)) (s := 52))
    show f_X0_read_L113_b F K (ad 0) B.2.1 (f_X0_read_L113 F K (ad 0) B.2.1 n) (Int32.ofNat nw) _ = _
    unfold f_X0_read_L113_b
    rw [ov_cM, o0_3 hA', Option.bind_some, F_gR a1 a3, Option.bind_some, F_ocL b1, Option.bind_some, F_size b1, Option.bind_some, if_pos (Int32.le_refl _)]
/-- the offices, copied -/
theorem cp_ov {M : Sw} {T : List Ob} {s i b : Nat} {f h : Nat → Int32} (hi : T[i]? = some (.inl (0, (16, .inl h)))) (hb : (ovl M T s).1 b = some (.inl (0, (16, .inl f)))) : cpI (ovl M T s) b 0 (M.2.1 + i) 0 16 = some (ovl M (T.set i (.inl (0, (16, .inl (va_cpy f h 0 0 16))))) s) := by
  have hl : i < T.length := by
    obtain ⟨q, -⟩ := List.getElem?_eq_some_iff.1 hi
    exact q
  have e0 : (0 : Int32).toNatClampNeg = 0 := rfl
  have e1 : (16 : Int32).toNatClampNeg = 16 := rfl
  unfold cpI
  rw [hb, ov_at hi]
  show (if 0 = 0 ∧ 0 = 0 ∧ ¬ (0 : Int32) < 0 ∧ ¬ (0 : Int32) < 0 ∧ ¬ (16 : Int32) < 0 ∧ (0 : Int32).toNatClampNeg + (16 : Int32).toNatClampNeg ≤ 16 ∧ (0 : Int32).toNatClampNeg + (16 : Int32).toNatClampNeg ≤ 16 then some (mup (ovl M T s).1 (M.2.1 + i) (.inl (0, (16, .inl (va_cpy f h (0 : Int32).toNatClampNeg (0 : Int32).toNatClampNeg (16 : Int32).toNatClampNeg)))), (ovl M T s).2) else none) = _
  rw [e0, e1, if_pos ⟨rfl, rfl, by decide, by decide, by decide, by decide, by decide⟩, ov_mup hl]
/-- the new state, whole -/
theorem news_C {K : Sw → Option (Int32 × Sw)} (hF : 100 ≤ F) (hA : AdOK ad B) {nh nv : Nat} {eh ew : Nat → Nat} {H W fo : Nat → Int32} (h : TWR ad B nh nv eh ew H W fo) : (nm (nw (cM X ad σ B) (.inr (6, dfX6)) 6) fun μ20 => Option.bind (f_X6_init F (cM X ad σ B).2.1 μ20) fun q22 => f_X0_read_L50 F (fun μ24 => Option.bind (gfR μ24 (ad 0) 0 3) fun x25 => Option.bind (gfR μ24 x25 3 7) fun x27 => Option.bind (gfR μ24 (cM X ad σ B).2.1 6 1) fun x29 => Option.bind (cpI μ24 x27 0 x29 0 16) fun μ31 => f_X0_read_L113 F K (ad 0) (cM X ad σ B).2.1 F 0 μ31) (ad 0) (cM X ad σ B).2.1 F 0 q22) = K (cM X ad σ (ovl B (nsT B.2.1 (B.2.2.2 0) (rowF H nh) (va_cpy fo (fun _ => 0) 0 0 16) (rowF W nv)) 52)) := by
  have i6 := i_X6 (F := F) (M := cM X ad σ B) (a := B.2.1) (z := B.2.2.2 0) rfl rfl
  rw [nmE, ov_new, i6, Option.bind_some, nsT_0]
  simp only [cM_2]
  rw [r_L50 hF hA h]
  have hA' : AdOK ad (ovl B (nsT B.2.1 (B.2.2.2 0) (rowF H nh) (fun _ => 0) (fun _ => 0)) 52) := ov_ad hA
  obtain ⟨⟨fs, a1, a2, a3, a4⟩, -, -, d1, -⟩ := h.gr (ov_gr hA (T := nsT B.2.1 (B.2.2.2 0) (rowF H nh) (fun _ => 0) (fun _ => 0)) (s := 52))
  have ho : (ovl B (nsT B.2.1 (B.2.2.2 0) (rowF H nh) (fun _ => 0) (fun _ => 0)) 52).1 B.2.1 = some (.inr (6, [.ref (B.2.1 + 1), .ref (B.2.1 + 2), .ref (B.2.1 + 3), .int 0, .ref (B.2.1 + 4), .ref (B.2.1 + 5)])) := ov_at (i := 0) rfl
  have hcp : cpI (ovl (cM X ad σ B) (nsT B.2.1 (B.2.2.2 0) (rowF H nh) (fun _ => 0) (fun _ => 0)) 52) (ad 121) 0 (B.2.1 + 2) 0 16 = some (ovl (cM X ad σ B) (nsT B.2.1 (B.2.2.2 0) (rowF H nh) (va_cpy fo (fun _ => 0) 0 0 16) (fun _ => 0)) 52) := by
    refine cp_ov (M := cM X ad σ B) (i := 2) rfl ?_
    rw [ov_cM]
    exact cM_fz d1
  rw [ov_cM, o0_3 hA', Option.bind_some, F_gR a1 a4, Option.bind_some, F_gR (k := 1) ho rfl, Option.bind_some, ← ov_cM, hcp, Option.bind_some, r_L113 hF hA h, ov_cM]
