set_option maxRecDepth 100000
/-! 40: hold -/
variable {X : Nat → Option Ob} {ad ad' : Nat → Nat} {B B' : Sw} {A A' : Av} {σ σ' : Cs} {τ : Tw} {F : Nat}
/-- a state in a memory: heights, offices, wood, month, works, logs -/
def SR (M : Sw) (a : Nat) (fh fo fw : Nat → Int32) (m : Int32) (n1 : Nat) (e1 : Nat → Nat) (n2 : Nat) (e2 : Nat → Nat) : Prop := ∃ (h o w wl ll : Nat), M.1 a = some (.inr (6, [.ref h, .ref o, .ref w, .int m, .ref wl, .ref ll])) ∧ M.1 h = some (.inl (0, (16, .inl fh))) ∧ M.1 o = some (.inl (0, (16, .inl fo))) ∧ M.1 w = some (.inl (0, (8, .inl fw))) ∧ a < M.2.1 ∧ h < M.2.1 ∧ o < M.2.1 ∧ w < M.2.1 ∧ LO M wl n1 e1 ∧ LO M ll n2 e2
/-- what a twin's cells are -/
def TWN (M : Sw) (T : List Ob) (fh fo fw : Nat → Int32) (m : Int32) (n1 : Nat) (e1 : Nat → Nat) (n2 : Nat) (e2 : Nat → Nat) : Prop := T[0]? = some (.inr (6, [.ref (M.2.1 + 1), .ref (M.2.1 + 2), .ref (M.2.1 + 3), .int m, .ref (M.2.1 + 4), .ref (M.2.1 + 5)])) ∧ (∃ g, T[1]? = some (.inl (0, (16, .inl g))) ∧ ∀ i, i < 16 → g i = fh i) ∧ (∃ g, T[2]? = some (.inl (0, (16, .inl g))) ∧ ∀ i, i < 16 → g i = fo i) ∧ (∃ g, T[3]? = some (.inl (0, (8, .inl g))) ∧ ∀ i, i < 8 → g i = fw i) ∧ ∃ mid, 6 ≤ mid ∧ LT M T 6 mid 4 n1 e1 ∧ LT M T mid T.length 5 n2 e2
theorem twin_m {M : Sw} {a n1 n2 : Nat} {fh fo fw : Nat → Int32} {m : Int32} {e1 e2 : Nat → Nat} (h0 : M.1 (M.2.2.2 0) = some (.inl (12, (0, .inr (.inr (fun _ => none)))))) (l0 : M.2.2.2 0 < M.2.1) (hS : SR M a fh fo fw m n1 e1 n2 e2) : ∃ T s, f_X6_twin F a M = some (M.2.1, ovl M T s) ∧ 6 ≤ T.length ∧ T.length ≤ 10 ∧ s ≤ 600 ∧ TWN M T fh fo fw m n1 e1 n2 e2 := by
  obtain ⟨h, o, w, wl, ll, p1, p2, p3, p4, la, lh, lo, lw, q1, q2⟩ := hS
  obtain ⟨gh, egh⟩ : ∃ g, g = va_cpy fh (fun _ => 0) 0 0 16 := ⟨_, rfl⟩
  obtain ⟨go, ego⟩ : ∃ g, g = va_cpy fo (fun _ => 0) 0 0 16 := ⟨_, rfl⟩
  obtain ⟨gw, egw⟩ : ∃ g, g = va_cpy fw (fun _ => 0) 0 0 8 := ⟨_, rfl⟩
  obtain ⟨cs, ecs⟩ : ∃ cs : Int32 → Ob, cs = fun z => .inr (6, [.ref (M.2.1 + 1), .ref (M.2.1 + 2), .ref (M.2.1 + 3), .int z, .ref (M.2.1 + 4), .ref (M.2.1 + 5)]) := ⟨_, rfl⟩
  obtain ⟨cl, ecl⟩ : ∃ cl : Ob, cl = .inr (20, [.int 0, .ref (M.2.2.2 0), .int 0]) := ⟨_, rfl⟩
  have T0 : f_X6_init F M.2.1 (nw M (.inr (6, dfX6)) 6) = some (ovl M [cs 0, .inl (0, (16, .inl fun _ => 0)), .inl (0, (16, .inl fun _ => 0)), .inl (0, (8, .inl fun _ => 0)), cl, cl] 52) := by
    rw [ov_new, ecs, ecl]
    exact init6
  have x1 : cpI (ovl M [cs 0, .inl (0, (16, .inl fun _ => 0)), .inl (0, (16, .inl fun _ => 0)), .inl (0, (8, .inl fun _ => 0)), cl, cl] 52) h 0 (M.2.1 + 1) 0 16 = some (ovl M [cs 0, .inl (0, (16, .inl gh)), .inl (0, (16, .inl fun _ => 0)), .inl (0, (8, .inl fun _ => 0)), cl, cl] 52) := by
    rw [m_cpI (k := 16) (m := 16) ((ov_lo lh).trans p2) (ov_at (i := 1) rfl) rfl (Nat.le_refl _) (Nat.le_refl _) (by omega), ov_mup (by show 1 < 6; omega), egh]
    rfl
  have x2 : cpI (ovl M [cs 0, .inl (0, (16, .inl gh)), .inl (0, (16, .inl fun _ => 0)), .inl (0, (8, .inl fun _ => 0)), cl, cl] 52) o 0 (M.2.1 + 2) 0 16 = some (ovl M [cs 0, .inl (0, (16, .inl gh)), .inl (0, (16, .inl go)), .inl (0, (8, .inl fun _ => 0)), cl, cl] 52) := by
    rw [m_cpI (k := 16) (m := 16) ((ov_lo lo).trans p3) (ov_at (i := 2) rfl) rfl (Nat.le_refl _) (Nat.le_refl _) (by omega), ov_mup (by show 2 < 6; omega), ego]
    rfl
  have x3 : cpI (ovl M [cs 0, .inl (0, (16, .inl gh)), .inl (0, (16, .inl go)), .inl (0, (8, .inl fun _ => 0)), cl, cl] 52) w 0 (M.2.1 + 3) 0 8 = some (ovl M [cs 0, .inl (0, (16, .inl gh)), .inl (0, (16, .inl go)), .inl (0, (8, .inl gw)), cl, cl] 52) := by
    rw [m_cpI (k := 8) (m := 8) ((ov_lo lw).trans p4) (ov_at (i := 3) rfl) rfl (Nat.le_refl _) (Nat.le_refl _) (by omega), ov_mup (by show 3 < 6; omega), egw]
    rfl
  obtain ⟨T, eT⟩ : ∃ T : List Ob, T = [cs m, .inl (0, (16, .inl gh)), .inl (0, (16, .inl go)), .inl (0, (8, .inl gw)), cl, cl] := ⟨_, rfl⟩
  have c0 : ∀ z, cs z = .inr (6, [.ref (M.2.1 + 1), .ref (M.2.1 + 2), .ref (M.2.1 + 3), .int z, .ref (M.2.1 + 4), .ref (M.2.1 + 5)]) := fun z => by rw [ecs]
  have x4 : pf (ovl M [cs 0, .inl (0, (16, .inl gh)), .inl (0, (16, .inl go)), .inl (0, (8, .inl gw)), cl, cl] 52) M.2.1 6 3 (.int m) = some (ovl M T 52) := by
    have := ov_pf (M := M) (T := [cs 0, .inl (0, (16, .inl gh)), .inl (0, (16, .inl go)), .inl (0, (8, .inl gw)), cl, cl]) (s := 52) (i := 0) (k := 3) (v := .int m) (ci := 6) (fs := [.ref (M.2.1 + 1), .ref (M.2.1 + 2), .ref (M.2.1 + 3), .int 0, .ref (M.2.1 + 4), .ref (M.2.1 + 5)]) (by rw [c0]; rfl) (show 3 < 6 by decide)
    rw [eT, c0 m]
    exact this
  have hm : ∀ (T : List Ob) (s : Nat), (ovl M T s).1 a = some (.inr (6, [.ref h, .ref o, .ref w, .int m, .ref wl, .ref ll])) := fun T s => (ov_lo la).trans p1
  have hc : ∀ (z : Int32) (U : List Ob) (s : Nat), (ovl M (cs z :: U) s).1 M.2.1 = some (.inr (6, [.ref (M.2.1 + 1), .ref (M.2.1 + 2), .ref (M.2.1 + 3), .int z, .ref (M.2.1 + 4), .ref (M.2.1 + 5)])) := fun z U s => ov_at (i := 0) (by rw [c0]; rfl)
  have hcl : cl = .inr (20, [.int 0, .ref (M.2.2.2 0), .int 0]) := ecl
  obtain ⟨r1, T1, s1, y1, y2, y3, y4, y5, y6⟩ := addAll_ov (F := F) (M := M) (T := T) (s := 52) (i := 4) (md := 0) h0 l0 (by rw [eT, hcl]; rfl) (by rw [eT]; exact Nat.le_refl 6) q1
  have lT : T.length = 6 := by rw [eT]; rfl
  have k5 : T1[5]? = some (.inr (20, [.int 0, .ref (M.2.2.2 0), .int 0])) := by rw [y5 5 (by omega) (by omega), eT, hcl]; rfl
  have k0 : T1[0]? = some (.inr (6, [.ref (M.2.1 + 1), .ref (M.2.1 + 2), .ref (M.2.1 + 3), .int m, .ref (M.2.1 + 4), .ref (M.2.1 + 5)])) := by rw [y5 0 (by omega) (by omega), eT, c0]; rfl
  obtain ⟨r2, T2, s2, z1, z2, z3, z4, z5, z6⟩ := addAll_ov (F := F) (M := M) (T := T1) (s := s1) (i := 5) (md := 0) h0 l0 k5 (by omega) q2
  refine ⟨T2, s2, ?_, by omega, by omega, by omega, ?_, ⟨gh, ?_, fun i hi => ?_⟩, ⟨go, ?_, fun i hi => ?_⟩, ⟨gw, ?_, fun i hi => ?_⟩, T1.length, by omega, ?_, z6⟩
  · unfold f_X6_twin
    rw [nmE, T0, Option.bind_some, m_R (k := 0) (hm _ _) rfl, Option.bind_some, m_R (k := 0) (hc _ _ _) rfl, Option.bind_some, x1, Option.bind_some, m_R (k := 1) (hm _ _) rfl, Option.bind_some, m_R (k := 1) (hc _ _ _) rfl, Option.bind_some, x2, Option.bind_some, m_R (k := 2) (hm _ _) rfl, Option.bind_some, m_R (k := 2) (hc _ _ _) rfl, Option.bind_some, x3, Option.bind_some, m_I (k := 3) (hm _ _) rfl, Option.bind_some, x4, Option.bind_some]
    rw [m_R (k := 4) (by rw [eT]; exact hc _ _ _) rfl, Option.bind_some, m_R (k := 4) (hm _ _) rfl, Option.bind_some, m_oc (ov_at (i := 4) (by rw [eT, hcl]; rfl)), Option.bind_some, y1, Option.bind_some]
    show Option.bind (gfR (ovl M T1 s1) (M.2.1 + 0) 6 5) _ = _
    rw [m_R (k := 5) (ov_at k0) rfl, Option.bind_some]
    show Option.bind (gfR (ovl M T1 s1) a 6 5) _ = _
    rw [m_R (k := 5) (hm _ _) rfl, Option.bind_some]
    show Option.bind (oc (ovl M T1 s1) (M.2.1 + 5) 20) _ = _
    rw [m_oc (ov_at k5), Option.bind_some]
    show Option.bind (f_J2_addAll F (M.2.1 + 5) ll (ovl M T1 s1)) _ = _
    rw [z1, Option.bind_some]
  · rw [z5 0 (by omega) (by omega)]; exact k0
  · rw [z5 1 (by omega) (by omega), y5 1 (by omega) (by omega), eT]; rfl
  · rw [egh]; exact cpy_i hi
  · rw [z5 2 (by omega) (by omega), y5 2 (by omega) (by omega), eT]; rfl
  · rw [ego]; exact cpy_i hi
  · rw [z5 3 (by omega) (by omega), y5 3 (by omega) (by omega), eT]; rfl
  · rw [egw]; exact cpy_i hi
  · obtain ⟨md, d, u1, u2⟩ := y6
    refine ⟨md, d, by rw [z5 4 (by omega) (by omega)]; exact u1, ?_⟩
    rcases u2 with u2 | ⟨u2, di, cap, f, ⟨v1, v1'⟩, v2, v3, v4⟩
    · exact Or.inl u2
    · have dl : di < T1.length := by
        obtain ⟨q, -⟩ := List.getElem?_eq_some_iff.1 v3
        exact q
      exact Or.inr ⟨u2, di, cap, f, ⟨by omega, v1'⟩, v2, by rw [z5 di dl (by omega)]; exact v3, v4⟩
/-- the state now -/
theorem now_SR (hE : EV ad B A) (hK : KB B) (hC : CR ad B A σ) : SR (cM X ad σ B) (ad 46) (σ.2.1 47) (σ.2.1 48) (σ.2.1 49) (A 7 0) (zN A 7 1) (fun j => ad (1500 + j)) (zN A 7 2) (fun j => ad (1600 + j)) := by
  have hA := hE.1
  have lw : zN A 7 1 ≤ 40 := hE.2.2.2.2.1.1.2.1.2
  have ll : zN A 7 2 ≤ 60 := hE.2.2.2.2.1.1.2.2.2
  have lb : ∀ {r z n : Nat} {e : Nat → Nat} {ob : Nat → Ob}, (r = 50 ∧ z = 50) ∨ (r = 52 ∧ z = 60) → n ≤ 60 → LR ad B σ r z n e ob → (∀ j, ∃ q, ob j = .inr q) → LO (cM X ad σ B) (ad r) n e := by
    intro r z n e ob hrz hn hL hob
    obtain ⟨l1, l2, l3⟩ := hL
    obtain ⟨eO, eK0, eK⟩ := cO_L2 (ad := ad) (σ := σ) hrz
    have r114 : r + 1 < 114 := by omega
    have hMa : (cM X ad σ B).1 (ad r) = some (.inr (20, [.int (σ.1 z), .ref (ad (r + 1)), .int (Int32.ofNat n)])) := by
      rw [cM_at hA (by omega) (by omega) (by omega), cB_o eK0, eO, l1]
    have hld : ad (r + 1) < B.2.1 := hA.2.2.1 (r + 1) r114
    refine ⟨hn, ?_, hA.2.2.1 r (by omega), fun d md nn h => ?_, fun j hj => ?_⟩
    · refine ⟨by omega, σ.1 z, ad (r + 1), ?_⟩
      rcases l2 with ⟨a, b, c⟩ | ⟨a, b⟩
      · refine ⟨_, 6, σ.2.2.2 (r + 1), hMa, by rw [cM_rl hA r114 a, cB_q eK], fun _ => rfl, Or.inl rfl, b, by omega, fun j hj => (l3 j hj).1⟩
      · refine ⟨0, 12, fun _ => none, hMa, by rw [b]; exact cM_fz hK.1, fun h => absurd a h, Or.inr rfl, by omega, by omega, fun j hj => by omega⟩
    · rw [hMa] at h
      have : d = ad (r + 1) := by
        injection h with h
        injection h with h
        injection h with h1 h2
        injection h2 with h2 h3
        injection h3 with h3 h4
        injection h3 with h3
        exact h3.symm
      rw [this]
      exact hld
    · obtain ⟨q, hq⟩ := hob j
      have := (l3 j hj).2
      rw [hq] at this
      exact ⟨hA.lt this, q, cM_fz this⟩
  refine ⟨ad 47, ad 48, ad 49, ad 50, ad 52, ?_, ?_, ?_, ?_, hA.2.2.1 46 (by decide), hA.2.2.1 47 (by decide), hA.2.2.1 48 (by decide), hA.2.2.1 49 (by decide), lb (Or.inl ⟨rfl, rfl⟩) (by omega) hC.2.2.2.2.2.2.2.2.2.1 (fun j => ⟨_, rfl⟩), lb (Or.inr ⟨rfl, rfl⟩) ll hC.2.2.2.2.2.2.2.2.2.2.1 (fun j => ⟨_, rfl⟩)⟩
  · rw [cM_at hA (by decide) (by decide) (by decide), cB_o rfl, ← hC.1.2.2.2.2]; rfl
  · rw [cM_at hA (by decide) (by decide) (by decide), cB_i rfl]
  · rw [cM_at hA (by decide) (by decide) (by decide), cB_i rfl]
  · rw [cM_at hA (by decide) (by decide) (by decide), cB_i rfl]
theorem LT.lb {T : List Ob} {s lo hi i n : Nat} {e : Nat → Nat} (h : LT B T lo hi i n e) (hn : n ≤ 60) (h0 : B.1 (B.2.2.2 0) = some (.inl (12, (0, .inr (.inr (fun _ => none)))))) (hA : AdOK ad B) : LB (ovl B T s) (B.2.1 + i) n e := by
  obtain ⟨md, d, h1, h2⟩ := h
  refine ⟨by omega, md, d, ?_⟩
  rcases h2 with ⟨a, b⟩ | ⟨a, di, cap, f, -, c, x, y, z, v⟩
  · exact ⟨0, 12, fun _ => none, ov_at h1, by rw [b]; exact ov_gr hA _ _ h0, fun q => absurd a q, Or.inr rfl, by omega, by omega, fun j hj => by omega⟩
  · exact ⟨cap, 6, f, ov_at h1, by rw [c]; exact ov_at x, fun _ => rfl, Or.inl rfl, y, by omega, v⟩
theorem SB.cg {a : Nat} {L L' : Nat → Int32} (h : SB B a L) (w1 : (L 1).toNatClampNeg ≤ 40) (w2 : (L 2).toNatClampNeg ≤ 60) (q : ∀ k, k < 420 → L' k = L k) : SB B a L' := by
  obtain ⟨h, o, w, wl, ll, fh, fo, fw, ew, el, h1, h2, h3, h4, h5, h6, h7, h8, h9, h10, h11⟩ := h
  have e1 : (L' 1).toNatClampNeg = (L 1).toNatClampNeg := by rw [q 1 (by omega)]
  have e2 : (L' 2).toNatClampNeg = (L 2).toNatClampNeg := by rw [q 2 (by omega)]
  refine ⟨h, o, w, wl, ll, fh, fo, fw, ew, el, by rw [q 0 (by omega)]; exact h1, h2, h3, h4, fun i hi => by rw [q _ (by omega)]; exact h5 i hi, fun i hi => by rw [q _ (by omega)]; exact h6 i hi, fun i hi => by rw [q _ (by omega)]; exact h7 i hi, by rw [e1]; exact h8, by rw [e2]; exact h9, fun j hj => ?_, fun j hj => ?_⟩
  · rw [e1] at hj
    rw [q _ (by omega), q _ (by omega), q _ (by omega)]
    exact h10 j hj
  · rw [e2] at hj
    rw [q _ (by omega), q _ (by omega), q _ (by omega), q _ (by omega)]
    exact h11 j hj
theorem WFl.cg {H O : Nat} {L L' : Nat → Int32} (h : WFl H O L) (q : ∀ k, k < 420 → L' k = L k) : WFl H O L' := by
  obtain ⟨⟨m0, m1, m2⟩, w1, w2, w3, w4, w5, w6⟩ := h
  have l1 : (L 1).toNatClampNeg ≤ 40 := m1.2
  have l2 : (L 2).toNatClampNeg ≤ 60 := m2.2
  have e1 : (L' 1).toNatClampNeg = (L 1).toNatClampNeg := by rw [q 1 (by omega)]
  have e2 : (L' 2).toNatClampNeg = (L 2).toNatClampNeg := by rw [q 2 (by omega)]
  refine ⟨⟨by rw [q 0 (by omega)]; exact m0, by rw [q 1 (by omega)]; exact m1, by rw [q 2 (by omega)]; exact m2⟩, fun i hi => by rw [q _ (by omega)]; exact w1 i hi, fun i hi => by rw [q _ (by omega)]; exact w2 i hi, fun i j hi hj => by rw [q _ (by omega), q _ (by omega)]; exact w3 i j hi hj, fun i hi => by rw [q _ (by omega)]; exact w4 i hi, fun j hj => ?_, fun j hj => ?_⟩
  · rw [e1] at hj
    rw [q _ (by omega), q _ (by omega), q _ (by omega)]
    exact w5 j hj
  · rw [e2] at hj
    rw [q _ (by omega), q _ (by omega), q _ (by omega)]
    exact w6 j hj
/-- a row that lives is copied -/
theorem copy_T (hF : 1000 ≤ F) {a b : Nat} (ha : a < 3) (hb : b < 3) (hab : a ≠ b) (f0 : Nat → Int32) (h7 : τ.2.1 7 = f0) : ∃ g, t_X9_copy F (Int32.ofNat a) (Int32.ofNat b) τ = some (twA τ 7 g) ∧ (∀ k, k < 420 → g (420 * b + k) = f0 (420 * a + k)) ∧ ∀ q, q < 420 * b ∨ 420 * b + 420 ≤ q → g q = f0 q := by
  unfold t_X9_copy
  refine for_up (L := fun n i (s : Nat → Int32) => t_X9_copy_L2 F (Int32.ofNat a) (Int32.ofNat b) n i (twA τ 7 s)) (N := 420) (Inv := fun k s => (∀ i, i < k → s (420 * b + i) = f0 (420 * a + i)) ∧ ∀ q, q < 420 * b ∨ 420 * b + k ≤ q → s q = f0 q) (Post := fun r => ∃ g, r = some (twA τ 7 g) ∧ (∀ k, k < 420 → g (420 * b + k) = f0 (420 * a + k)) ∧ ∀ q, q < 420 * b ∨ 420 * b + 420 ≤ q → g q = f0 q) ?_ ?_ 420 0 F (τ.2.1 7) (Nat.zero_add _) (by omega) ⟨fun i hi => absurd hi (Nat.not_lt_zero i), fun _ _ => by rw [h7]⟩ |> fun h => by
    rw [twA_id] at h
    exact h
  · rintro n k s hk ⟨h1, h2⟩
    refine Or.inl ⟨upd s (420 * b + k) (f0 (420 * a + k)), ⟨fun i hi => ?_, fun q hq => ?_⟩, ?_⟩
    · by_cases e : i = k
      · rw [e, up_s]
      · rw [up_n _ _ _ _ (by omega)]; exact h1 i (by omega)
    · rw [up_n _ _ _ _ (by omega)]; exact h2 q (by omega)
    · have e := h2 (420 * a + k) (by omega)
      show t_X9_copy_L2_b F (Int32.ofNat a) (Int32.ofNat b) (t_X9_copy_L2 F (Int32.ofNat a) (Int32.ofNat b) n) (Int32.ofNat k) (twA τ 7 s) = _
      unfold t_X9_copy_L2_b
      simp (disch := omega) only [Option.bind_some, Option.bind_none, nmE, n_pp, n_pl, n_lp, n_mm, n_ml, n_lm, taI_n, taI_l, tsA_n, tsA_l, nar0, twA_1, twA_s, twA_n, twA_2, twA_twA, tsI_s, tsI_n, tsI_2, c_le, c_le_l, c_le_r, c_lt, c_lt_l, c_lt_r, c_eq, c_eq_l, c_eq_r, if_true, if_false, if_pos, if_neg, e]
  · rintro n s ⟨h1, h2⟩
    refine ⟨s, ?_, h1, h2⟩
    show t_X9_copy_L2_b F (Int32.ofNat a) (Int32.ofNat b) (t_X9_copy_L2 F (Int32.ofNat a) (Int32.ofNat b) n) (Int32.ofNat 420) (twA τ 7 s) = _
    unfold t_X9_copy_L2_b
    rw [if_pos (show (420 : Int32) ≤ Int32.ofNat 420 by decide)]
theorem within_1 {x : Int32} : p_X0_within F x 0 1 = some (if inN x 2 then 1 else 0) := within_v _ (by
  show ((0 : Int) ≤ x.toInt ∧ x.toInt ≤ 1) ↔ (0 : Int) ≤ x.toInt ∧ x.toInt < 2
  omega)
/-- 40: hold -/
theorem st_40 (hF : 1000000 ≤ F) (h : INV ad B A σ τ) (x : Nat → Int32) : ST F 40 x X ad B σ τ := by
  have hI := h
  obtain ⟨hE, hK, hC, hT⟩ := h
  have hA := hE.1
  have hW := hE.2.2
  have h1 : stC F 40 (ad 0) x (cM X ad σ B) = f_X0_hold F (ad 0) (x 1) (cM X ad σ B) := rfl
  have h2 : stT F 40 x τ = t_X9_hold F (x 1) τ := rfl
  unfold f_X0_hold at h1
  unfold t_X9_hold at h2
  rw [within_1, Option.bind_some, gd] at h1
  by_cases c1 : inN (x 1) 2
  · obtain ⟨s, ls, es⟩ := c1.ex
    rw [if_pos c1, o0_5 hA, Option.bind_some, o0_4 hA, Option.bind_some, oc46 hA, Option.bind_some] at h1
    rw [es, if_neg (Int32.not_lt.2 (ofNat_nn (by omega))), if_pos (show Int32.ofNat s ≤ 1 from (c_le s 1 (by omega) (by omega)).2 (by omega)), show (1 : Int32) + Int32.ofNat s = Int32.ofNat (1 + s) from n_pl 1 s] at h2
    have h0 : (cM X ad σ B).1 ((cM X ad σ B).2.2.2 0) = some (.inl (12, (0, .inr (.inr (fun _ => none))))) := cM_fz hK.1
    obtain ⟨T, sz, t1, t2, t3, t4, u0, ⟨gh, u1, v1⟩, ⟨go, u2, v2⟩, ⟨gw, u3, v3⟩, mid, -, u4, u5⟩ := twin_m (F := F) h0 (hA.lt hK.1) (now_SR hE hK hC (X := X))
    rw [t1, Option.bind_some, ov_cM, es] at h1
    have hA1 : AdOK ad (ovl B T sz) := ov_ad hA
    have gr : Gr B (ovl B T sz) := ov_gr hA
    have hsq : sQ (cM X ad σ (ovl B T sz)) 7 (ad 9) (Int32.ofNat s) (some B.2.1) = some (cM X ad (csQ σ 9 (va_up (σ.2.2.2 9) s (some B.2.1))) (ovl B T sz)) := R_sQ hA1 (by decide) (hA1.2.1 9 (by decide) (by decide) (by decide)) (t := 7) (n := 2) rfl ls (by omega)
    have hn : (cM X ad σ (ovl B T sz)).1 B.2.1 = some (.inr (6, [.ref (B.2.1 + 1), .ref (B.2.1 + 2), .ref (B.2.1 + 3), .int (A 7 0), .ref (B.2.1 + 4), .ref (B.2.1 + 5)])) := cM_fz (ov_at (i := 0) u0)
    have h1 : stC F 40 (ad 0) x (cM X ad σ B) = Option.bind (sQ (cM X ad σ (ovl B T sz)) 7 (ad 9) (Int32.ofNat s) (some B.2.1)) fun μ13 =>
      Option.bind (oc (cM X ad σ (ovl B T sz)) B.2.1 6) fun u15 => some (1, μ13) := h1
    rw [hsq, Option.bind_some, m_oc hn, Option.bind_some] at h1
    obtain ⟨g, k1, k2, k3⟩ := copy_T (F := F) (a := 0) (b := 1 + s) (by omega) (by omega) (by omega) (by omega) (A 7) (hT.2 7 rfl)
    have k1 : t_X9_copy F 0 (Int32.ofNat (1 + s)) τ = some (twA τ 7 g) := k1
    rw [k1, Option.bind_some] at h2
    simp (disch := omega) only [Option.bind_some, Option.bind_none, nmE, n_pp, n_pl, n_lp, n_mm, n_ml, n_lm, taI_n, taI_l, tsA_n, tsA_l, nar0, twA_1, twA_s, twA_n, twA_2, twA_twA, tsI_s, tsI_n, tsI_2, c_le, c_le_l, c_le_r, c_lt, c_lt_l, c_lt_r, c_eq, c_eq_l, c_eq_r, if_true, if_false, if_pos, if_neg, hT.2 18 rfl] at h2
    obtain ⟨A2, eA2⟩ : ∃ A2, A2 = aw (aw A 7 g) 18 (upd (A 18) (1 + s) 1) := ⟨_, rfl⟩
    have a7 : A2 7 = g := by rw [eA2, aw_n _ _ _ _ (by decide), aw_s]
    have a18 : A2 18 = upd (A 18) (1 + s) 1 := by rw [eA2, aw_s]
    have ao : ∀ j, j ≠ 7 → j ≠ 18 → A2 j = A j := fun j a b => by rw [eA2, aw_n _ _ _ _ b, aw_n _ _ _ _ a]
    have g0 : ∀ k, k < 420 → g k = A 7 k := fun k hk => k3 k (Or.inl (by omega))
    have z7 : ∀ k, k < 420 → zN A2 7 k = zN A 7 k := fun k hk => by unfold zN; rw [a7, g0 k hk]
    have z6 : ∀ k, zN A2 6 k = zN A 6 k := fun k => by unfold zN; rw [ao 6 (by decide) (by decide)]
    have w40 : zN A 7 1 ≤ 40 := hW.2.2.1.1.2.1.2
    have w60 : zN A 7 2 ≤ 60 := hW.2.2.1.1.2.2.2
    have rs : ∀ k, k < 420 → rowL A2 (s + 1) k = A 7 k := fun k hk => by
      show A2 7 (420 * (s + 1) + k) = _
      rw [a7, show 420 * (s + 1) + k = 420 * (1 + s) + k by omega, k2 k hk]
      congr 1
      omega
    have ro : ∀ s', s' < 2 → s' ≠ s → ∀ k, k < 420 → rowL A2 (s' + 1) k = rowL A (s' + 1) k := fun s' h1 h2 k hk => by
      show A2 7 (420 * (s' + 1) + k) = A 7 (420 * (s' + 1) + k)
      rw [a7]
      exact k3 _ (by omega)
    have hTr : TR A2 (twA (twA τ 7 g) 18 (upd (A 18) (1 + s) 1)) := by rw [eA2]; exact (hT.W (by decide)).W (by decide)
    have hnar : (1 : Int32) &&& 1 = 1 := by decide
    have h2' : stT F 40 x τ = some (1, twA (twA τ 7 g) 18 (upd (A 18) (1 + s) 1)) := h2
    have hW2 : WF A2 := by
      obtain ⟨q1, q2, q3, q4⟩ := hW
      refine ⟨?_, ?_, ?_, fun s' hs' e => ?_⟩
      · unfold WFt
        simp only [z6, ao 6 (by decide) (by decide)]
        exact q1
      · unfold WFn
        unfold zN
        rw [ao 0 (by decide) (by decide), ao 33 (by decide) (by decide), ao 1 (by decide) (by decide), ao 27 (by decide) (by decide)]
        exact q2
      · rw [z6, z6, a7]
        exact q3.cg g0
      · rw [z6, z6]
        by_cases e' : s' = s
        · rw [e']
          exact q3.cg rs
        · rw [a18, up_n _ _ _ _ (by omega)] at e
          exact (q4 s' hs' e).cg (ro s' hs' e')
    have hB2 : TB ad (ovl B T sz) A2 := (hE.2.1.cg (fun j hj => ao j (fun e => by rw [e] at hj; cases hj) (fun e => by rw [e] at hj; cases hj))).gr hW2 gr (fun _ _ => rfl)
    have hC2 : CR ad (ovl B T sz) A2 (csQ σ 9 (va_up (σ.2.2.2 9) s (some B.2.1))) := by
      obtain ⟨p1, p2, p3, p4, p5, p6, p7, p8, ⟨p9, p9', p9''⟩, p10, p11, p12⟩ := hC
      have zz : ∀ k, zN A2 0 k = zN A 0 k := fun k => by unfold zN; rw [ao 0 (by decide) (by decide)]
      refine ⟨?_, ?_, ?_, ?_, ?_, ?_, fun j i hj hi => ?_, fun j i hj hi => ?_, ⟨fun j hj => ?_, fun j hj => ?_, fun j hj => ?_⟩, ?_, ?_, fun s' hs' => ?_⟩
      · rw [ao 0 (by decide) (by decide), a7, g0 0 (by omega)]; exact p1
      · rw [zz, ao 1 (by decide) (by decide)]; exact p2
      · rw [zz, ao 33 (by decide) (by decide)]; exact p3
      · intro i hi; rw [a7, g0 _ (by omega)]; exact p4 i hi
      · intro i hi; rw [a7, g0 _ (by omega)]; exact p5 i hi
      · intro i hi; rw [a7, g0 _ (by omega)]; exact p6 i hi
      · rw [zz] at hj; rw [ao 27 (by decide) (by decide)]; exact p7 j i hj hi
      · rw [zz] at hj; rw [ao 27 (by decide) (by decide)]; exact p8 j i hj hi
      · rw [csQ_n _ _ _ _ (by decide)]; exact p9 j hj
      · rw [csQ_n _ _ _ _ (by decide)]; exact p9' j hj
      · rw [csQ_n _ _ _ _ (by decide)]; exact p9'' j hj
      · rw [z7 1 (by omega), a7]
        refine p10.gr gr rfl (fun h => (ov_no hA (by decide)).trans h) rfl rfl rfl (csQ_n _ _ _ _ (by decide)) (fun _ _ => rfl) (fun j hj => ?_)
        rw [g0 _ (by omega), g0 _ (by omega), g0 _ (by omega)]
      · rw [z7 2 (by omega), a7]
        refine p11.gr gr rfl (fun h => (ov_no hA (by decide)).trans h) rfl rfl rfl (csQ_n _ _ _ _ (by decide)) (fun _ _ => rfl) (fun j hj => ?_)
        rw [g0 _ (by omega), g0 _ (by omega), g0 _ (by omega), g0 _ (by omega)]
      · rw [csQ_s, a18]
        by_cases e' : s' = s
        · subst e'
          refine Or.inr ⟨by rw [show s' + 1 = 1 + s' by omega, up_s], B.2.1, va_up_self _ _ _, ?_⟩
          refine SB.cg (L := A 7) ?_ w40 w60 rs
          refine ⟨B.2.1 + 1, B.2.1 + 2, B.2.1 + 3, B.2.1 + 4, B.2.1 + 5, gh, go, gw, fun j => ad (1500 + j), fun j => ad (1600 + j), ov_at (i := 0) u0, ov_at u1, ov_at u2, ov_at u3, fun i hi => ?_, fun i hi => ?_, fun i hi => ?_, ?_, ?_, fun j hj => ?_, fun j hj => ?_⟩
          · rw [v1 i hi]; exact p4 i hi
          · rw [v2 i hi]; exact p5 i hi
          · rw [v3 i hi]; exact p6 i hi
          · exact LT.lb (s := sz) (B := B) u4 (show zN A 7 1 ≤ 60 by omega) hK.1 hA
          · exact LT.lb (s := sz) (B := B) u5 w60 hK.1 hA
          · exact gr _ _ (p10.2.2 j hj).2
          · exact gr _ _ (p11.2.2 j hj).2
        · rw [va_up_ne _ _ e', up_n _ _ _ _ (by omega)]
          rcases p12 s' hs' with q | ⟨q1, q2, q3, q4⟩
          · exact Or.inl q
          · have l := hW.2.2.2 s' hs' q1
            exact Or.inr ⟨q1, q2, q3, SB.cg (q4.gr gr) l.1.2.1.2 l.1.2.2.2 (ro s' hs' e')⟩
    exact ⟨1, ad, ovl B T sz, A2, _, _, h1, h2', ⟨⟨hA1, hB2, hW2⟩, hK.gr gr rfl, hC2, hTr⟩, ov_xt hA (by omega) (by omega)⟩
  · rw [if_neg c1] at h1
    have h2' : stT F 40 x τ = some (0, τ) := by
      rw [h2]
      by_cases n : x 1 < 0
      · rw [if_pos n]
      · rw [if_neg n, if_neg]
        intro q
        apply c1
        have n' := Int32.le_iff_toInt_le.1 (Int32.not_lt.1 n)
        have q' := Int32.le_iff_toInt_le.1 q
        have z0 : (0 : Int32).toInt = 0 := rfl
        have z1 : (1 : Int32).toInt = 1 := rfl
        exact ⟨by omega, by show (x 1).toInt < 2; omega⟩
    exact ST.ro hI h1 h2' hC hT
