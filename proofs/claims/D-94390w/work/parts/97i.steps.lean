set_option maxRecDepth 100000
/-! the telling: one thing told, its steps -/
variable {X X' X2 : Nat → Option Ob} {ad : Nat → Nat} {B B' B2 : Sw} {A A' : Av} {σ σ' σ2 : Cs} {τ τ' τ2 : Tw} {F : Nat} {c pl : Nat → Nat} {last j : Nat}
/-- a cell of the town that is read, set -/
def cT (τ : Tw) (k : Nat) (v : Int32) : Tw := twA τ 6 (upd (τ.2.1 6) (210 + k) v)
theorem cT_1 {k : Nat} {v : Int32} : (cT τ k v).1 = τ.1 := rfl
theorem cT_o {k r : Nat} {v : Int32} (h : r ≠ 6) : (cT τ k v).2.1 r = τ.2.1 r := twA_n _ _ _ _ h
theorem cT_3 {k : Nat} {v : Int32} : (cT τ k v).2.2 = τ.2.2 := rfl
theorem cT_s {k : Nat} {v : Int32} : VW (cT τ k v) 6 k = v := by
  show upd (τ.2.1 6) (210 + k) v (210 + k) = v
  exact up_s _ _ _
theorem cT_n {k i : Nat} {v : Int32} (h : i ≠ k) : VW (cT τ k v) 6 i = VW τ 6 i := by
  show upd (τ.2.1 6) (210 + k) v (210 + i) = τ.2.1 6 (210 + i)
  exact up_n _ _ _ _ (by omega)
theorem cT_TX {k : Nat} {v : Int32} : TX τ (cT τ k v) := TX.c6 (by omega)
theorem tell_T {k : Nat} {v : Int32} (hk : k < 210) : t_X9_tell F (Int32.ofNat k) v τ = some (cT τ k v) := by
  unfold t_X9_tell
  rw [n_pl, tsA_n τ 6 0 420 _ v (show 210 + k < 420 by omega) (by decide), Option.bind_some, nar0]
  rfl
theorem told_T {k : Nat} (hk : k < 210) : t_X9_told F (Int32.ofNat k) τ = some (VW τ 6 k) := by
  unfold t_X9_told
  rw [n_pl, taI_n τ 6 420 _ (show 210 + k < 420 by omega) (by decide), Option.bind_some]
  rfl
/-- the views are the same: only ints and names differ -/
theorem VW_eq (h : ∀ r, r ≠ 20 → r ≠ 21 → τ'.2.1 r = τ.2.1 r) {r k : Nat} (h1 : r ≠ 20) (h2 : r ≠ 21) : VW τ' r k = VW τ r k := by
  unfold VW
  rw [h r h1 h2, h 6 (by decide) (by decide)]
theorem VW_ag {m l : Nat} (h : ∀ r, r ≠ 6 → r ≠ 20 → r ≠ 21 → τ'.2.1 r = τ.2.1 r) : AG m l (VW τ) (VW τ') := by
  have e : ∀ r k, 12 ≤ r → r ≤ 17 → VW τ' r k = VW τ r k := fun r k a b => by
    rw [VW_l a b, VW_l a b, h r (by omega) (by omega) (by omega)]
  refine ⟨fun k _ => ⟨?_, ?_⟩, fun r k a b _ => e r k (by omega) b, fun k _ _ => e 12 k (by decide) (by decide)⟩
  · rw [VW_9, VW_9, h 9 (by decide) (by decide) (by decide)]
  · rw [VW_10, VW_10, h 10 (by decide) (by decide) (by decide)]
theorem VW_66 (h : τ'.2.1 6 = τ.2.1 6) : VW τ' 6 = VW τ 6 := by
  funext k
  rw [VW_6, VW_6, h]
theorem next_T {z n most base size : Nat} (hz : z < 210) (h : VW τ 6 z = Int32.ofNat n) (hn : n ≤ most) (hm : most < 1000) : t_X9_next F (Int32.ofNat z) (Int32.ofNat most) (Int32.ofNat base) (Int32.ofNat size) τ = if n = most then some (-1, τ) else some (Int32.ofNat (base + size * n), cT τ z (Int32.ofNat (n + 1))) := by
  unfold t_X9_next
  rw [told_T hz, Option.bind_some, h]
  by_cases e : n = most
  · rw [if_pos e, if_pos (by rw [e])]
  · rw [if_neg e, if_neg (fun q => e ((c_eq n most (by omega) (by omega)).1 q)), Option.bind_some, nmE, Option.bind_some, n_lp, tell_T hz, Option.bind_some, n_mm, n_pp]
section AT
variable {X0 : Nat → Option Ob} {B0 : Sw} {σ0 : Cs} {τ0 : Tw} {u : Nat}
theorem AT.cell {k : Nat} {v : Int32} (h : AT c pl last ad X0 B0 σ0 τ0 u X B σ τ j) : AT c pl last ad X0 B0 σ0 τ0 u X B σ (cT τ k v) j := h.st RF.rf ⟨cT_TX, q89.rf⟩ rfl rfl rfl (h.w.of rfl rfl rfl rfl)
/-- a cell of the memory since B0 changed -/
theorem AT.mem {u' : Nat} (h : AT c pl last ad X0 B0 σ0 τ0 u X B σ τ j) (hm : MF ad X0 B0 X' B' u') (g : Gr B B') (e : B'.2.2.2 = B.2.2.2) : AT c pl last ad X0 B0 σ0 τ0 u' X' B' σ τ j := ⟨hm, h.2.1.gr g e, h.2.2⟩
/-- room for one more, on both sides -/
theorem AT.room {z n most base size : Nat} {pm pz pb ps : Int32} (h : AT c pl last ad X0 B0 σ0 τ0 u X B σ τ j) (e1 : pm = Int32.ofNat most) (e2 : pz = Int32.ofNat z) (e3 : pb = Int32.ofNat base) (e4 : ps = Int32.ofNat size) (h2 : c j ≠ 2) (h3 : c j ≠ 3) (hz : z < 210) (hv : VW τ 6 z = Int32.ofNat n) (hn : n ≤ most) (hm : most < 1000) : (n < most ∧ j + 1 ≤ last ∧ f_X2_room F (ad 6) (Int32.ofNat n) pm (cM X ad σ B) = some (.inl (), cM X ad (csI σ 31 (Int32.ofNat (j + 1))) B) ∧ t_X9_next F pz pm pb ps τ = some (Int32.ofNat (base + size * n), cT τ z (Int32.ofNat (n + 1))) ∧ t_X9_pass F (cT τ z (Int32.ofNat (n + 1))) = some (1, tsI (cT τ z (Int32.ofNat (n + 1))) 7 (Int32.ofNat (j + 1))) ∧ AT c pl last ad X0 B0 σ0 τ0 u X B (csI σ 31 (Int32.ofNat (j + 1))) (tsI (cT τ z (Int32.ofNat (n + 1))) 7 (Int32.ofNat (j + 1))) (j + 1)) ∨ (∃ τw, t_X9_next F pz pm pb ps τ = some (-1, τ) ∧ t_X9_wrong F 2 τ = some (0, τw) ∧ TNO ad X0 B0 σ0 τ0 (u + 1) (f_X2_room F (ad 6) (Int32.ofNat n) pm (cM X ad σ B)) (some (0, τw))) ∨ (∃ τw, n < most ∧ t_X9_next F pz pm pb ps τ = some (Int32.ofNat (base + size * n), cT τ z (Int32.ofNat (n + 1))) ∧ t_X9_pass F (cT τ z (Int32.ofNat (n + 1))) = some (0, τw) ∧ TNO ad X0 B0 σ0 τ0 (u + 1) (f_X2_room F (ad 6) (Int32.ofNat n) pm (cM X ad σ B)) (some (0, τw))) := by
  subst e1 e2 e3 e4
  rw [next_T hz hv hn hm]
  unfold f_X2_room
  by_cases e : n = most
  · rw [if_pos (by rw [e]), if_pos e, oc6 h.a, Option.bind_some, fault_C h.a h.p, Option.bind_some, oc_flt h.a, Option.bind_some]
    exact Or.inr (Or.inl ⟨_, rfl, wrong_T h.p, h.no (by decide)⟩)
  · rw [if_neg (fun q => e ((c_eq n most (by omega) (by omega)).1 q)), if_neg e, oc6 h.a, Option.bind_some]
    rcases (h.cell (k := z) (v := Int32.ofNat (n + 1))).go (F := F) h2 h3 with ⟨k1, k2, k3, k4⟩ | hN
    · refine Or.inl ⟨by omega, k1, ?_, rfl, k3, k4⟩
      rw [k2]
      rfl
    · obtain ⟨e, X2, B2, σ2, τ2, k, p, a1, a2, a3⟩ := hN
      refine Or.inr (Or.inr ⟨τ2, by omega, rfl, a2, ?_⟩)
      rw [a1]
      exact ⟨e, X2, B2, σ2, τ2, k, p, rfl, rfl, a3⟩
theorem AT.num2 {lo hi : Nat} {a b : Int32} (e1 : a = Int32.ofNat lo) (e2 : b = Int32.ofNat hi) (h : AT c pl last ad X0 B0 σ0 τ0 u X B σ τ j) (hl : lo ≤ 1) (hh : hi ≤ 99) : (∃ σ' τ' v, f_X2_bounded F (ad 6) a b (cM X ad σ B) = some (.inl v, cM X ad σ' B) ∧ t_X9_takesInt F a b τ = some (1, τ') ∧ AT c pl last ad X0 B0 σ0 τ0 u X B σ' τ' (j + 1) ∧ τ'.1 29 = v ∧ KF σ σ' τ τ' ∧ (CLN σ' τ' → CLN σ τ ∧ ∃ k, lo ≤ k ∧ k ≤ hi ∧ v = Int32.ofNat k)) ∨ ∃ e X2 B2 σ2 τ2, f_X2_bounded F (ad 6) a b (cM X ad σ B) = some (.inr e, cM X2 ad σ2 B2) ∧ t_X9_takesInt F a b τ = some (0, τ2) ∧ ∀ {R : Type}, TNO (R := R) ad X0 B0 σ0 τ0 (u + 1) (some (.inr e, cM X2 ad σ2 B2)) (some (0, τ2)) := by
  subst e1 e2
  rcases h.num (F := F) hl hh with ⟨σ', τ', v, a1, a2, -, a4, a5, a6, a7, a8, a9, a10⟩ | ⟨e, X2, B2, σ2, τ2, k, p, a1, a2, a3⟩
  · exact Or.inl ⟨σ', τ', v, a1, a2, a4, a5, ⟨a6, a7, a8, a9⟩, a10⟩
  · exact Or.inr ⟨e, X2, B2, σ2, τ2, a1, a2, ⟨e, X2, B2, σ2, τ2, k, p, rfl, rfl, a3⟩⟩
theorem AT.known2 (hF : 100000 ≤ F) {q nh no : Nat} {a b : Int32} (e1 : a = Int32.ofNat (100 * q)) (e2 : b = Int32.ofNat q) (h : AT c pl last ad X0 B0 σ0 τ0 u X B σ τ j) (hq : q < 2) (hN : NMS σ τ nh no) (hD : CLN σ τ → NMD σ (nh + no)) : (∃ σ' τ' x, f_X2_known F (ad 6) a (cM X ad σ B) = some (.inl x, cM X ad σ' B) ∧ t_X9_takesName F b τ = some (1, τ') ∧ AT c pl last ad X0 B0 σ0 τ0 u X B σ' τ' (j + 1) ∧ KF σ σ' τ τ' ∧ (x = -1 ∨ ∃ i, i < (if q = 0 then nh else no) ∧ x = Int32.ofNat i) ∧ ((CLN σ' τ' ∧ CLN σ τ ∧ τ'.1 29 = x ∧ x ≠ -1) ∨ (DY pl (j + 1) σ' τ' ∧ ((x = -1 ∧ τ'.1 29 = -1) ∨ DY pl j σ' τ')))) ∨ ∃ e X2 B2 σ2 τ2, f_X2_known F (ad 6) a (cM X ad σ B) = some (.inr e, cM X2 ad σ2 B2) ∧ t_X9_takesName F b τ = some (0, τ2) ∧ ∀ {R : Type}, TNO (R := R) ad X0 B0 σ0 τ0 (u + 1) (some (.inr e, cM X2 ad σ2 B2)) (some (0, τ2)) := by
  subst e1 e2
  rcases h.known (F := F) hF hq hN hD with h1 | ⟨e, X2, B2, σ2, τ2, k, p, a1, a2, a3⟩
  · exact Or.inl h1
  · exact Or.inr ⟨e, X2, B2, σ2, τ2, a1, a2, ⟨e, X2, B2, σ2, τ2, k, p, rfl, rfl, a3⟩⟩
theorem AT.nameH (hF : 100000 ≤ F) {nh no : Nat} (h : AT c pl last ad X0 B0 σ0 τ0 u X B σ τ j) (hN : NMS σ τ nh no) (hr : nh < 16) (hD : CLN σ τ → NMD σ (nh + no)) : (∃ σ' τ', f_X2_tellName F (ad 6) (Int32.ofNat nh) (cM X ad σ B) = some (.inl (), cM X ad σ' B) ∧ t_X9_names F 0 (Int32.ofNat nh) τ = some (1, τ') ∧ AT c pl last ad X0 B0 σ0 τ0 u X B σ' τ' (j + 1) ∧ NMS σ' τ' (nh + 1) no ∧ (CLN σ' τ' → CLN σ τ ∧ NMD σ' (nh + 1 + no)) ∧ (∀ r, r ≠ 20 → r ≠ 21 → τ'.2.1 r = τ.2.1 r)) ∨ ∃ e X2 B2 σ2 τ2, f_X2_tellName F (ad 6) (Int32.ofNat nh) (cM X ad σ B) = some (.inr e, cM X2 ad σ2 B2) ∧ t_X9_names F 0 (Int32.ofNat nh) τ = some (0, τ2) ∧ ∀ {R : Type}, TNO (R := R) ad X0 B0 σ0 τ0 (u + 1) (some (.inr e, cM X2 ad σ2 B2)) (some (0, τ2)) := by
  have e1 : (100 * 0 + if 0 = 0 then nh else no) = nh := by omega
  have e2 : (if 0 = 0 then nh else no) = nh := if_pos rfl
  have k := h.name (F := F) (q := 0) hF (by decide) hN hr hD
  rw [e1, e2] at k
  rcases k with ⟨σ', τ', a1, a2, a3, a4, a5, a6⟩ | ⟨e, X2, B2, σ2, τ2, k, p, a1, a2, a3⟩
  · exact Or.inl ⟨σ', τ', a1, a2, a3, a4, a5, a6⟩
  · exact Or.inr ⟨e, X2, B2, σ2, τ2, a1, a2, ⟨e, X2, B2, σ2, τ2, k, p, rfl, rfl, a3⟩⟩
theorem AT.nameO (hF : 100000 ≤ F) {nh no : Nat} (h : AT c pl last ad X0 B0 σ0 τ0 u X B σ τ j) (hN : NMS σ τ nh no) (hr : no < 12) (hD : CLN σ τ → NMD σ (nh + no)) : (∃ σ' τ', f_X2_tellName F (ad 6) (Int32.ofNat (100 + no)) (cM X ad σ B) = some (.inl (), cM X ad σ' B) ∧ t_X9_names F 1 (Int32.ofNat no) τ = some (1, τ') ∧ AT c pl last ad X0 B0 σ0 τ0 u X B σ' τ' (j + 1) ∧ NMS σ' τ' nh (no + 1) ∧ (CLN σ' τ' → CLN σ τ ∧ NMD σ' (nh + (no + 1))) ∧ (∀ r, r ≠ 20 → r ≠ 21 → τ'.2.1 r = τ.2.1 r)) ∨ ∃ e X2 B2 σ2 τ2, f_X2_tellName F (ad 6) (Int32.ofNat (100 + no)) (cM X ad σ B) = some (.inr e, cM X2 ad σ2 B2) ∧ t_X9_names F 1 (Int32.ofNat no) τ = some (0, τ2) ∧ ∀ {R : Type}, TNO (R := R) ad X0 B0 σ0 τ0 (u + 1) (some (.inr e, cM X2 ad σ2 B2)) (some (0, τ2)) := by
  have e1 : (100 * 1 + if 1 = 0 then nh else no) = 100 + no := by omega
  have e2 : (if 1 = 0 then nh else no) = no := if_neg (by decide)
  have k := h.name (F := F) (q := 1) hF (by decide) hN hr hD
  rw [e1, e2] at k
  rcases k with ⟨σ', τ', a1, a2, a3, a4, a5, a6⟩ | ⟨e, X2, B2, σ2, τ2, k, p, a1, a2, a3⟩
  · exact Or.inl ⟨σ', τ', a1, a2, a3, a4, a5, a6⟩
  · exact Or.inr ⟨e, X2, B2, σ2, τ2, a1, a2, ⟨e, X2, B2, σ2, τ2, k, p, rfl, rfl, a3⟩⟩
end AT
/-- behind what was told: the sign that ends it -/
noncomputable def SEM (F : Nat) (this : Nat) (M : Sw) : Option ((Unit ⊕ Nat) × Sw) := Option.bind (oc M this 2) fun _ => Option.bind (f_X2_must F this 59 M) fun q => thr q.1 q.2 fun _ => some (.inl (), q.2)
/-- between two things that are told -/
def TI (c pl : Nat → Nat) (last : Nat) (ad : Nat → Nat) (X0 : Nat → Option Ob) (B0 : Sw) (σ0 : Cs) (τ0 : Tw) (X : Nat → Option Ob) (B : Sw) (σ : Cs) (τ : Tw) (j : Nat) : Prop := ∃ (g : Nat → Nat) (ob : Nat → Ob) (D : Dn) (m l : Nat), AT c pl last ad X0 B0 σ0 τ0 (40 + 24 * j) X B σ τ j ∧ ad 130 = g 0 + 1 ∧ TWD ad B0.2.1 X B g ob D ∧ CNT (VW τ) D ∧ NMS σ τ (D.1 0) (D.1 1) ∧ (CLN σ τ → NMD σ (D.1 0 + D.1 1) ∧ DT (VW τ) B D m l) ∧ (τ.2.1 8 1 = Int32.ofNat m ∧ m ≤ j) ∧ τ.2.1 11 1 = Int32.ofNat l ∧ 3 * l ≤ j
/-- one thing was told on both sides, or both fail alike -/
def TOK (F : Nat) (c pl : Nat → Nat) (last : Nat) (ad : Nat → Nat) (X0 : Nat → Option Ob) (B0 : Sw) (σ0 : Cs) (τ0 : Tw) (j : Nat) (rC : Option ((Unit ⊕ Nat) × Sw)) (rT : Option (Int32 × Tw)) : Prop := (∃ X' B' σ' τ' j', rC = SEM F (ad 6) (cM X' ad σ' B') ∧ rT = some (1, τ') ∧ j < j' ∧ TI c pl last ad X0 B0 σ0 τ0 X' B' σ' τ' j') ∨ TNO ad X0 B0 σ0 τ0 9800 rC rT
theorem TOK.b {X0 : Nat → Option Ob} {B0 : Sw} {σ0 : Cs} {τ0 : Tw} {rC : Option ((Unit ⊕ Nat) × Sw)} {rT : Option (Int32 × Tw)} (h : TOK F c pl last ad X0 B0 σ0 τ0 j rC rT) : TOK F c pl last ad X0 B0 σ0 τ0 j rC (Option.bind rT fun q => if q.1 = 0 ∨ q.1 = 1 then some (q.1, q.2) else none) := by
  rcases h with ⟨X', B', σ', τ', j', a1, a2, a3⟩ | ⟨e, X2, B2, σ2, τ2, k, p, a1, a2, a3⟩
  · refine Or.inl ⟨X', B', σ', τ', j', a1, ?_, a3⟩
    rw [a2, Option.bind_some, if_pos (Or.inr rfl)]
  · refine Or.inr ⟨e, X2, B2, σ2, τ2, k, p, a1, ?_, a3⟩
    rw [a2, Option.bind_some, if_pos (Or.inl rfl)]
theorem one_T {q : Nat} (h : PK c pl last j σ τ) (hq : c j = 16 + q) (hl : q < 26) : t_X9_tellOne F τ = t_X9_tellOne_j26 F (wtL.getD q 0) τ := by
  have hcl := (h.1.2.1 j h.2.2.2).1.1
  have s3 : sT (c j) = 3 := (sT_2 _ hcl).2.2 (by omega)
  have hw : τ.2.1 4 j = wtL.getD q 0 := by
    rw [(h.1.2.1 j h.2.2.2).2.2.1 (by omega) (by omega), hq]
    unfold wT
    rw [if_neg (by omega), Nat.add_sub_cancel_left]
  unfold t_X9_tellOne
  rw [sort_T h, Option.bind_some, s3, if_pos rfl, what_T h, Option.bind_some, hw]
