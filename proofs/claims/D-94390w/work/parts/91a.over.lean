set_option maxRecDepth 100000
/-! fresh cells over a memory -/
variable {X : Nat → Option Ob} {ad ad' : Nat → Nat} {B B' : Sw} {A A' : Av} {σ σ' : Cs} {τ : Tw} {F : Nat}
/-- cells T at the memory's end -/
def ovl (M : Sw) (T : List Ob) (s : Nat) : Sw := (fun b => if M.2.1 ≤ b ∧ b < M.2.1 + T.length then T[b - M.2.1]? else M.1 b, M.2.1 + T.length, M.2.2.1 + s, M.2.2.2)
theorem ov_at {M : Sw} {T : List Ob} {s i : Nat} {o : Ob} (h : T[i]? = some o) : (ovl M T s).1 (M.2.1 + i) = some o := by
  have hi : i < T.length := by
    obtain ⟨q, -⟩ := List.getElem?_eq_some_iff.1 h
    exact q
  show (if M.2.1 ≤ M.2.1 + i ∧ M.2.1 + i < M.2.1 + T.length then T[M.2.1 + i - M.2.1]? else M.1 (M.2.1 + i)) = some o
  rw [if_pos (by omega), Nat.add_sub_cancel_left]
  exact h
theorem ov_lo {M : Sw} {T : List Ob} {s b : Nat} (h : b < M.2.1) : (ovl M T s).1 b = M.1 b := if_neg (by omega)
theorem ov_hi {M : Sw} {T : List Ob} {s b : Nat} (h : M.2.1 + T.length ≤ b) : (ovl M T s).1 b = M.1 b := if_neg (by omega)
theorem ov_2 {M : Sw} {T : List Ob} {s : Nat} : (ovl M T s).2 = (M.2.1 + T.length, M.2.2.1 + s, M.2.2.2) := rfl
theorem ov_mup {M : Sw} {T : List Ob} {s i : Nat} {o : Ob} (h : i < T.length) : (mup (ovl M T s).1 (M.2.1 + i) o, (ovl M T s).2) = ovl M (T.set i o) s := by
  refine Prod.ext (funext fun b => ?_) ?_
  · show mup (ovl M T s).1 (M.2.1 + i) o b = (if M.2.1 ≤ b ∧ b < M.2.1 + (T.set i o).length then (T.set i o)[b - M.2.1]? else M.1 b)
    rw [List.length_set]
    by_cases e : b = M.2.1 + i
    · rw [e, mup_eq, if_pos (by omega), Nat.add_sub_cancel_left, List.getElem?_set_self h]
    · rw [mup_ne e]
      show (if M.2.1 ≤ b ∧ b < M.2.1 + T.length then T[b - M.2.1]? else M.1 b) = _
      by_cases c : M.2.1 ≤ b ∧ b < M.2.1 + T.length
      · rw [if_pos c, if_pos c, List.getElem?_set_ne (by omega)]
      · rw [if_neg c, if_neg c]
  · show (M.2.1 + T.length, M.2.2.1 + s, M.2.2.2) = (M.2.1 + (T.set i o).length, M.2.2.1 + s, M.2.2.2)
    rw [List.length_set]
theorem ov_nw {M : Sw} {T : List Ob} {s k : Nat} {o : Ob} : nw (ovl M T s) o k = ovl M (T ++ [o]) (s + k) := by
  refine Prod.ext (funext fun b => ?_) ?_
  · show mup (ovl M T s).1 (M.2.1 + T.length) o b = (if M.2.1 ≤ b ∧ b < M.2.1 + (T ++ [o]).length then (T ++ [o])[b - M.2.1]? else M.1 b)
    rw [List.length_append]
    show _ = if M.2.1 ≤ b ∧ b < M.2.1 + (T.length + 1) then (T ++ [o])[b - M.2.1]? else M.1 b
    by_cases e : b = M.2.1 + T.length
    · rw [e, mup_eq, if_pos (by omega), Nat.add_sub_cancel_left, List.getElem?_append_right (Nat.le_refl _), Nat.sub_self]
      rfl
    · rw [mup_ne e]
      show (if M.2.1 ≤ b ∧ b < M.2.1 + T.length then T[b - M.2.1]? else M.1 b) = _
      by_cases c : M.2.1 ≤ b ∧ b < M.2.1 + T.length
      · rw [if_pos c, if_pos (by omega), List.getElem?_append_left (by omega)]
      · rw [if_neg c, if_neg (by omega)]
  · show (M.2.1 + T.length + 1, M.2.2.1 + s + k, M.2.2.2) = (M.2.1 + (T ++ [o]).length, M.2.2.1 + (s + k), M.2.2.2)
    rw [List.length_append, Nat.add_assoc, Nat.add_assoc]
    rfl
theorem ov_nil {M : Sw} : ovl M [] 0 = M := by
  refine Prod.ext (funext fun b => ?_) rfl
  exact if_neg (by show ¬ (M.2.1 ≤ b ∧ b < M.2.1 + 0); omega)
theorem ov_new {M : Sw} {o : Ob} {k : Nat} : nw M o k = ovl M [o] k := by
  have := ov_nw (M := M) (T := []) (s := 0) (k := k) (o := o)
  rw [ov_nil, Nat.zero_add] at this
  exact this
theorem ov_pf {M : Sw} {T : List Ob} {s i ci k : Nat} {fs : List Value} {v : Value} (h : T[i]? = some (.inr (ci, fs))) (hk : k < fs.length) : pf (ovl M T s) (M.2.1 + i) ci k v = some (ovl M (T.set i (.inr (ci, fs.set k v))) s) := by
  have hi : i < T.length := by
    obtain ⟨q, -⟩ := List.getElem?_eq_some_iff.1 h
    exact q
  rw [m_pf (ov_at h) hk, ov_mup hi]
/-- the component's memory with fresh cells -/
theorem ov_cM {T : List Ob} {s : Nat} : ovl (cM X ad σ B) T s = cM X ad σ (ovl B T s) := by
  refine Prod.ext (funext fun b => ?_) rfl
  rw [cM_1]
  show (if B.2.1 ≤ b ∧ b < B.2.1 + T.length then T[b - B.2.1]? else (cM X ad σ B).1 b) = match (if B.2.1 ≤ b ∧ b < B.2.1 + T.length then T[b - B.2.1]? else B.1 b) with | some o => some o | none => match rl ad b with | some r => some (cB ad σ r) | none => X b
  by_cases c : B.2.1 ≤ b ∧ b < B.2.1 + T.length
  · rw [if_pos c, if_pos c]
    have : b - B.2.1 < T.length := by omega
    rw [List.getElem?_eq_getElem this]
  · rw [if_neg c, if_neg c, cM_1]
    rfl
theorem ov_gr (hA : AdOK ad B) {T : List Ob} {s : Nat} : Gr B (ovl B T s) := fun a o h => by
  rw [ov_lo (hA.lt h)]
  exact h
theorem ov_no (hA : AdOK ad B) {T : List Ob} {s : Nat} {i : Nat} (hi : i < 114) : (ovl B T s).1 (ad i) = B.1 (ad i) := ov_lo (hA.2.2.1 i hi)
theorem ov_ad (hA : AdOK ad B) {T : List Ob} {s : Nat} : AdOK ad (ovl B T s) := by
  refine ⟨fun r r' h h' hb he => hA.1 r r' h h' (by rw [← ov_no hA h]; exact hb) he, fun r h x y => (ov_no hA h).trans (hA.2.1 r h x y), fun r h => ?_, fun a ha => ?_⟩
  · have := hA.2.2.1 r h
    show ad r < B.2.1 + T.length
    omega
  · have ha : B.2.1 + T.length ≤ a := ha
    rw [ov_hi ha]
    exact hA.2.2.2 a (by omega)
theorem ov_own {T : List Ob} {s : Nat} {a : Nat} (h : Own ad (ovl B T s) a) : Own ad B a ∨ B.2.1 ≤ a := by
  rcases h with h | h
  · by_cases e : B.2.1 ≤ a ∧ a < B.2.1 + T.length
    · exact Or.inr e.1
    · have e1 : (ovl B T s).1 a = B.1 a := if_neg e
      rw [e1] at h
      exact Or.inl (Or.inl h)
  · exact Or.inl (Or.inr h)
theorem ov_xt (hA : AdOK ad B) {T : List Ob} {s : Nat} (hT : T.length ≤ 18700) (hs : s ≤ 85000) : XT ad B ad (ovl B T s) := ⟨rfl, ov_gr hA, fun a h => ov_own h, Nat.le_add_right _ _, by show B.2.1 + T.length ≤ _; omega, by show B.2.2.1 + s ≤ _; omega, rfl⟩
/-- a list, and its elements are objects -/
def LO (M : Sw) (a n : Nat) (e : Nat → Nat) : Prop := n ≤ 60 ∧ LB M a n e ∧ a < M.2.1 ∧ (∀ d md nn, M.1 a = some (.inr (20, [.int md, .ref d, nn])) → d < M.2.1) ∧ ∀ j, j < n → e j < M.2.1 ∧ ∃ q, M.1 (e j) = some (.inr q)
theorem copy_any {M : Sw} {t d n cap : Nat} {f : Nat → Option Nat} (h : M.1 d = some (.inl (t, (cap, .inr (.inr f))))) (ht : t = 6 ∨ t = 12) (hd : d < M.2.1) (hn : n ≤ cap) (hc : cap < 200000) (hn6 : n ≤ 60) (he : ∀ j, j < n → ∃ y q, f j = some y ∧ y < M.2.1 ∧ M.1 y = some (.inr q)) : ∃ g, f_J13_copyOf F d (Int32.ofNat n) M = some (M.2.1, ovl M [.inl (6, (n, .inr (.inr g)))] n) ∧ ∀ j, j < n → g j = f j := by
  have h1 : oAo M d = some () := by
    unfold oAo
    rw [h]
    exact if_pos ht
  have hm : (ovl M [.inl (6, (n, .inr (.inr (fun _ => none))))] n).1 d = some (.inl (t, (cap, .inr (.inr f)))) := (ov_lo hd).trans h
  have hm2 : (ovl M [.inl (6, (n, .inr (.inr (fun _ => none))))] n).1 M.2.1 = some (.inl (6, (n, .inr (.inr (fun _ => none))))) := ov_at (i := 0) rfl
  have hcp : cpQ (ovl M [.inl (6, (n, .inr (.inr (fun _ => none))))] n) 6 d 0 M.2.1 0 (mn (Int32.ofNat cap) (Int32.ofNat n)) = some (ovl M [.inl (6, (n, .inr (.inr (va_cpy f (fun _ => none) 0 0 n))))] n) := by
    rw [mn_n (by omega) (by omega), Nat.min_eq_right hn]
    unfold cpQ
    rw [hm, hm2]
    have z0 : (0 : Int32).toNatClampNeg = 0 := rfl
    have zn : (Int32.ofNat n).toNatClampNeg = n := i_cl (n := 1000) (by omega) (by omega)
    show (if 6 = 6 ∧ 6 < 10 ∧ cpT t 6 = true ∧ ¬ (0 : Int32) < 0 ∧ ¬ (0 : Int32) < 0 ∧ ¬ Int32.ofNat n < 0 ∧ (0 : Int32).toNatClampNeg + (Int32.ofNat n).toNatClampNeg ≤ cap ∧ (0 : Int32).toNatClampNeg + (Int32.ofNat n).toNatClampNeg ≤ n ∧ (List.range (Int32.ofNat n).toNatClampNeg).all (fun i => elOK (ovl M [.inl (6, (n, .inr (.inr (fun _ => none))))] n) 6 (f ((0 : Int32).toNatClampNeg + i))) = true then some (mup (ovl M [.inl (6, (n, .inr (.inr (fun _ => none))))] n).1 (M.2.1 + 0) (.inl (6, (n, .inr (.inr (va_cpy f (fun _ => none) (0 : Int32).toNatClampNeg (0 : Int32).toNatClampNeg (Int32.ofNat n).toNatClampNeg))))), (ovl M [.inl (6, (n, .inr (.inr (fun _ => none))))] n).2) else none) = _
    rw [zn, z0, if_pos]
    · rw [ov_mup (show 0 < 1 by omega)]
      rfl
    · refine ⟨rfl, by omega, ?_, by decide, by decide, Int32.not_lt.2 (ofNat_nn (by omega)), by omega, by omega, ?_⟩
      · rcases ht with rfl | rfl <;> rfl
      rw [List.all_eq_true]
      intro i hi
      rw [List.mem_range] at hi
      obtain ⟨y, q, e, ly, ey⟩ := he i hi
      show elOK _ 6 (f (0 + i)) = true
      rw [Nat.zero_add, e]
      show (oAny (ovl M [.inl (6, (n, .inr (.inr (fun _ => none))))] n) y).isSome = true
      rw [m_any (q := q) ((ov_lo ly).trans ey)]
      rfl
  refine ⟨va_cpy f (fun _ => none) 0 0 n, ?_, fun j hj => ?_⟩
  · unfold f_J13_copyOf
    rw [h1, Option.bind_some]
    unfold f_J13_copyOf_2
    rw [if_pos rfl, m_nwQ (by omega), Option.bind_some, ov_new]
    unfold f_J13_copyOf_2_j24
    rw [m_N hm, Option.bind_some, hcp, Option.bind_some, Option.bind_some]
  · rw [pk_cpy_in (by omega) (by omega)]
    show f (0 + (j - 0)) = f j
    congr 1
    omega
