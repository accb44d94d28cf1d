set_option maxRecDepth 100000
/-! 23: nights; the tables of nights -/
variable {X : Nat → Option Ob} {ad ad' : Nat → Nat} {B B' : Sw} {A A' : Av} {σ σ' : Cs} {τ : Tw} {F : Nat}
/-- a set y may come to s in a night -/
def okY (n s cr : Nat) (G : Nat → Int32) (y : Nat) : Prop := 1 ≤ y ∧ y < 2 ^ n ∧ y &&& s = 0 ∧ pcN y 16 ≤ cr ∧ G (s ||| y) ≠ 0
theorem canAdd_C (hE : EV ad B A) {cr : Nat} (hcr : A 6 6 = Int32.ofNat cr) (lcr : cr ≤ 9) {s y v : Nat} (hs : s < 256) (hy : y < 256) (hsy : s ||| y < 256) (hv : σ.2.1 29 (s ||| y) = Int32.ofNat v) (lv : v ≤ 99) : f_X0_canAdd F (ad 0) (Int32.ofNat s) (Int32.ofNat y) (cM X ad σ B) = some (if pcN y 16 ≤ cr ∧ σ.2.1 30 (s ||| y) ≠ 0 ∧ v < 99 then 1 else 0) := by
  have hA := hE.1
  have lp := pcN_max y hy
  unfold f_X0_canAdd
  rw [count_C (b16_n (by omega)), Option.bind_some, o0_3 hA, Option.bind_some, (hE.2.1.tw σ).2.2.2.2.2.2.2.2.2.1, Option.bind_some, hcr, pc_n (by omega), n_or]
  by_cases c1 : pcN y 16 ≤ cr
  · rw [if_neg (fun q => by have := (c_lt _ _ (by omega) (by omega)).1 q; omega), o0_17 hA, Option.bind_some, a30 hA _ _ hsy, Option.bind_some]
    by_cases c2 : σ.2.1 30 (s ||| y) = 0
    · rw [if_pos c2, if_neg (fun q => q.2.1 c2)]
    · rw [if_neg c2, o0_16 hA, Option.bind_some, a29 hA _ _ hsy, Option.bind_some, hv]
      by_cases c3 : v < 99
      · rw [if_neg (fun q => by have := (c_le 99 v (by omega) (by omega)).1 q; omega), if_pos ⟨c1, c2, c3⟩]
      · rw [if_pos (show (99 : Int32) ≤ Int32.ofNat v from (c_le 99 v (by omega) (by omega)).2 (by omega)), if_neg (fun q => c3 q.2.2)]
  · rw [if_pos (show Int32.ofNat cr < Int32.ofNat (pcN y 16) from (c_lt _ _ (by omega) (by omega)).2 (by omega)), if_neg (fun q => c1 q.1)]
/-- the least over the sets seen -/
def lsC (P : Nat → Prop) (f : Nat → Nat) (a0 acc : Nat) : Prop := (acc = a0 ∨ ∃ y, P y ∧ acc = f y + 1) ∧ acc ≤ a0 ∧ ∀ y, P y → acc ≤ f y + 1
theorem lsC.one {P Q : Nat → Prop} {f : Nat → Nat} {a0 acc x : Nat} (h : lsC P f a0 acc) (hx : Q x) (hQ : ∀ y, Q y ↔ P y ∨ y = x) : lsC Q f a0 (min acc (f x + 1)) := by
  obtain ⟨h1, h2, h3⟩ := h
  refine ⟨?_, by omega, fun y hy => ?_⟩
  · by_cases c : acc ≤ f x + 1
    · rw [Nat.min_eq_left c]
      rcases h1 with h1 | ⟨y, a, b⟩
      · exact Or.inl h1
      · exact Or.inr ⟨y, (hQ y).2 (Or.inl a), b⟩
    · rw [Nat.min_eq_right (by omega)]
      exact Or.inr ⟨x, hx, rfl⟩
  · rcases (hQ y).1 hy with a | a
    · have := h3 y a
      omega
    · rw [a]; omega
theorem lsC.cg {P Q : Nat → Prop} {f : Nat → Nat} {a0 acc : Nat} (h : lsC P f a0 acc) (hQ : ∀ y, Q y ↔ P y) : lsC Q f a0 acc := by
  obtain ⟨h1, h2, h3⟩ := h
  refine ⟨?_, h2, fun y hy => h3 y ((hQ y).1 hy)⟩
  rcases h1 with h1 | ⟨y, a, b⟩
  · exact Or.inl h1
  · exact Or.inr ⟨y, (hQ y).2 a, b⟩
theorem inC (hE : EV ad B A) {n s cr : Nat} (hn : n ≤ 8) (hs : s < 2 ^ n) (hcr : A 6 6 = Int32.ofNat cr) (lcr : cr ≤ 9) {f : Nat → Int32} {v : Nat → Nat} (hv : ∀ s', s < s' → s' < 2 ^ n → f s' = Int32.ofNat (v s') ∧ v s' ≤ 99) {a0 : Nat} (ha0 : a0 ≤ 99) {c4 : Int32} {K : Sw → Option (Int32 × Sw)} : ∀ (m x fc acc : Nat) (σ : Cs), x ≤ m → x < fc → x &&& rst n s = x → σ.2.1 29 = upd f s (Int32.ofNat acc) → CR ad B A σ → lsC (fun y => x < y ∧ okY n s cr (σ.2.1 30) y ∧ v (s ||| y) < 99) (fun y => v (s ||| y)) a0 acc → ∃ (acc' : Nat) (σ' : Cs), f_X0_fillNights_L254 F K (ad 0) (Int32.ofNat n) c4 (Int32.ofNat s) (Int32.ofNat (rst n s)) fc (Int32.ofNat x) (cM X ad σ B) = K (cM X ad σ' B) ∧ σ'.2.1 29 = upd f s (Int32.ofNat acc') ∧ CR ad B A σ' ∧ (∀ r, r ≠ 29 → σ'.2.1 r = σ.2.1 r) ∧ lsC (fun y => okY n s cr (σ.2.1 30) y ∧ v (s ||| y) < 99) (fun y => v (s ||| y)) a0 acc' := by
  have hA := hE.1
  obtain ⟨p1, p2⟩ := pow_b hn
  intro m
  induction m with
  | zero =>
    intro x fc acc σ hx hfc hxr h29 hC hl
    obtain ⟨fc, rfl⟩ : ∃ m, fc = m + 1 := ⟨fc - 1, by omega⟩
    have x0 : x = 0 := by omega
    subst x0
    refine ⟨acc, σ, ?_, h29, hC, fun _ _ => rfl, hl.cg fun y => ⟨fun q => ⟨q.1.1, q⟩, fun q => q.2⟩⟩
    show f_X0_fillNights_L254_b F K (ad 0) (Int32.ofNat n) c4 (Int32.ofNat s) (Int32.ofNat (rst n s)) (f_X0_fillNights_L254 F K (ad 0) (Int32.ofNat n) c4 (Int32.ofNat s) (Int32.ofNat (rst n s)) fc) (Int32.ofNat 0) (cM X ad σ B) = _
    unfold f_X0_fillNights_L254_b
    rw [if_pos (show Int32.ofNat 0 ≤ 0 by decide)]
  | succ m ih =>
    intro x fc acc σ hx hfc hxr h29 hC hl
    by_cases x0 : x = 0
    · exact ih x fc acc σ (by omega) hfc hxr h29 hC hl
    obtain ⟨fc, rfl⟩ : ∃ m, fc = m + 1 := ⟨fc - 1, by omega⟩
    obtain ⟨x1, x2⟩ := (in_rst hs).2 hxr
    have xs := or_gt x2 (show 1 ≤ x by omega)
    have xs2 := or_lt' hs x1
    obtain ⟨v1, v2⟩ := hv _ xs xs2
    have e29 : σ.2.1 29 (s ||| x) = Int32.ofNat (v (s ||| x)) := by rw [h29, up_n _ _ _ _ (by omega)]; exact v1
    have ca := canAdd_C (X := X) (F := F) (σ := σ) (s := s) (y := x) hE hcr lcr (by omega) (by omega) (by omega) e29 v2
    have nle : ¬ Int32.ofNat x ≤ 0 := fun q => by
      have := (c_le x 0 (by omega) (by omega)).1 q
      omega
    have ex : Int32.ofNat x - 1 &&& Int32.ofNat (rst n s) = Int32.ofNat ((x - 1) &&& rst n s) := by
      rw [show (1 : Int32) = Int32.ofNat 1 from rfl, n_ss _ _ (by omega), n_and]
    have lx : (x - 1) &&& rst n s ≤ x - 1 := Nat.and_le_left
    have hx' : ((x - 1) &&& rst n s) &&& rst n s = (x - 1) &&& rst n s := by rw [Nat.and_assoc, Nat.and_self]
    have below : ∀ y, okY n s cr (σ.2.1 30) y → ((x - 1) &&& rst n s < y ↔ x < y ∨ y = x) := fun y hy => by
      have hyr := (in_rst hs).1 ⟨hy.2.1, hy.2.2.1⟩
      constructor
      · intro q
        apply Classical.byContradiction
        intro z
        have := sub_mask x (rst n s) x y (Nat.le_refl _) hxr hyr (by omega)
        omega
      · intro q; omega
    have c : f_X0_fillNights_L254 F K (ad 0) (Int32.ofNat n) c4 (Int32.ofNat s) (Int32.ofNat (rst n s)) (fc + 1) (Int32.ofNat x) (cM X ad σ B) = f_X0_fillNights_L254_b F K (ad 0) (Int32.ofNat n) c4 (Int32.ofNat s) (Int32.ofNat (rst n s)) (f_X0_fillNights_L254 F K (ad 0) (Int32.ofNat n) c4 (Int32.ofNat s) (Int32.ofNat (rst n s)) fc) (Int32.ofNat x) (cM X ad σ B) := rfl
    unfold f_X0_fillNights_L254_b at c
    rw [if_neg nle, oc0 hA, Option.bind_some, ca, Option.bind_some, gd, ex] at c
    by_cases hok : pcN x 16 ≤ cr ∧ σ.2.1 30 (s ||| x) ≠ 0 ∧ v (s ||| x) < 99
    · have okx : okY n s cr (σ.2.1 30) x := ⟨by omega, x1, x2, hok.1, hok.2.1⟩
      have e29s : σ.2.1 29 s = Int32.ofNat acc := by rw [h29, up_s]
      have lacc : acc ≤ 99 := Nat.le_trans hl.2.1 ha0
      have emn : mn (Int32.ofNat acc) (Int32.ofNat (v (s ||| x) + 1)) = Int32.ofNat (min acc (v (s ||| x) + 1)) := mn_n (by omega) (by omega)
      have lmin : min acc (v (s ||| x) + 1) ≤ 99 := by omega
      rw [if_pos hok, o0_16 hA, Option.bind_some, Option.bind_some, a29 hA _ _ (by omega), Option.bind_some, Option.bind_some, n_or, a29 hA _ _ (by omega), Option.bind_some, e29s, e29, n_lp 1 _, emn, (nar2 lmin).2, s29 hA _ _ _ (by omega), Option.bind_some, (nar2 lmin).1, nmE] at c
      have cs : ∀ g, csA σ 29 (upd (σ.2.1 29) s g) = csA σ 29 (upd f s g) := fun g => by
        rw [h29]
        have : upd (upd f s (Int32.ofNat acc)) s g = upd f s g := by
          funext q
          by_cases e : q = s
          · rw [e, up_s, up_s]
          · rw [up_n _ _ _ _ e, up_n _ _ _ _ e, up_n _ _ _ _ e]
        rw [this]
      rw [cs] at c
      have l2 : lsC (fun y => (x - 1) &&& rst n s < y ∧ okY n s cr ((csA σ 29 (upd f s (Int32.ofNat (min acc (v (s ||| x) + 1))))).2.1 30) y ∧ v (s ||| y) < 99) (fun y => v (s ||| y)) a0 (min acc (v (s ||| x) + 1)) := by
        rw [csA_n _ _ _ _ (show (30 : Nat) ≠ 29 by decide)]
        refine hl.one ⟨by omega, okx, hok.2.2⟩ fun y => ?_
        constructor
        · rintro ⟨a, b, d⟩
          rcases (below y b).1 a with q | q
          · exact Or.inl ⟨q, b, d⟩
          · exact Or.inr q
        · rintro (⟨a, b, d⟩ | q)
          · exact ⟨(below y b).2 (Or.inl a), b, d⟩
          · rw [q]; exact ⟨by omega, okx, hok.2.2⟩
      obtain ⟨acc', σ', y1, y2, y3, y4, y5⟩ := ih _ fc _ (csA σ 29 (upd f s (Int32.ofNat (min acc (v (s ||| x) + 1))))) (by omega) (by omega) hx' (csA_s _ _ _) (hC.a rfl) l2
      refine ⟨acc', σ', c.trans y1, y2, y3, fun r hr => (y4 r hr).trans (csA_n _ _ _ _ hr), ?_⟩
      rw [csA_n _ _ _ _ (show (30 : Nat) ≠ 29 by decide)] at y5
      exact y5
    · rw [if_neg hok, nmE] at c
      obtain ⟨acc', σ', y1, y2⟩ := ih _ fc acc σ (by omega) (by omega) hx' h29 hC (hl.cg fun y => by
        constructor
        · rintro ⟨a, b, d⟩
          rcases (below y b).1 a with q | q
          · exact ⟨q, b, d⟩
          · rw [q] at b d
            exact absurd ⟨b.2.2.2.1, b.2.2.2.2, d⟩ hok
        · rintro ⟨a, b, d⟩
          exact ⟨(below y b).2 (Or.inl a), b, d⟩)
      exact ⟨acc', σ', c.trans y1, y2⟩
theorem inT (hF : 1000 ≤ F) {n s cr : Nat} (hn : n ≤ 8) (hs : s < 2 ^ n) {G : Nat → Int32} {f : Nat → Int32} {v : Nat → Nat} (hv : ∀ s', s < s' → s' < 2 ^ n → f s' = Int32.ofNat (v s') ∧ v s' ≤ 1000000) {a0 : Nat} (ha0 : a0 ≤ 1000000) (h6 : τ.2.1 6 6 = Int32.ofNat cr) (lcr : cr ≤ 9) (h30 : τ.2.1 30 = G) {K : Tw → Option Tw} : ∀ (d x ft acc : Nat), x + d = 2 ^ n → d < ft → 1 ≤ x → lsC (fun y => y < x ∧ okY n s cr G y) (fun y => v (s ||| y)) a0 acc → ∃ (acc' : Nat), t_X9_layNights_L103 F K (Int32.ofNat (2 ^ n)) (Int32.ofNat s) ft (Int32.ofNat x) (twA τ 31 (upd f s (Int32.ofNat acc))) = K (twA τ 31 (upd f s (Int32.ofNat acc'))) ∧ lsC (fun y => okY n s cr G y) (fun y => v (s ||| y)) a0 acc' := by
  obtain ⟨p1, p2⟩ := pow_b hn
  intro d
  induction d with
  | zero =>
    intro x ft acc hx hft h1 hl
    obtain ⟨ft, rfl⟩ : ∃ m, ft = m + 1 := ⟨ft - 1, by omega⟩
    have e0 : x = 2 ^ n := by omega
    refine ⟨acc, ?_, hl.cg fun y => ⟨fun q => ⟨by rw [e0]; exact q.2.1, q⟩, fun q => q.2⟩⟩
    show t_X9_layNights_L103_b F K (Int32.ofNat (2 ^ n)) (Int32.ofNat s) (t_X9_layNights_L103 F K (Int32.ofNat (2 ^ n)) (Int32.ofNat s) ft) (Int32.ofNat x) _ = _
    unfold t_X9_layNights_L103_b
    rw [e0, if_pos (Int32.le_refl _)]
  | succ d ih =>
    intro x ft acc hx hft h1 hl
    obtain ⟨ft, rfl⟩ : ∃ m, ft = m + 1 := ⟨ft - 1, by omega⟩
    have x2 : x < 2 ^ n := by omega
    have lp := pcN_max x (by omega)
    have nle : ¬ Int32.ofNat (2 ^ n) ≤ Int32.ofNat x := fun q => by
      have := (c_le _ _ (by omega) (by omega)).1 q
      omega
    have t : t_X9_layNights_L103 F K (Int32.ofNat (2 ^ n)) (Int32.ofNat s) (ft + 1) (Int32.ofNat x) (twA τ 31 (upd f s (Int32.ofNat acc))) = t_X9_layNights_L103_b F K (Int32.ofNat (2 ^ n)) (Int32.ofNat s) (t_X9_layNights_L103 F K (Int32.ofNat (2 ^ n)) (Int32.ofNat s) ft) (Int32.ofNat x) (twA τ 31 (upd f s (Int32.ofNat acc))) := rfl
    unfold t_X9_layNights_L103_b at t
    rw [if_neg nle, n_and, nmE, n_lp 1 x, count_T (by omega), Option.bind_some, pc_n (by omega), taI_l _ _ _ _ (by omega) (by omega), Option.bind_some, twA_n _ _ _ _ (show (6 : Nat) ≠ 31 by decide), show τ.2.1 6 (OfNat.ofNat 6) = Int32.ofNat cr from h6] at t
    have skip : ¬ okY n s cr G x → (t_X9_layNights_L103 F K (Int32.ofNat (2 ^ n)) (Int32.ofNat s) (ft + 1) (Int32.ofNat x) (twA τ 31 (upd f s (Int32.ofNat acc))) = t_X9_layNights_L103 F K (Int32.ofNat (2 ^ n)) (Int32.ofNat s) ft (Int32.ofNat (x + 1)) (twA τ 31 (upd f s (Int32.ofNat acc)))) → ∃ (acc' : Nat), t_X9_layNights_L103 F K (Int32.ofNat (2 ^ n)) (Int32.ofNat s) (ft + 1) (Int32.ofNat x) (twA τ 31 (upd f s (Int32.ofNat acc))) = K (twA τ 31 (upd f s (Int32.ofNat acc'))) ∧ lsC (fun y => okY n s cr G y) (fun y => v (s ||| y)) a0 acc' := fun hno e => by
      rw [e]
      refine ih (x + 1) ft acc (by omega) (by omega) (by omega) (hl.cg fun y => ?_)
      constructor
      · rintro ⟨a, b⟩
        by_cases q : y = x
        · rw [q] at b; exact absurd b hno
        · exact ⟨by omega, b⟩
      · rintro ⟨a, b⟩; exact ⟨by omega, b⟩
    by_cases c1 : x &&& s = 0
    · rw [if_pos (show Int32.ofNat (x &&& s) = 0 by rw [c1]; rfl)] at t
      by_cases c2 : pcN x 16 ≤ cr
      · rw [if_neg (fun q => by have := (c_lt _ _ (by omega) (by omega)).1 q; omega), n_or] at t
        have xs := or_gt c1 h1
        have xs2 := or_lt' hs x2
        obtain ⟨v1, v2⟩ := hv _ xs xs2
        rw [taI_n _ _ _ _ (by omega) (by omega), Option.bind_some, twA_n _ _ _ _ (show (30 : Nat) ≠ 31 by decide), h30] at t
        by_cases c3 : G (s ||| x) = 0
        · rw [if_pos c3] at t
          exact skip (fun q => q.2.2.2.2 c3) t
        · have okx : okY n s cr G x := ⟨h1, x2, c1, c2, c3⟩
          have lacc : acc ≤ 1000000 := Nat.le_trans hl.2.1 ha0
          have els : p_X9_least F (Int32.ofNat acc) (Int32.ofNat (v (s ||| x) + 1)) = some (Int32.ofNat (min acc (v (s ||| x) + 1))) := by
            unfold p_X9_least
            by_cases q : v (s ||| x) + 1 ≤ acc
            · rw [if_pos ((c_le _ _ (by omega) (by omega)).2 q), Nat.min_eq_right q]
            · rw [if_neg (fun z => q ((c_le _ _ (by omega) (by omega)).1 z)), Nat.min_eq_left (by omega)]
          rw [if_neg c3, taI_n _ _ _ _ (by omega) (by omega), Option.bind_some, taI_n _ _ _ _ (by omega) (by omega), Option.bind_some, twA_s, up_s, up_n _ _ _ _ (by omega), v1, n_lp 1 _, els, Option.bind_some, tsA_n _ _ _ _ _ _ (by omega) (by omega), Option.bind_some, nmE, twA_twA, twA_s, nar0] at t
          have eu : upd (upd f s (Int32.ofNat acc)) s (Int32.ofNat (min acc (v (s ||| x) + 1))) = upd f s (Int32.ofNat (min acc (v (s ||| x) + 1))) := by
            funext q
            by_cases e : q = s
            · rw [e, up_s, up_s]
            · rw [up_n _ _ _ _ e, up_n _ _ _ _ e, up_n _ _ _ _ e]
          rw [eu] at t
          rw [t]
          refine ih (x + 1) ft _ (by omega) (by omega) (by omega) (hl.one ⟨by omega, okx⟩ fun y => ?_)
          constructor
          · rintro ⟨a, b⟩
            by_cases q : y = x
            · exact Or.inr q
            · exact Or.inl ⟨by omega, b⟩
          · rintro (⟨a, b⟩ | q)
            · exact ⟨by omega, b⟩
            · rw [q]; exact ⟨by omega, okx⟩
      · rw [if_pos (show Int32.ofNat cr < Int32.ofNat (pcN x 16) from (c_lt _ _ (by omega) (by omega)).2 (by omega))] at t
        exact skip (fun q => c2 q.2.2.2.1) t
    · rw [if_neg (fun q => c1 (by
        have l : x &&& s ≤ x := Nat.and_le_left
        exact (c_eq (x &&& s) 0 (by omega) (by omega)).1 q))] at t
      exact skip (fun q => c1 q.2.2.1) t
/-- the two tables' entries -/
def nR (n s a b : Nat) : Prop := (a = 99 ∧ b = 1000000) ∨ (a = b ∧ a + pcN s 16 ≤ n)
theorem nR_min {n s cr : Nat} (hn : n ≤ 8) (hs : s < 2 ^ n) {G : Nat → Int32} {vC vT : Nat → Nat} (hR : ∀ s', s < s' → s' < 2 ^ n → nR n s' (vC s') (vT s')) {a b : Nat} (hC : lsC (fun y => okY n s cr G y ∧ vC (s ||| y) < 99) (fun y => vC (s ||| y)) 99 a) (hT : lsC (fun y => okY n s cr G y) (fun y => vT (s ||| y)) 1000000 b) : nR n s a b := by
  obtain ⟨p1, p2⟩ := pow_b hn
  have rel : ∀ y, okY n s cr G y → nR n (s ||| y) (vC (s ||| y)) (vT (s ||| y)) ∧ pcN (s ||| y) 16 = pcN s 16 + pcN y 16 ∧ 1 ≤ pcN y 16 := fun y hy => by
    refine ⟨hR _ (or_gt hy.2.2.1 hy.1) (or_lt' hs hy.2.1), pcN_or hy.2.2.1 16, pcN_po y (by have := hy.2.1; omega) hy.1⟩
  obtain ⟨c1, c2, c3⟩ := hC
  obtain ⟨t1, t2, t3⟩ := hT
  dsimp only at c1 c3 t1 t3
  rcases c1 with c1 | ⟨y, ⟨oy, ly⟩, ey⟩
  · refine Or.inl ⟨c1, ?_⟩
    rcases t1 with t1 | ⟨y, oy, ey⟩
    · exact t1
    · obtain ⟨r1, r2, r3⟩ := rel y oy
      rcases r1 with ⟨q1, q2⟩ | ⟨q1, q2⟩
      · omega
      · have := c3 y ⟨oy, by omega⟩
        omega
  · obtain ⟨r1, r2, r3⟩ := rel y oy
    have ty := t3 y oy
    rcases r1 with ⟨q1, q2⟩ | ⟨q1, q2⟩
    · omega
    · refine Or.inr ⟨?_, by omega⟩
      rcases t1 with t1 | ⟨y', oy', ey'⟩
      · omega
      · obtain ⟨r1', r2', r3'⟩ := rel y' oy'
        rcases r1' with ⟨q1', q2'⟩ | ⟨q1', q2'⟩
        · omega
        · have := c3 y' ⟨oy', by omega⟩
          omega
