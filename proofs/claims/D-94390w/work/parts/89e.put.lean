set_option maxRecDepth 100000
/-! works and logs get an entry -/
variable {X : Nat → Option Ob} {ad ad' : Nat → Nat} {B B' : Sw} {A A' : Av} {σ σ' : Cs} {τ : Tw} {F : Nat}
theorem XT.la {r z s : Nat} {o : Ob} (hA : AdOK ad B) (hs : s ≤ 100) (hl : LA ad (fz B o s) σ ad' B' σ' r z) (hr : r = 50 ∨ r = 52) {ad2 : Nat → Nat} (e2 : ∀ i, i < 1500 → ad2 i = ad' i) : XT ad B ad2 B' := by
  obtain ⟨g1, g2, g3, g4, g5, g6, g7, g8, g9, g10, g11, g12, g13⟩ := hl
  have g9 : B.2.1 + 1 ≤ B'.2.1 := g9
  have g10 : B'.2.1 ≤ B.2.1 + 1 + 1 := g10
  have g11 : B'.2.2.1 ≤ B.2.2.1 + s + 200 := g11
  refine ⟨by rw [e2 0 (by omega), g3 0 (by omega)], fun a o' h => g2 _ _ (fz_gr hA _ _ h), fun a h => ?_, by omega, by omega, by omega, g12⟩
  have h2 : Own ad' B' a := by
    rcases h with h | ⟨i, hi, h⟩
    · exact Or.inl h
    · exact Or.inr ⟨i, hi, by rw [← e2 i (by omega)]; exact h⟩
  rcases g8 a h2 with h | h
  · exact fz_own h
  · have h : B.2.1 + 1 ≤ a := h
    exact Or.inr (by omega)
theorem put_w (hE : EV ad B A) (hK : KB B) (hC : CR ad B A σ) {n : Nat} (hn : zN A 7 1 = n) (hn40 : n < 40) {q : List Value} {s : Nat} (hs : s ≤ 100) : ∃ ad2 B2 σ2, f_J2_add F (ad 50) B.2.1 (cM X ad σ (fz B (.inr (18, q)) s)) = some (1, cM X ad2 σ2 B2) ∧ AdOK ad2 B2 ∧ KB B2 ∧ XT ad B ad2 B2 ∧ TB ad2 B2 A ∧ ad2 0 = ad 0 ∧ ad2 46 = ad 46 ∧ ad2 50 = ad 50 ∧ σ2.1 52 = Int32.ofNat (n + 1) ∧ ∀ L : Nat → Int32, L 0 = A 7 0 → L 1 = Int32.ofNat (n + 1) → L 2 = A 7 2 → (∀ k, (10 ≤ k ∧ k < 60 + 3 * n) ∨ 180 ≤ k → L k = A 7 k) → q = [.int (L (60 + 3 * n)), .int (L (60 + 3 * n + 1)), .int (L (60 + 3 * n + 2))] → CR ad2 B2 (aw A 7 L) σ2 := by
  have hA := hE.1
  have hA1 : AdOK ad (fz B (.inr (18, q)) s) := fz_ad hA
  have gr1 : Gr B (fz B (.inr (18, q)) s) := fz_gr hA
  have hK1 : KB (fz B (.inr (18, q)) s) := hK.gr gr1 rfl
  have hC1 : CR ad (fz B (.inr (18, q)) s) A σ := hC.gr gr1 (fun i hi h => (fz_no hA hi).trans h) rfl
  have h10 := hC1.2.2.2.2.2.2.2.2.2.1
  have h11 := hC1.2.2.2.2.2.2.2.2.2.2.1
  rw [hn] at h10
  have hp : (fz B (.inr (18, q)) s).1 B.2.1 = some (.inr (18, q)) := mup_eq
  obtain ⟨ad', B', σ', e1, hl, hLR⟩ := add_C (X := X) (F := F) hA1 hK1 (Or.inl ⟨rfl, rfl⟩) h10 (fun j _ => ⟨_, rfl⟩) (by omega) hp
  have hl0 := hl
  obtain ⟨g1, g2, g3, g4, g5, g6, g7, g8, g9, g10, g11, g12, g13⟩ := hl
  have e2 : ∀ i, i < 1500 → (fun i => if i = 1500 + n then B.2.1 else ad' i) i = ad' i := fun i hi => if_neg (by omega)
  have grB : Gr B B' := fun a o h => g2 _ _ (gr1 _ _ h)
  refine ⟨fun i => if i = 1500 + n then B.2.1 else ad' i, B', σ', ?_, g1.hi (fun i hi => e2 i (by omega)), hK1.gr g2 g12, XT.la hA hs hl0 (Or.inl rfl) e2, hE.2.1.gr hE.2.2 grB (fun r hr => ?_), ?_, ?_, ?_, hLR.1, fun L l0 l1 l2 lk lq => ?_⟩
  · rw [e1, cM_hi (fun i hi => e2 i (by omega))]
  · exact (e2 r (by unfold twA' at hr; omega)).trans (g3 r (by unfold twA' at hr; omega))
  · rw [e2 0 (by omega)]; exact g3 0 (by omega)
  · rw [e2 46 (by omega)]; exact g3 46 (by omega)
  · rw [e2 50 (by omega)]; exact g3 50 (by omega)
  · have z1 : zN (aw A 7 L) 7 1 = n + 1 := by unfold zN; rw [aw_s, l1]; exact i_cl (n := 1000) (by omega) (by omega)
    have z2 : zN (aw A 7 L) 7 2 = zN A 7 2 := by unfold zN; rw [aw_s, l2]
    refine CR.la (Or.inl ⟨rfl, rfl⟩) hC1 hl0 e2 l0 (fun k hk => lk k (by omega)) ?_ ?_
    · rw [z1]
      refine hLR.gr (fun _ _ h => h) (e2 51 (by omega)) (fun h => h) rfl rfl rfl rfl (fun j hj => ?_) (fun j hj => ?_)
      · by_cases ej : j = n
        · rw [if_pos ej]
          exact if_pos (by omega)
        · rw [if_neg ej]
          show (if 1500 + j = 1500 + n then B.2.1 else ad' (1500 + j)) = _
          rw [if_neg (by omega)]
          exact g3 _ (by omega)
      · by_cases ej : j = n
        · rw [if_pos ej, ej, lq]
        · rw [if_neg ej, lk _ (by omega), lk _ (by omega), lk _ (by omega)]
    · rw [z2]
      refine h11.gr g2 ((e2 53 (by omega)).trans (g3 53 (by omega))) (g13 53 (by omega) (by omega)) g12 (g4 62 (by omega) (by omega) (by omega)) (g4 63 (by omega) (by omega) (by omega)) (g7 53 (by omega)) (fun j hj => ?_) (fun j hj => ?_)
      · show (if 1600 + j = 1500 + n then B.2.1 else ad' (1600 + j)) = _
        rw [if_neg (by omega)]
        exact g3 _ (by omega)
      · rw [lk _ (by omega), lk _ (by omega), lk _ (by omega), lk _ (by omega)]
theorem put_l (hE : EV ad B A) (hK : KB B) (hC : CR ad B A σ) {n : Nat} (hn : zN A 7 2 = n) (hn60 : n < 60) {q : List Value} {s : Nat} (hs : s ≤ 100) : ∃ ad2 B2 σ2, f_J2_add F (ad 52) B.2.1 (cM X ad σ (fz B (.inr (19, q)) s)) = some (1, cM X ad2 σ2 B2) ∧ AdOK ad2 B2 ∧ KB B2 ∧ XT ad B ad2 B2 ∧ TB ad2 B2 A ∧ ad2 0 = ad 0 ∧ ad2 46 = ad 46 ∧ ad2 52 = ad 52 ∧ σ2.1 62 = Int32.ofNat (n + 1) ∧ ∀ L : Nat → Int32, L 0 = A 7 0 → L 1 = A 7 1 → L 2 = Int32.ofNat (n + 1) → (∀ k, (10 ≤ k ∧ k < 180 + 4 * n) ∨ 420 ≤ k → L k = A 7 k) → q = [.int (L (180 + 4 * n)), .int (L (180 + 4 * n + 1)), .int (L (180 + 4 * n + 2)), .int (L (180 + 4 * n + 3))] → CR ad2 B2 (aw A 7 L) σ2 := by
  have hA := hE.1
  have w40 : zN A 7 1 ≤ 40 := hE.2.2.2.2.1.1.2.1.2
  have hA1 : AdOK ad (fz B (.inr (19, q)) s) := fz_ad hA
  have gr1 : Gr B (fz B (.inr (19, q)) s) := fz_gr hA
  have hK1 : KB (fz B (.inr (19, q)) s) := hK.gr gr1 rfl
  have hC1 : CR ad (fz B (.inr (19, q)) s) A σ := hC.gr gr1 (fun i hi h => (fz_no hA hi).trans h) rfl
  have h10 := hC1.2.2.2.2.2.2.2.2.2.1
  have h11 := hC1.2.2.2.2.2.2.2.2.2.2.1
  rw [hn] at h11
  have hp : (fz B (.inr (19, q)) s).1 B.2.1 = some (.inr (19, q)) := mup_eq
  obtain ⟨ad', B', σ', e1, hl, hLR⟩ := add_C (X := X) (F := F) hA1 hK1 (Or.inr ⟨rfl, rfl⟩) h11 (fun j _ => ⟨_, rfl⟩) (by omega) hp
  have hl0 := hl
  obtain ⟨g1, g2, g3, g4, g5, g6, g7, g8, g9, g10, g11, g12, g13⟩ := hl
  have e2 : ∀ i, i < 1500 → (fun i => if i = 1600 + n then B.2.1 else ad' i) i = ad' i := fun i hi => if_neg (by omega)
  have grB : Gr B B' := fun a o h => g2 _ _ (gr1 _ _ h)
  refine ⟨fun i => if i = 1600 + n then B.2.1 else ad' i, B', σ', ?_, g1.hi (fun i hi => e2 i (by omega)), hK1.gr g2 g12, XT.la hA hs hl0 (Or.inr rfl) e2, hE.2.1.gr hE.2.2 grB (fun r hr => ?_), ?_, ?_, ?_, hLR.1, fun L l0 l1 l2 lk lq => ?_⟩
  · rw [e1, cM_hi (fun i hi => e2 i (by omega))]
  · exact (e2 r (by unfold twA' at hr; omega)).trans (g3 r (by unfold twA' at hr; omega))
  · rw [e2 0 (by omega)]; exact g3 0 (by omega)
  · rw [e2 46 (by omega)]; exact g3 46 (by omega)
  · rw [e2 52 (by omega)]; exact g3 52 (by omega)
  · have z2 : zN (aw A 7 L) 7 2 = n + 1 := by unfold zN; rw [aw_s, l2]; exact i_cl (n := 1000) (by omega) (by omega)
    have z1 : zN (aw A 7 L) 7 1 = zN A 7 1 := by unfold zN; rw [aw_s, l1]
    refine CR.la (Or.inr ⟨rfl, rfl⟩) hC1 hl0 e2 l0 (fun k hk => lk k (by omega)) ?_ ?_
    · rw [z1]
      refine h10.gr g2 ((e2 51 (by omega)).trans (g3 51 (by omega))) (g13 51 (by omega) (by omega)) g12 (g4 52 (by omega) (by omega) (by omega)) (g4 53 (by omega) (by omega) (by omega)) (g7 51 (by omega)) (fun j hj => ?_) (fun j hj => ?_)
      · show (if 1500 + j = 1600 + n then B.2.1 else ad' (1500 + j)) = _
        rw [if_neg (by omega)]
        exact g3 _ (by omega)
      · rw [lk _ (by omega), lk _ (by omega), lk _ (by omega)]
    · rw [z2]
      refine hLR.gr (fun _ _ h => h) (e2 53 (by omega)) (fun h => h) rfl rfl rfl rfl (fun j hj => ?_) (fun j hj => ?_)
      · by_cases ej : j = n
        · rw [if_pos ej]
          exact if_pos (by omega)
        · rw [if_neg ej]
          show (if 1600 + j = 1600 + n then B.2.1 else ad' (1600 + j)) = _
          rw [if_neg (by omega)]
          exact g3 _ (by omega)
      · by_cases ej : j = n
        · rw [if_pos ej, ej, lq]
        · rw [if_neg ej, lk _ (by omega), lk _ (by omega), lk _ (by omega), lk _ (by omega)]
