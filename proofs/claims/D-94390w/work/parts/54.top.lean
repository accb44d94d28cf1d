set_option maxRecDepth 100000
/-! the law's walk, the steps of both sides given -/
theorem hasRoom_mono {s : State} {pl : Platform} {R R' : Room} (h : R'.frames ≤ R.frames ∧ R'.locals ≤ R.locals ∧ R'.cells ≤ R.cells ∧ R'.slots ≤ R.slots) (k : s.hasRoom pl R = true) : s.hasRoom pl R' = true := by
  obtain ⟨q1, q2, q3, q4⟩ := h
  simp only [State.hasRoom, Bool.and_eq_true, decide_eq_true_eq] at k ⊢
  obtain ⟨⟨⟨⟨h1, h2, h3, h4, h5, h6⟩, h7⟩, h8⟩, h9⟩ := k
  exact ⟨⟨⟨⟨by omega, by omega, by omega, by omega, by omega, h6⟩, by omega⟩, by omega⟩, h9⟩
theorem W_room {p : Program} {l : Launch} {e : Env} {R R' : Room} {s : State} {m : MethodId} {args : Array Value} {below : List Frame} {meth : Method} {c : Code} {H : Heap} {locs : List Loc} {cells slots : Nat} {Q : State → Prop} {f : JFrame} (h : R'.frames ≤ R.frames ∧ R'.locals ≤ R.locals ∧ R'.cells ≤ R.cells ∧ R'.slots ≤ R.slots) (kk : W p l e R' s m args below meth c H locs cells slots Q f) : W p l e R s m args below meth c H locs cells slots Q f :=
  fun T hT X => kk T hT { X with room := hasRoom_mono h X.room }
theorem lw_ret9 {p : Program} {l : Launch} {e : Env} {R : Room} {s : State} {m : MethodId} {args : Array Value} {below : List Frame} {meth : Method} {c : Code} {H : Heap} {locs : List Loc} {cells slots : Nat} (hx : p.tables.exec = Jvm.exec) (hb : c.code = code) (hr : meth.sig.returnType = ret) (hlocks : meth.locks = false) {pc : Nat} {ls : Array Slot} (hdg : decode code pc = .ok (.ireturn, 1)) : W p l e R s m args below meth c H locs cells slots (fun t => ∃ o, t.status = .running ∧ Ended t below o ∧ o = .returned (some (.int 1)) ∧ Framed s o t locs cells slots) (F0 m pc ls [.int 1]) := by
  intro T hT X
  obtain ⟨fs, hret, hrun, hended, hW, hframe⟩ := X.leave (v := some (.int 1)) (hlocks := hlocks) (fun h => by rw [hr] at h; cases h)
  have hmeth' : T.vm.method? m = some meth := X.method'
  refine ⟨T.setFrames fs, ?_, .returned (some (.int 1)), hrun, hended, rfl, ⟨_, rfl⟩, hW, hframe⟩
  jvm_step X.here [X.here.top, hx, hb, hdg, hmeth', hr, ret, narrow_b1]
  (try refine ⟨rfl, ?_⟩); (try refine ⟨rfl, ?_⟩)
  first | (intro acts; rw [hret _ acts rfl rfl rfl]) | rw [hret _ _ rfl rfl rfl]
  exact Steps.refl _
abbrev QL (g : Gx) : List Frame → Array Value → State → State → Prop := fun below args s t => g.2.2.2.1 = s.heap.size → lw_Z below args s t
theorem P.lawret {g : Gx} {μ0 μ : Sw} {lv : List (Nat × Value)} (hbd : μ.2.1 - μ0.2.1 ≤ 1200128 ∧ μ.2.2.1 - μ0.2.2.1 ≤ 5501098) : PW g mL 1562 μ0 μ (QL g) 1540 lv [.int 1] μ := by
  refine ⟨⟨Nat.le_refl _, Nat.le_refl _⟩, fun h0 l p e s m args below meth c H locs ls Z hW hS hl => ?_⟩
  obtain ⟨-, hx, hb, hret, hlk, -⟩ := Z
  intro T hT X
  by_cases hq : g.2.2.2.1 = s.heap.size
  · have X1 := stand_widen (Stand.forget (locs := []) X (fun q hq' => by
      have := hS.2.2 q hq'
      show s.heap.size ≤ q.base
      rw [← hq]
      exact this)) hbd.1 hbd.2
    obtain ⟨t, h1, o, h2, h3, h4, h5⟩ := lw_ret9 hx hb hret hlk dL_law_1540 T hT X1
    exact ⟨t, h1, fun _ => ⟨o, h2, h3, h4, h5⟩⟩
  · obtain ⟨t, h1, -⟩ := lw_ret9 hx hb hret hlk dL_law_1540 T hT X
    exact ⟨t, h1, fun h => absurd h hq⟩
theorem i7_sub : ∀ L : Nat, L < 449 → (Int32.ofNat L - 7).toInt = (L : Int) - 7 := by decide +kernel
theorem i7_of : ∀ i : Nat, i < 470 → (Int32.ofNat i).toInt = (i : Int) := by decide +kernel
theorem i7_cl : ∀ i : Nat, i < 470 → (Int32.ofNat i).toNatClampNeg = i := by decide +kernel
theorem i7_nn : ∀ i : Nat, i < 470 → ¬ Int32.ofNat i < 0 := by decide +kernel
theorem i7_aI {M : Sw} {b L i : Nat} {xs : Nat → Int32} (h : M.1 b = some (.inl (10, (L, .inl xs)))) (hi : i < L) (hL : L ≤ 448) : aI M 10 b (Int32.ofNat i) = some (xs i) := by
  unfold aI
  rw [h]
  show (if (10 : Nat) = 10 ∧ ¬ (Int32.ofNat i < 0 ∨ L ≤ (Int32.ofNat i).toNatClampNeg) then some (xs (Int32.ofNat i).toNatClampNeg) else none) = _
  rw [i7_cl i (by omega), if_pos ⟨rfl, fun z => by
    rcases z with z | z
    · exact i7_nn i (by omega) z
    · omega⟩]
theorem i7_aj {M : Sw} {b L i : Nat} {xs : Nat → Int32} (h : M.1 b = some (.inl (10, (L, .inl xs)))) (hi : i + 7 ≤ L) (hL : L ≤ 448) : ∀ j : Nat, 1 ≤ j → j ≤ 6 → aI M 10 b (Int32.ofNat i + Int32.ofNat j) = some (xs (i + j)) := by
  intro j h1 h6
  rw [← Int32.ofNat_add]
  exact i7_aI h (by omega) hL
def IOK (I : Sw → Tw → Prop) (cw tw b L : Nat) (xs : Nat → Int32) : Prop := ∀ M τ, I M τ → M = mT tw τ M ∧ oc M cw 0 = some () ∧ M.1 b = some (.inl (10, (L, .inl xs)))
def IST (I : Sw → Tw → Prop) (F cw tw b : Nat) : Prop := ∀ (k : Nat) (x : Nat → Int32) (M : Sw) (τ : Tw), I M τ → ∃ (r : Int32) (M1 : Sw) (τ' : Tw), stC F k cw x M = some (r, M1) ∧ stT F k x τ = some (r, τ') ∧ M1 = mT tw τ M1 ∧ M1.1 b = M.1 b ∧ I (mT tw τ' M1) τ' ∧ M1.2.1 ≤ M.2.1 + 18700 ∧ M1.2.2.1 ≤ M.2.2.1 + 85000
theorem law_key {g : Gx} {F cw tw b L i : Nat} {xs : Nat → Int32} {I : Sw → Tw → Prop} {μ0 : Sw} (hI : IOK I cw tw b L xs) (hS : IST I F cw tw b) (hL : L ≤ 448) (hi : i + 7 ≤ L) {M : Sw} {τ : Tw} (hM : I M τ) {op : Int32} : ∃ (M2 : Sw) (τ2 : Tw), I M2 τ2 ∧ (M2.2.1 ≤ M.2.1 + 18700 ∧ M2.2.2.1 ≤ M.2.2.1 + 85000) ∧ ∀ μF, PW g mL 1562 μ0 μF (QL g) 1533 [(3, .int (Int32.ofNat i)), (2, .ref tw), (1, .ref cw), (0, .ref b)] [] M2 → PW g mL 1562 μ0 μF (QL g) 33 [(3, .int (Int32.ofNat i)), (2, .ref tw), (1, .ref cw), (0, .ref b)] [.int op] M := by
  obtain ⟨e1, hc, hb⟩ := hI M τ hM
  have hx := i7_aj hb hi hL
  by_cases h0 : op = 0
  · obtain ⟨r, M1, τ', hC, hT, hM1, hbk, hI', hbd⟩ := hS 0 (fun j => xs (i + j)) M τ hM
    refine ⟨mT tw τ' M1, τ', hI', hbd, fun μF kk => P.tsIn (tgt := 220) dL_law_33 (by rw [h0]; decide) (by rw [h0]; decide) (by rw [h0]; rfl) (by decide) ?_⟩
    exact L_st0 hx (i7_aj (hbk.trans hb) hi hL) hc hM1 hC hT kk
  by_cases h1 : op = 1
  · obtain ⟨r, M1, τ', hC, hT, hM1, hbk, hI', hbd⟩ := hS 1 (fun j => xs (i + j)) M τ hM
    refine ⟨mT tw τ' M1, τ', hI', hbd, fun μF kk => P.tsIn (tgt := 283) dL_law_33 (by rw [h1]; decide) (by rw [h1]; decide) (by rw [h1]; rfl) (by decide) ?_⟩
    exact L_st1 hx (i7_aj (hbk.trans hb) hi hL) hc hM1 hC hT kk
  by_cases h2 : op = 2
  · obtain ⟨r, M1, τ', hC, hT, hM1, hbk, hI', hbd⟩ := hS 2 (fun j => xs (i + j)) M τ hM
    refine ⟨mT tw τ' M1, τ', hI', hbd, fun μF kk => P.tsIn (tgt := 306) dL_law_33 (by rw [h2]; decide) (by rw [h2]; decide) (by rw [h2]; rfl) (by decide) ?_⟩
    exact L_st2 hx (i7_aj (hbk.trans hb) hi hL) hc hM1 hC hT kk
  by_cases h3 : op = 3
  · obtain ⟨r, M1, τ', hC, hT, hM1, hbk, hI', hbd⟩ := hS 3 (fun j => xs (i + j)) M τ hM
    refine ⟨mT tw τ' M1, τ', hI', hbd, fun μF kk => P.tsIn (tgt := 319) dL_law_33 (by rw [h3]; decide) (by rw [h3]; decide) (by rw [h3]; rfl) (by decide) ?_⟩
    exact L_st3 hx (i7_aj (hbk.trans hb) hi hL) hc hM1 hC hT kk
  by_cases h4 : op = 4
  · obtain ⟨r, M1, τ', hC, hT, hM1, hbk, hI', hbd⟩ := hS 4 (fun j => xs (i + j)) M τ hM
    refine ⟨mT tw τ' M1, τ', hI', hbd, fun μF kk => P.tsIn (tgt := 332) dL_law_33 (by rw [h4]; decide) (by rw [h4]; decide) (by rw [h4]; rfl) (by decide) ?_⟩
    exact L_st4 hx (i7_aj (hbk.trans hb) hi hL) hc hM1 hC hT kk
  by_cases h5 : op = 5
  · obtain ⟨r, M1, τ', hC, hT, hM1, hbk, hI', hbd⟩ := hS 5 (fun j => xs (i + j)) M τ hM
    refine ⟨mT tw τ' M1, τ', hI', hbd, fun μF kk => P.tsIn (tgt := 365) dL_law_33 (by rw [h5]; decide) (by rw [h5]; decide) (by rw [h5]; rfl) (by decide) ?_⟩
    exact L_st5 hx (i7_aj (hbk.trans hb) hi hL) hc hM1 hC hT kk
  by_cases h6 : op = 6
  · obtain ⟨r, M1, τ', hC, hT, hM1, hbk, hI', hbd⟩ := hS 6 (fun j => xs (i + j)) M τ hM
    refine ⟨mT tw τ' M1, τ', hI', hbd, fun μF kk => P.tsIn (tgt := 398) dL_law_33 (by rw [h6]; decide) (by rw [h6]; decide) (by rw [h6]; rfl) (by decide) ?_⟩
    exact L_st6 hx (i7_aj (hbk.trans hb) hi hL) hc hM1 hC hT kk
  by_cases h7 : op = 7
  · obtain ⟨r, M1, τ', hC, hT, hM1, hbk, hI', hbd⟩ := hS 7 (fun j => xs (i + j)) M τ hM
    refine ⟨mT tw τ' M1, τ', hI', hbd, fun μF kk => P.tsIn (tgt := 421) dL_law_33 (by rw [h7]; decide) (by rw [h7]; decide) (by rw [h7]; rfl) (by decide) ?_⟩
    exact L_st7 hx (i7_aj (hbk.trans hb) hi hL) hc hM1 hC hT kk
  by_cases h8 : op = 8
  · obtain ⟨r, M1, τ', hC, hT, hM1, hbk, hI', hbd⟩ := hS 8 (fun j => xs (i + j)) M τ hM
    refine ⟨mT tw τ' M1, τ', hI', hbd, fun μF kk => P.tsIn (tgt := 444) dL_law_33 (by rw [h8]; decide) (by rw [h8]; decide) (by rw [h8]; rfl) (by decide) ?_⟩
    exact L_st8 hx (i7_aj (hbk.trans hb) hi hL) hc hM1 hC hT kk
  by_cases h9 : op = 9
  · obtain ⟨r, M1, τ', hC, hT, hM1, hbk, hI', hbd⟩ := hS 9 (fun j => xs (i + j)) M τ hM
    refine ⟨mT tw τ' M1, τ', hI', hbd, fun μF kk => P.tsIn (tgt := 467) dL_law_33 (by rw [h9]; decide) (by rw [h9]; decide) (by rw [h9]; rfl) (by decide) ?_⟩
    exact L_st9 hx (i7_aj (hbk.trans hb) hi hL) hc hM1 hC hT kk
  by_cases h10 : op = 10
  · obtain ⟨r, M1, τ', hC, hT, hM1, hbk, hI', hbd⟩ := hS 10 (fun j => xs (i + j)) M τ hM
    refine ⟨mT tw τ' M1, τ', hI', hbd, fun μF kk => P.tsIn (tgt := 490) dL_law_33 (by rw [h10]; decide) (by rw [h10]; decide) (by rw [h10]; rfl) (by decide) ?_⟩
    exact L_st10 hx (i7_aj (hbk.trans hb) hi hL) hc hM1 hC hT kk
  by_cases h11 : op = 11
  · obtain ⟨r, M1, τ', hC, hT, hM1, hbk, hI', hbd⟩ := hS 11 (fun j => xs (i + j)) M τ hM
    refine ⟨mT tw τ' M1, τ', hI', hbd, fun μF kk => P.tsIn (tgt := 513) dL_law_33 (by rw [h11]; decide) (by rw [h11]; decide) (by rw [h11]; rfl) (by decide) ?_⟩
    exact L_st11 hx (i7_aj (hbk.trans hb) hi hL) hc hM1 hC hT kk
  by_cases h12 : op = 12
  · obtain ⟨r, M1, τ', hC, hT, hM1, hbk, hI', hbd⟩ := hS 12 (fun j => xs (i + j)) M τ hM
    refine ⟨mT tw τ' M1, τ', hI', hbd, fun μF kk => P.tsIn (tgt := 536) dL_law_33 (by rw [h12]; decide) (by rw [h12]; decide) (by rw [h12]; rfl) (by decide) ?_⟩
    exact L_st12 hx (i7_aj (hbk.trans hb) hi hL) hc hM1 hC hT kk
  by_cases h13 : op = 13
  · obtain ⟨r, M1, τ', hC, hT, hM1, hbk, hI', hbd⟩ := hS 13 (fun j => xs (i + j)) M τ hM
    refine ⟨mT tw τ' M1, τ', hI', hbd, fun μF kk => P.tsIn (tgt := 559) dL_law_33 (by rw [h13]; decide) (by rw [h13]; decide) (by rw [h13]; rfl) (by decide) ?_⟩
    exact L_st13 hx (i7_aj (hbk.trans hb) hi hL) hc hM1 hC hT kk
  by_cases h14 : op = 14
  · obtain ⟨r, M1, τ', hC, hT, hM1, hbk, hI', hbd⟩ := hS 14 (fun j => xs (i + j)) M τ hM
    refine ⟨mT tw τ' M1, τ', hI', hbd, fun μF kk => P.tsIn (tgt := 618) dL_law_33 (by rw [h14]; decide) (by rw [h14]; decide) (by rw [h14]; rfl) (by decide) ?_⟩
    exact L_st14 hx (i7_aj (hbk.trans hb) hi hL) hc hM1 hC hT kk
  by_cases h15 : op = 15
  · obtain ⟨r, M1, τ', hC, hT, hM1, hbk, hI', hbd⟩ := hS 15 (fun j => xs (i + j)) M τ hM
    refine ⟨mT tw τ' M1, τ', hI', hbd, fun μF kk => P.tsIn (tgt := 667) dL_law_33 (by rw [h15]; decide) (by rw [h15]; decide) (by rw [h15]; rfl) (by decide) ?_⟩
    exact L_st15 hx (i7_aj (hbk.trans hb) hi hL) hc hM1 hC hT kk
  by_cases h16 : op = 16
  · obtain ⟨r, M1, τ', hC, hT, hM1, hbk, hI', hbd⟩ := hS 16 (fun j => xs (i + j)) M τ hM
    refine ⟨mT tw τ' M1, τ', hI', hbd, fun μF kk => P.tsIn (tgt := 690) dL_law_33 (by rw [h16]; decide) (by rw [h16]; decide) (by rw [h16]; rfl) (by decide) ?_⟩
    exact L_st16 hx (i7_aj (hbk.trans hb) hi hL) hc hM1 hC hT kk
  by_cases h17 : op = 17
  · obtain ⟨r, M1, τ', hC, hT, hM1, hbk, hI', hbd⟩ := hS 17 (fun j => xs (i + j)) M τ hM
    refine ⟨mT tw τ' M1, τ', hI', hbd, fun μF kk => P.tsIn (tgt := 713) dL_law_33 (by rw [h17]; decide) (by rw [h17]; decide) (by rw [h17]; rfl) (by decide) ?_⟩
    exact L_st17 hx (i7_aj (hbk.trans hb) hi hL) hc hM1 hC hT kk
  by_cases h18 : op = 18
  · obtain ⟨r, M1, τ', hC, hT, hM1, hbk, hI', hbd⟩ := hS 18 (fun j => xs (i + j)) M τ hM
    refine ⟨mT tw τ' M1, τ', hI', hbd, fun μF kk => P.tsIn (tgt := 746) dL_law_33 (by rw [h18]; decide) (by rw [h18]; decide) (by rw [h18]; rfl) (by decide) ?_⟩
    exact L_st18 hx (i7_aj (hbk.trans hb) hi hL) hc hM1 hC hT kk
  by_cases h19 : op = 19
  · obtain ⟨r, M1, τ', hC, hT, hM1, hbk, hI', hbd⟩ := hS 19 (fun j => xs (i + j)) M τ hM
    refine ⟨mT tw τ' M1, τ', hI', hbd, fun μF kk => P.tsIn (tgt := 789) dL_law_33 (by rw [h19]; decide) (by rw [h19]; decide) (by rw [h19]; rfl) (by decide) ?_⟩
    exact L_st19 hx (i7_aj (hbk.trans hb) hi hL) hc hM1 hC hT kk
  by_cases h20 : op = 20
  · obtain ⟨r, M1, τ', hC, hT, hM1, hbk, hI', hbd⟩ := hS 20 (fun j => xs (i + j)) M τ hM
    refine ⟨mT tw τ' M1, τ', hI', hbd, fun μF kk => P.tsIn (tgt := 802) dL_law_33 (by rw [h20]; decide) (by rw [h20]; decide) (by rw [h20]; rfl) (by decide) ?_⟩
    exact L_st20 hx (i7_aj (hbk.trans hb) hi hL) hc hM1 hC hT kk
  by_cases h21 : op = 21
  · obtain ⟨r, M1, τ', hC, hT, hM1, hbk, hI', hbd⟩ := hS 21 (fun j => xs (i + j)) M τ hM
    refine ⟨mT tw τ' M1, τ', hI', hbd, fun μF kk => P.tsIn (tgt := 815) dL_law_33 (by rw [h21]; decide) (by rw [h21]; decide) (by rw [h21]; rfl) (by decide) ?_⟩
    exact L_st21 hx (i7_aj (hbk.trans hb) hi hL) hc hM1 hC hT kk
  by_cases h22 : op = 22
  · obtain ⟨r, M1, τ', hC, hT, hM1, hbk, hI', hbd⟩ := hS 22 (fun j => xs (i + j)) M τ hM
    refine ⟨mT tw τ' M1, τ', hI', hbd, fun μF kk => P.tsIn (tgt := 828) dL_law_33 (by rw [h22]; decide) (by rw [h22]; decide) (by rw [h22]; rfl) (by decide) ?_⟩
    exact L_st22 hx (i7_aj (hbk.trans hb) hi hL) hc hM1 hC hT kk
  by_cases h23 : op = 23
  · obtain ⟨r, M1, τ', hC, hT, hM1, hbk, hI', hbd⟩ := hS 23 (fun j => xs (i + j)) M τ hM
    refine ⟨mT tw τ' M1, τ', hI', hbd, fun μF kk => P.tsIn (tgt := 841) dL_law_33 (by rw [h23]; decide) (by rw [h23]; decide) (by rw [h23]; rfl) (by decide) ?_⟩
    exact L_st23 hx (i7_aj (hbk.trans hb) hi hL) hc hM1 hC hT kk
  by_cases h24 : op = 24
  · obtain ⟨r, M1, τ', hC, hT, hM1, hbk, hI', hbd⟩ := hS 24 (fun j => xs (i + j)) M τ hM
    refine ⟨mT tw τ' M1, τ', hI', hbd, fun μF kk => P.tsIn (tgt := 864) dL_law_33 (by rw [h24]; decide) (by rw [h24]; decide) (by rw [h24]; rfl) (by decide) ?_⟩
    exact L_st24 hx (i7_aj (hbk.trans hb) hi hL) hc hM1 hC hT kk
  by_cases h25 : op = 25
  · obtain ⟨r, M1, τ', hC, hT, hM1, hbk, hI', hbd⟩ := hS 25 (fun j => xs (i + j)) M τ hM
    refine ⟨mT tw τ' M1, τ', hI', hbd, fun μF kk => P.tsIn (tgt := 897) dL_law_33 (by rw [h25]; decide) (by rw [h25]; decide) (by rw [h25]; rfl) (by decide) ?_⟩
    exact L_st25 hx (i7_aj (hbk.trans hb) hi hL) hc hM1 hC hT kk
  by_cases h26 : op = 26
  · obtain ⟨r, M1, τ', hC, hT, hM1, hbk, hI', hbd⟩ := hS 26 (fun j => xs (i + j)) M τ hM
    refine ⟨mT tw τ' M1, τ', hI', hbd, fun μF kk => P.tsIn (tgt := 920) dL_law_33 (by rw [h26]; decide) (by rw [h26]; decide) (by rw [h26]; rfl) (by decide) ?_⟩
    exact L_st26 hx (i7_aj (hbk.trans hb) hi hL) hc hM1 hC hT kk
  by_cases h27 : op = 27
  · obtain ⟨r, M1, τ', hC, hT, hM1, hbk, hI', hbd⟩ := hS 27 (fun j => xs (i + j)) M τ hM
    refine ⟨mT tw τ' M1, τ', hI', hbd, fun μF kk => P.tsIn (tgt := 953) dL_law_33 (by rw [h27]; decide) (by rw [h27]; decide) (by rw [h27]; rfl) (by decide) ?_⟩
    exact L_st27 hx (i7_aj (hbk.trans hb) hi hL) hc hM1 hC hT kk
  by_cases h28 : op = 28
  · obtain ⟨r, M1, τ', hC, hT, hM1, hbk, hI', hbd⟩ := hS 28 (fun j => xs (i + j)) M τ hM
    refine ⟨mT tw τ' M1, τ', hI', hbd, fun μF kk => P.tsIn (tgt := 996) dL_law_33 (by rw [h28]; decide) (by rw [h28]; decide) (by rw [h28]; rfl) (by decide) ?_⟩
    exact L_st28 hx (i7_aj (hbk.trans hb) hi hL) hc hM1 hC hT kk
  by_cases h29 : op = 29
  · obtain ⟨r, M1, τ', hC, hT, hM1, hbk, hI', hbd⟩ := hS 29 (fun j => xs (i + j)) M τ hM
    refine ⟨mT tw τ' M1, τ', hI', hbd, fun μF kk => P.tsIn (tgt := 1019) dL_law_33 (by rw [h29]; decide) (by rw [h29]; decide) (by rw [h29]; rfl) (by decide) ?_⟩
    exact L_st29 hx (i7_aj (hbk.trans hb) hi hL) hc hM1 hC hT kk
  by_cases h30 : op = 30
  · obtain ⟨r, M1, τ', hC, hT, hM1, hbk, hI', hbd⟩ := hS 30 (fun j => xs (i + j)) M τ hM
    refine ⟨mT tw τ' M1, τ', hI', hbd, fun μF kk => P.tsIn (tgt := 1042) dL_law_33 (by rw [h30]; decide) (by rw [h30]; decide) (by rw [h30]; rfl) (by decide) ?_⟩
    exact L_st30 hx (i7_aj (hbk.trans hb) hi hL) hc hM1 hC hT kk
  by_cases h31 : op = 31
  · obtain ⟨r, M1, τ', hC, hT, hM1, hbk, hI', hbd⟩ := hS 31 (fun j => xs (i + j)) M τ hM
    refine ⟨mT tw τ' M1, τ', hI', hbd, fun μF kk => P.tsIn (tgt := 1055) dL_law_33 (by rw [h31]; decide) (by rw [h31]; decide) (by rw [h31]; rfl) (by decide) ?_⟩
    exact L_st31 hx (i7_aj (hbk.trans hb) hi hL) hc hM1 hC hT kk
  by_cases h32 : op = 32
  · obtain ⟨r, M1, τ', hC, hT, hM1, hbk, hI', hbd⟩ := hS 32 (fun j => xs (i + j)) M τ hM
    refine ⟨mT tw τ' M1, τ', hI', hbd, fun μF kk => P.tsIn (tgt := 1118) dL_law_33 (by rw [h32]; decide) (by rw [h32]; decide) (by rw [h32]; rfl) (by decide) ?_⟩
    exact L_st32 hx (i7_aj (hbk.trans hb) hi hL) hc hM1 hC hT kk
  by_cases h33 : op = 33
  · obtain ⟨r, M1, τ', hC, hT, hM1, hbk, hI', hbd⟩ := hS 33 (fun j => xs (i + j)) M τ hM
    refine ⟨mT tw τ' M1, τ', hI', hbd, fun μF kk => P.tsIn (tgt := 1193) dL_law_33 (by rw [h33]; decide) (by rw [h33]; decide) (by rw [h33]; rfl) (by decide) ?_⟩
    exact L_st33 hx (i7_aj (hbk.trans hb) hi hL) hc hM1 hC hT kk
  by_cases h34 : op = 34
  · obtain ⟨r, M1, τ', hC, hT, hM1, hbk, hI', hbd⟩ := hS 34 (fun j => xs (i + j)) M τ hM
    refine ⟨mT tw τ' M1, τ', hI', hbd, fun μF kk => P.tsIn (tgt := 1236) dL_law_33 (by rw [h34]; decide) (by rw [h34]; decide) (by rw [h34]; rfl) (by decide) ?_⟩
    exact L_st34 hx (i7_aj (hbk.trans hb) hi hL) hc hM1 hC hT kk
  by_cases h35 : op = 35
  · obtain ⟨r, M1, τ', hC, hT, hM1, hbk, hI', hbd⟩ := hS 35 (fun j => xs (i + j)) M τ hM
    refine ⟨mT tw τ' M1, τ', hI', hbd, fun μF kk => P.tsIn (tgt := 1279) dL_law_33 (by rw [h35]; decide) (by rw [h35]; decide) (by rw [h35]; rfl) (by decide) ?_⟩
    exact L_st35 hx (i7_aj (hbk.trans hb) hi hL) hc hM1 hC hT kk
  by_cases h36 : op = 36
  · obtain ⟨r, M1, τ', hC, hT, hM1, hbk, hI', hbd⟩ := hS 36 (fun j => xs (i + j)) M τ hM
    refine ⟨mT tw τ' M1, τ', hI', hbd, fun μF kk => P.tsIn (tgt := 1302) dL_law_33 (by rw [h36]; decide) (by rw [h36]; decide) (by rw [h36]; rfl) (by decide) ?_⟩
    exact L_st36 hx (i7_aj (hbk.trans hb) hi hL) hc hM1 hC hT kk
  by_cases h37 : op = 37
  · obtain ⟨r, M1, τ', hC, hT, hM1, hbk, hI', hbd⟩ := hS 37 (fun j => xs (i + j)) M τ hM
    refine ⟨mT tw τ' M1, τ', hI', hbd, fun μF kk => P.tsIn (tgt := 1345) dL_law_33 (by rw [h37]; decide) (by rw [h37]; decide) (by rw [h37]; rfl) (by decide) ?_⟩
    exact L_st37 hx (i7_aj (hbk.trans hb) hi hL) hc hM1 hC hT kk
  by_cases h38 : op = 38
  · obtain ⟨r, M1, τ', hC, hT, hM1, hbk, hI', hbd⟩ := hS 38 (fun j => xs (i + j)) M τ hM
    refine ⟨mT tw τ' M1, τ', hI', hbd, fun μF kk => P.tsIn (tgt := 1378) dL_law_33 (by rw [h38]; decide) (by rw [h38]; decide) (by rw [h38]; rfl) (by decide) ?_⟩
    exact L_st38 hx (i7_aj (hbk.trans hb) hi hL) hc hM1 hC hT kk
  by_cases h39 : op = 39
  · obtain ⟨r, M1, τ', hC, hT, hM1, hbk, hI', hbd⟩ := hS 39 (fun j => xs (i + j)) M τ hM
    refine ⟨mT tw τ' M1, τ', hI', hbd, fun μF kk => P.tsIn (tgt := 1431) dL_law_33 (by rw [h39]; decide) (by rw [h39]; decide) (by rw [h39]; rfl) (by decide) ?_⟩
    exact L_st39 hx (i7_aj (hbk.trans hb) hi hL) hc hM1 hC hT kk
  by_cases h40 : op = 40
  · obtain ⟨r, M1, τ', hC, hT, hM1, hbk, hI', hbd⟩ := hS 40 (fun j => xs (i + j)) M τ hM
    refine ⟨mT tw τ' M1, τ', hI', hbd, fun μF kk => P.tsIn (tgt := 1464) dL_law_33 (by rw [h40]; decide) (by rw [h40]; decide) (by rw [h40]; rfl) (by decide) ?_⟩
    exact L_st40 hx (i7_aj (hbk.trans hb) hi hL) hc hM1 hC hT kk
  by_cases h41 : op = 41
  · obtain ⟨r, M1, τ', hC, hT, hM1, hbk, hI', hbd⟩ := hS 41 (fun j => xs (i + j)) M τ hM
    refine ⟨mT tw τ' M1, τ', hI', hbd, fun μF kk => P.tsIn (tgt := 1487) dL_law_33 (by rw [h41]; decide) (by rw [h41]; decide) (by rw [h41]; rfl) (by decide) ?_⟩
    exact L_st41 hx (i7_aj (hbk.trans hb) hi hL) hc hM1 hC hT kk
  by_cases h42 : op = 42
  · obtain ⟨r, M1, τ', hC, hT, hM1, hbk, hI', hbd⟩ := hS 42 (fun j => xs (i + j)) M τ hM
    refine ⟨mT tw τ' M1, τ', hI', hbd, fun μF kk => P.tsIn (tgt := 1510) dL_law_33 (by rw [h42]; decide) (by rw [h42]; decide) (by rw [h42]; rfl) (by decide) ?_⟩
    exact L_st42 hx (i7_aj (hbk.trans hb) hi hL) hc hM1 hC hT kk
  exact ⟨M, τ, hM, ⟨Nat.le_add_right _ _, Nat.le_add_right _ _⟩, fun μF kk => P.tsOut (tgt := 1533) dL_law_33 (by have z0 := lv_neT h0 (a := 0) (by decide); have z1 := lv_neT h1 (a := 1) (by decide); have z2 := lv_neT h2 (a := 2) (by decide); have z3 := lv_neT h3 (a := 3) (by decide); have z4 := lv_neT h4 (a := 4) (by decide); have z5 := lv_neT h5 (a := 5) (by decide); have z6 := lv_neT h6 (a := 6) (by decide); have z7 := lv_neT h7 (a := 7) (by decide); have z8 := lv_neT h8 (a := 8) (by decide); have z9 := lv_neT h9 (a := 9) (by decide); have z10 := lv_neT h10 (a := 10) (by decide); have z11 := lv_neT h11 (a := 11) (by decide); have z12 := lv_neT h12 (a := 12) (by decide); have z13 := lv_neT h13 (a := 13) (by decide); have z14 := lv_neT h14 (a := 14) (by decide); have z15 := lv_neT h15 (a := 15) (by decide); have z16 := lv_neT h16 (a := 16) (by decide); have z17 := lv_neT h17 (a := 17) (by decide); have z18 := lv_neT h18 (a := 18) (by decide); have z19 := lv_neT h19 (a := 19) (by decide); have z20 := lv_neT h20 (a := 20) (by decide); have z21 := lv_neT h21 (a := 21) (by decide); have z22 := lv_neT h22 (a := 22) (by decide); have z23 := lv_neT h23 (a := 23) (by decide); have z24 := lv_neT h24 (a := 24) (by decide); have z25 := lv_neT h25 (a := 25) (by decide); have z26 := lv_neT h26 (a := 26) (by decide); have z27 := lv_neT h27 (a := 27) (by decide); have z28 := lv_neT h28 (a := 28) (by decide); have z29 := lv_neT h29 (a := 29) (by decide); have z30 := lv_neT h30 (a := 30) (by decide); have z31 := lv_neT h31 (a := 31) (by decide); have z32 := lv_neT h32 (a := 32) (by decide); have z33 := lv_neT h33 (a := 33) (by decide); have z34 := lv_neT h34 (a := 34) (by decide); have z35 := lv_neT h35 (a := 35) (by decide); have z36 := lv_neT h36 (a := 36) (by decide); have z37 := lv_neT h37 (a := 37) (by decide); have z38 := lv_neT h38 (a := 38) (by decide); have z39 := lv_neT h39 (a := 39) (by decide); have z40 := lv_neT h40 (a := 40) (by decide); have z41 := lv_neT h41 (a := 41) (by decide); have z42 := lv_neT h42 (a := 42) (by decide); omega) (by decide) kk⟩
theorem law_loop {g : Gx} {F cw tw b L : Nat} {xs : Nat → Int32} {I : Sw → Tw → Prop} {μ0 : Sw} (hI : IOK I cw tw b L xs) (hS : IST I F cw tw b) (hL : L ≤ 448) : ∀ (n i : Nat) (M : Sw) (τ : Tw), I M τ → L < i + 7 * (n + 1) → i ≤ 455 → M.2.1 + n * 18700 ≤ μ0.2.1 + 1200128 → M.2.2.1 + n * 85000 ≤ μ0.2.2.1 + 5501098 → ∃ μF : Sw, (μF.2.1 ≤ M.2.1 + n * 18700 ∧ μF.2.2.1 ≤ M.2.2.1 + n * 85000) ∧ PW g mL 1562 μ0 μF (QL g) 18 [(3, .int (Int32.ofNat i)), (2, .ref tw), (1, .ref cw), (0, .ref b)] [] M := by
  intro n
  induction n with
  | zero =>
    intro i M τ hM hn hi hc hs
    obtain ⟨e1, -, hb⟩ := hI M τ hM
    refine ⟨M, ⟨by omega, by omega⟩, ?_⟩
    refine P.iload_n 0 (pc' := 19) dL_law_18 rfl rfl rfl ?_
    refine P.aload_n 3 (pc' := 20) dL_law_19 rfl rfl rfl ?_
    refine P.alen (v := Int32.ofNat L) (pc' := 21) (by unfold aN; rw [hb]) dL_law_20 rfl ?_
    refine P.bipush (v := 7) (pc' := 23) dL_law_21 rfl rfl ?_
    refine P.isub (pc' := 24) dL_law_23 rfl ?_
    refine P.icmp_gt (tgt := 1539) (pc' := 27) dL_law_24 (by decide) rfl (fun _ => ?_) (fun z => absurd (Int32.lt_iff_toInt_lt.mpr (by rw [i7_sub L (by omega), i7_of i (by omega)]; omega)) z)
    refine P.iconst (v := 1) (pc' := 1540) dL_law_1539 rfl rfl ?_
    exact P.lawret ⟨by omega, by omega⟩
  | succ n ih =>
    intro i M τ hM hn hi hc hs
    obtain ⟨e1, -, hb⟩ := hI M τ hM
    by_cases hz : L < i + 7
    · refine ⟨M, ⟨by omega, by omega⟩, ?_⟩
      refine P.iload_n 0 (pc' := 19) dL_law_18 rfl rfl rfl ?_
      refine P.aload_n 3 (pc' := 20) dL_law_19 rfl rfl rfl ?_
      refine P.alen (v := Int32.ofNat L) (pc' := 21) (by unfold aN; rw [hb]) dL_law_20 rfl ?_
      refine P.bipush (v := 7) (pc' := 23) dL_law_21 rfl rfl ?_
      refine P.isub (pc' := 24) dL_law_23 rfl ?_
      refine P.icmp_gt (tgt := 1539) (pc' := 27) dL_law_24 (by decide) rfl (fun _ => ?_) (fun z => absurd (Int32.lt_iff_toInt_lt.mpr (by rw [i7_sub L (by omega), i7_of i (by omega)]; omega)) z)
      refine P.iconst (v := 1) (pc' := 1540) dL_law_1539 rfl rfl ?_
      exact P.lawret ⟨by omega, by omega⟩
    · obtain ⟨M2, τ2, hM2, hbd, kk⟩ := law_key (g := g) (μ0 := μ0) hI hS hL (i := i) (by omega) hM (op := xs i &&& 63)
      obtain ⟨μF, hF, k9⟩ := ih (i + 7) M2 τ2 hM2 (by omega) (by omega) (by omega) (by omega)
      refine ⟨μF, ⟨by omega, by omega⟩, ?_⟩
      refine P.iload_n 0 (pc' := 19) dL_law_18 rfl rfl rfl ?_
      refine P.aload_n 3 (pc' := 20) dL_law_19 rfl rfl rfl ?_
      refine P.alen (v := Int32.ofNat L) (pc' := 21) (by unfold aN; rw [hb]) dL_law_20 rfl ?_
      refine P.bipush (v := 7) (pc' := 23) dL_law_21 rfl rfl ?_
      refine P.isub (pc' := 24) dL_law_23 rfl ?_
      refine P.icmp_gt (tgt := 1539) (pc' := 27) dL_law_24 (by decide) rfl (fun z => absurd (Int32.lt_iff_toInt_lt.mp z) (by rw [i7_sub L (by omega), i7_of i (by omega)]; omega)) (fun _ => ?_)
      refine P.aload_n 3 (pc' := 28) dL_law_27 rfl rfl rfl ?_
      refine P.iload_n 0 (pc' := 29) dL_law_28 rfl rfl rfl ?_
      refine P.iald (t := 10) (pc' := 30) rfl (i7_aI hb (by omega) hL) dL_law_29 rfl ?_
      refine P.bipush (v := 63) (pc' := 32) dL_law_30 rfl rfl ?_
      refine P.iand (pc' := 33) dL_law_32 rfl ?_
      refine kk μF ?_
      refine P.iinc 0 (pc' := 1536) (v := Int32.ofNat (i + 7)) (lv' := [(3, .int (Int32.ofNat (i + 7))), (2, .ref tw), (1, .ref cw), (0, .ref b)]) dL_law_1533 rfl rfl rfl (Int32.ofNat_add i 7).symm (Nat.le_of_ble_eq_true rfl) rfl ?_
      exact P.goto (tgt := 18) dL_law_1536 (by decide) k9
/-- all of the law's body, from its entry -/
theorem law_body {g : Gx} {F b L : Nat} {xs : Nat → Int32} {M0 : Sw} (hL : L ≤ 448) (hinit : ∃ (M1 : Sw) (τ : Tw) (I : Sw → Tw → Prop), f_X0_init F M0.2.1 (nw M0 (.inr (0, dfX0)) 20) = some M1 ∧ t_X9_init F = some τ ∧ IOK I M0.2.1 M1.2.1 b L xs ∧ IST I F M0.2.1 M1.2.1 b ∧ I (mT M1.2.1 τ (M1.1, M1.2.1 + 35, M1.2.2.1 + 53 + 20474, M1.2.2.2)) τ ∧ M1.2.1 + 35 ≤ M0.2.1 + 3000 ∧ M1.2.2.1 + 20527 ≤ M0.2.2.1 + 60000) : ∃ μF : Sw, (μF.2.1 - M0.2.1 ≤ 1200128 ∧ μF.2.2.1 - M0.2.2.1 ≤ 5501098) ∧ PW g mL 1562 M0 μF (QL g) 0 [(0, .ref b)] [] M0 := by
  obtain ⟨M1, τ, I, h1, h2, hI, hS, h3, b1, b2⟩ := hinit
  obtain ⟨μF, hF, k9⟩ := law_loop (g := g) (μ0 := M0) hI hS hL 64 0 _ τ h3 (by omega) (by omega) (by show M1.2.1 + 35 + 64 * 18700 ≤ _; omega) (by show M1.2.2.1 + 53 + 20474 + 64 * 85000 ≤ _; omega)
  have hF1 : μF.2.1 ≤ M1.2.1 + 35 + 64 * 18700 := hF.1
  have hF2 : μF.2.2.1 ≤ M1.2.2.1 + 53 + 20474 + 64 * 85000 := hF.2
  refine ⟨μF, ⟨by omega, by omega⟩, ?_⟩
  refine P.newE (pc' := 3) ci0 q196 q197 q159 dfX0_ok rfl dL_law_0 rfl ?_
  refine P.dup (pc' := 4) dL_law_3 rfl rfl ?_
  refine P.callI (pc' := 7) (As := []) (rest := [.ref M0.2.1]) 0 (ok_X0_init F M0.2.1 _ h1) (Nat.le_of_ble_eq_true rfl) q200 q159 q198 q199 rfl ⟨by decide +kernel, by decide +kernel, by decide +kernel⟩ rfl (Nat.le_of_ble_eq_true rfl) (Nat.le_of_ble_eq_true rfl) rfl dL_law_4 rfl ?_
  refine P.astore_n (pc' := 8) (lv' := [(1, .ref M0.2.1), (0, .ref b)]) dL_law_7 rfl rfl (Nat.le_of_ble_eq_true rfl) rfl ?_
  refine P.newE (pc' := 11) ci9 q1533 q1534 q172 dfX9_ok iT_start dL_law_8 rfl ?_
  refine P.dup (pc' := 12) dL_law_11 rfl rfl ?_
  refine P.callI (pc' := 15) (As := []) (rest := [.ref M1.2.1]) 0 (ok_X9_init F M1.2.1 (M1.2.2.1 + 53) M1.1 M1.2.2.2 h2) (Nat.le_of_ble_eq_true rfl) q1537 q172 q1535 q1536 rfl ⟨by decide +kernel, by decide +kernel, by decide +kernel⟩ rfl (Nat.le_of_ble_eq_true rfl) (Nat.le_of_ble_eq_true rfl) rfl dL_law_12 rfl ?_
  refine P.astore_n (pc' := 16) (lv' := [(2, .ref M1.2.1), (1, .ref M0.2.1), (0, .ref b)]) dL_law_15 rfl rfl (Nat.le_of_ble_eq_true rfl) rfl ?_
  refine P.iconst (v := 0) (pc' := 17) dL_law_16 rfl rfl ?_
  refine P.istore_n (pc' := 18) (lv' := [(3, .int 0), (2, .ref M1.2.1), (1, .ref M0.2.1), (0, .ref b)]) dL_law_17 rfl rfl (Nat.le_of_ble_eq_true rfl) rfl ?_
  exact k9
