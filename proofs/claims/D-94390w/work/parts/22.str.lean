set_option maxRecDepth 100000
/-! the texts of the row of words: 26 Strings, by their numbers -/
def sLen (k : Nat) : Option Int32 := if k < 26 then some (Int32.ofNat (wl.getD k 0)) else none
def sChr (k : Nat) (i : Int32) : Option Int32 := if k < 26 then (if i < 0 then none else if i < Int32.ofNat (wl.getD k 0) then some ((wb.getD k []).getD i.toNatClampNeg 0) else none) else none
theorem wl_lt : ∀ k : Nat, k < 26 → wl.getD k 0 < 2 ^ 31 := by decide
theorem wb_ch : ∀ k : Nat, k < 26 → ∀ j : Nat, j < wl.getD k 0 → ((((wb.getD k []).getD j 0) &&& 255).toUInt32 % 65536).toInt32 = (wb.getD k []).getD j 0 ∧ narrow .char (.int ((wb.getD k []).getD j 0)) = .int ((wb.getD k []).getD j 0) := by decide +kernel
theorem wl_sh : ∀ k : Nat, k < 26 → Int32.ofNat (wl.getD k 0) >>> ((0 : Int32) &&& 31) = Int32.ofNat (wl.getD k 0) := by decide +kernel
theorem wl_in : ∀ k : Nat, k < 26 → (Int32.ofNat (wl.getD k 0)).toInt = (wl.getD k 0 : Int) := by decide +kernel
section PWS
variable {g : Gx} {Y : Ym} {d : Nat} {μ0 μF : Sw} {Qk : List Frame → Array Value → State → State → Prop} {pc pc' tgt : Nat} {lv lv' : List (Nat × Value)} {st st' : List Value} {μ μ' μ1 : Sw}
theorem P.sval {k index : Nat} (hk : k < 26) (hlink : Cond.fieldLink Y.1 index "java/lang/String" "value" "[B" ∈ lw_all) (hd : decode Y.2.1 pc = .ok (.getfield index, 3)) (hp : pc + 3 = pc') (kk : PW g Y d μ0 μF Qk pc' lv (.ref (μ.2.2.2 (40 + k)) :: st) μ) : PW g Y d μ0 μF Qk pc lv (.ref (μ.2.2.2 (10 + k)) :: st) μ := by
  subst hp
  refine ⟨kk.1, fun h0 l p e s m args below meth c H locs ls Z hW hS hl => ?_⟩
  have k9 := kk.2 h0 l p e s m args below meth c H locs ls Z hW hS hl
  rw [hW.2.2] at k9 ⊢
  obtain ⟨-, hx, hb, -, -, hml, hown, hts, -, hZ, -⟩ := Z
  exact vk_getf hx hb (hZ.2 k hk).2.2.1 hS hown (hts _ hlink) (fun _ h => h) hd k9
theorem P.scod {k index : Nat} (hk : k < 26) (hlink : Cond.fieldLink Y.1 index "java/lang/String" "coder" "B" ∈ lw_all) (hd : decode Y.2.1 pc = .ok (.getfield index, 3)) (hp : pc + 3 = pc') (kk : PW g Y d μ0 μF Qk pc' lv (.int 0 :: st) μ) : PW g Y d μ0 μF Qk pc lv (.ref (μ.2.2.2 (10 + k)) :: st) μ := by
  subst hp
  refine ⟨kk.1, fun h0 l p e s m args below meth c H locs ls Z hW hS hl => ?_⟩
  have k9 := kk.2 h0 l p e s m args below meth c H locs ls Z hW hS hl
  rw [hW.2.2]
  obtain ⟨-, hx, hb, -, -, hml, hown, hts, -, hZ, -⟩ := Z
  exact vk_getf hx hb (hZ.2 k hk).2.1 hS hown (hts _ hlink) (fun _ h => h) hd k9
theorem P.slen {k : Nat} (hk : k < 26) (hd : decode Y.2.1 pc = .ok (.arraylength, 1)) (hp : pc + 1 = pc') (kk : PW g Y d μ0 μF Qk pc' lv (.int (Int32.ofNat (wl.getD k 0)) :: st) μ) : PW g Y d μ0 μF Qk pc lv (.ref (μ.2.2.2 (40 + k)) :: st) μ := by
  subst hp
  refine ⟨kk.1, fun h0 l p e s m args below meth c H locs ls Z hW hS hl => ?_⟩
  have k9 := kk.2 h0 l p e s m args below meth c H locs ls Z hW hS hl
  rw [hW.2.2]
  obtain ⟨-, hx, hb, -, -, hml, hown, hts, -, hZ, -⟩ := Z
  exact va_tlen hx hb (hZ.2 k hk).2.2.2 hS rfl hd k9
theorem P.sbal {k : Nat} {i : Int32} (hk : k < 26) (hin : vp_in i (wl.getD k 0)) (hd : decode Y.2.1 pc = .ok (.baload, 1)) (hp : pc + 1 = pc') (kk : PW g Y d μ0 μF Qk pc' lv (.int ((wb.getD k []).getD i.toNatClampNeg 0) :: st) μ) : PW g Y d μ0 μF Qk pc lv (.int i :: .ref (μ.2.2.2 (40 + k)) :: st) μ := by
  subst hp
  refine ⟨kk.1, fun h0 l p e s m args below meth c H locs ls Z hW hS hl => ?_⟩
  have k9 := kk.2 h0 l p e s m args below meth c H locs ls Z hW hS hl
  rw [hW.2.2]
  obtain ⟨-, hx, hb, -, -, hml, hown, hts, -, hZ, -⟩ := Z
  exact va_tb hx hb (hZ.2 k hk).2.2.2 hS hin rfl hd k9
/-- a receiver that's known from the start -/
def Rcv (g : Gx) (C : String) (a : Nat) (μ : Sw) : Prop := ∀ (Y : Ym) (l : Launch) (p : Program) (s : State) (m : MethodId) (args : Array Value) (meth : Method) (c : Code) (H : Heap) (locs : List Loc), Cx g Y l p s m args meth c → Wd g μ H → va_S (gA g) s.heap H locs → ∃ cell : Cell, H[a]? = some cell ∧ cell.vm.isStatics = false ∧ s.vm.findClass C = some cell.cls
theorem sRecv0 {k : Nat} (hk : k < 26) : Rcv g "java/lang/String" (μ.2.2.2 (10 + k)) μ := by
  intro Y l p s m args meth c H locs Z hW hS
  rw [hW.2.2]
  obtain ⟨-, -, -, -, -, -, -, -, -, hZ, -⟩ := Z
  obtain ⟨cell, h1, h2, h3, -⟩ := (hZ.2 k hk).1.kept hS.2.1
  exact ⟨cell, h1, h2, h3⟩
theorem sLen_k {k : Nat} {n : Int32} (h : sLen k = some n) : k < 26 := by
  unfold sLen at h
  split at h
  · assumption
  · cases h
theorem sChr_k {k : Nat} {i n : Int32} (h : sChr k i = some n) : k < 26 := by
  unfold sChr at h
  split at h
  · assumption
  · cases h
theorem sRecvL {k : Nat} {n : Int32} (h : sLen k = some n) : Rcv g "java/lang/String" (μ.2.2.2 (10 + k)) μ := sRecv0 (sLen_k h)
theorem sRecvC {k : Nat} {i n : Int32} (h : sChr k i = some n) : Rcv g "java/lang/String" (μ.2.2.2 (10 + k)) μ := sRecv0 (sChr_k h)
theorem P.callO {d2 index nL2 : Nat} {y : MethodName} {cc2 : ByteArray} {ret2 : Option FieldType} {C : String} {a : Nat} {As rest st0 : List Value} {rv : Option Value} (n : Nat) (hcl : Cl g d2 y cc2 nL2 ret2 (.ref a :: As) μ rv μ1) (hd2 : d2 + 1 ≤ d) (hw : GoodIn lw_all (wsV Y.1 index C y (ws_ y cc2 nL2 ret2))) (hC : y.cls = C) (hy : yOK y n) (hn : As.length = n) (hnl : nL2 ≤ 45) (hR : Rcv g C a μ) (hst : (rest.map fun v => v.category).sum ≤ 8) (hs : st0 = As.reverse ++ .ref a :: rest) (hd : decode Y.2.1 pc = .ok (.invokevirtual index, 3)) (hp : pc + 3 = pc') (kk : PW g Y d μ0 μF Qk pc' lv (rv.toList ++ rest) μ1) : PW g Y d μ0 μF Qk pc lv st0 μ := by
  subst hp
  refine P.run (a := (Value.ref a :: As).toArray) hcl.1 (fun {l p e s m args below meth c H locs ls} Z hW hS hl hf => ?_) kk
  have Z0 := Z
  obtain ⟨hfl, hx, hb, -, -, hml, hown, hts, hK, -⟩ := Z0
  exact va_runV ⟨hx, hb, hml, hown, hts⟩ (hcl.2 l hfl) (cwV n hts hw rfl rfl rfl ⟨hC, hy⟩ ⟨show d2 + 1 ≤ d from hd2, show 8 + (nL2 + 11) + 64 * d2 ≤ 64 * d by omega⟩) ⟨cP_blind, hR Y l p s m args meth c H locs Z hW hS, fun U hU hw => Z.pre hW hS U hU hw⟩ rfl hn hl.1 hs (lv_room hst) hd hf
end PWS
abbrev mSlen : Ym := (RJ4, cJ4_length, 1, (some .int), false, [])
abbrev mScod : Ym := (RJ4, cJ4_coder, 1, (some .byte), false, [])
abbrev mSlat : Ym := (RJ4, cJ4_isLatin1, 1, (some .boolean), false, [])
abbrev mSchr : Ym := (RJ4, cJ4_charAt, 2, (some .char), false, [])
abbrev mSchr5 : Ym := (RJ5, cJ5_charAt, 2, (some .char), false, [])
abbrev mSchk : Ym := (RJ4, cJ4_checkIndex, 2, none, false, [])
abbrev mSchk6 : Ym := (RJ6, cJ6_checkIndex, 3, (some .int), false, [])
theorem zs2 (g : Gx) : ("java/lang/String", "COMPACT_STRINGS", "Z", Value.int 1) ∈ zsL g := List.mem_cons_of_mem _ (List.mem_cons_of_mem _ List.mem_cons_self)
theorem P.bret {g : Gx} {Y : Ym} {d : Nat} {μ0 μ : Sw} {pc : Nat} {lv : List (Nat × Value)} {v : Int32} (hr : Y.2.2.2.1 = some .byte) (hn : narrow .byte (.int v) = .int v) (hd : decode Y.2.1 pc = .ok (.ireturn, 1)) : PW g Y d μ0 μ (QN g (some (.int v)) μ0 μ) pc lv [.int v] μ := by
  refine ⟨⟨Nat.le_refl _, Nat.le_refl _⟩, fun h0 l p e s m args below meth c H locs ls Z hW hS hl => ?_⟩
  obtain ⟨-, hx, hb, hret, hlk, -⟩ := Z
  exact W.zret hx hb (hret.trans hr) hn (fun t ht hw => ⟨rfl, by rw [ht]; exact hW, hS.F ht⟩) hS.2.2 hd hlk
theorem ok_scod {g : Gx} {k : Nat} (hk : k < 26) (μ : Sw) : Cl g 1 yJ4_coder cJ4_coder 1 (some .byte) [.ref (μ.2.2.2 (10 + k))] μ (some (.int 0)) μ := by
  refine Cl.of (own := RJ4) (ini := false) (by decide +kernel) rfl (by decide) (Nat.le_of_ble_eq_true rfl) ?_
  show PW g mScod 1 μ μ (QN g (some (.int 0)) μ μ) 0 [(0, .ref (μ.2.2.2 (10 + k)))] [] μ
  refine P.gets (pc' := 3) (zs2 g) q599 (fun _ _ h => h) dJ4_coder_0 rfl ?_
  refine P.if_eq (tgt := 13) (pc' := 6) dJ4_coder_3 (by decide) rfl (fun h => absurd h (by decide)) (fun _ => ?_)
  refine P.aload_n 0 (pc' := 7) dJ4_coder_6 rfl rfl rfl ?_
  refine P.scod (pc' := 10) hk q2322 dJ4_coder_7 rfl ?_
  refine P.goto (tgt := 14) dJ4_coder_10 (by decide) ?_
  exact P.bret rfl rfl dJ4_coder_14
theorem ok_slat {g : Gx} {k : Nat} (hk : k < 26) (μ : Sw) : Cl g 1 yJ4_isLatin1 cJ4_isLatin1 1 (some .boolean) [.ref (μ.2.2.2 (10 + k))] μ (some (.int 1)) μ := by
  refine Cl.of (own := RJ4) (ini := false) (by decide +kernel) rfl (by decide) (Nat.le_of_ble_eq_true rfl) ?_
  show PW g mSlat 1 μ μ (QN g (some (.int 1)) μ μ) 0 [(0, .ref (μ.2.2.2 (10 + k)))] [] μ
  refine P.gets (pc' := 3) (zs2 g) q599 (fun _ _ h => h) dJ4_isLatin1_0 rfl ?_
  refine P.if_eq (tgt := 17) (pc' := 6) dJ4_isLatin1_3 (by decide) rfl (fun h => absurd h (by decide)) (fun _ => ?_)
  refine P.aload_n 0 (pc' := 7) dJ4_isLatin1_6 rfl rfl rfl ?_
  refine P.scod (pc' := 10) hk q2322 dJ4_isLatin1_7 rfl ?_
  refine P.if_ne (tgt := 17) (pc' := 13) dJ4_isLatin1_10 (by decide) rfl (fun h => absurd rfl h) (fun _ => ?_)
  refine P.iconst (pc' := 14) dJ4_isLatin1_13 rfl rfl ?_
  refine P.goto (tgt := 18) dJ4_isLatin1_14 (by decide) ?_
  exact P.zret rfl (Or.inr rfl) dJ4_isLatin1_18
theorem ok_J4_length {g : Gx} {k : Nat} {n : Int32} {μ : Sw} (h : sLen k = some n) : Cl g 8 yJ4_length cJ4_length 1 (some .int) [.ref (μ.2.2.2 (10 + k))] μ (some (.int n)) μ := by
  have hk := sLen_k h
  unfold sLen at h
  rw [if_pos hk] at h
  injection h with h
  subst h
  refine Cl.of (own := RJ4) (ini := false) (by decide +kernel) rfl (by decide) (Nat.le_of_ble_eq_true rfl) ?_
  show PW g mSlen 8 μ μ (QN g (some (.int (Int32.ofNat (wl.getD k 0)))) μ μ) 0 [(0, .ref (μ.2.2.2 (10 + k)))] [] μ
  refine P.aload_n 0 (pc' := 1) dJ4_length_0 rfl rfl rfl ?_
  refine P.sval (pc' := 4) hk q2321 dJ4_length_1 rfl ?_
  refine P.slen (pc' := 5) hk dJ4_length_4 rfl ?_
  refine P.aload_n 0 (pc' := 6) dJ4_length_5 rfl rfl rfl ?_
  refine P.callO (As := []) (pc' := 9) 0 (ok_scod hk μ) (Nat.le_of_ble_eq_true rfl) (lw_V q595 q596 q597 q173 q598) rfl ⟨by decide +kernel, by decide +kernel, by decide +kernel⟩ rfl (Nat.le_of_ble_eq_true rfl) (sRecv0 hk) (Nat.le_of_ble_eq_true rfl) rfl dJ4_length_6 rfl ?_
  refine P.ishr (pc' := 10) dJ4_length_9 rfl ?_
  rw [wl_sh k hk]
  exact P.iret rfl dJ4_length_10
theorem ok_schk6 {g : Gx} {i n : Int32} (h0 : ¬ i < 0) (h1 : i < n) (v : Nat) (μ : Sw) : Cl g 1 yJ6_checkIndex cJ6_checkIndex 3 (some .int) [.int i, .int n, cV v] μ (some (.int i)) μ := by
  have hc : (lg_sl [.int i, .int n, cV v]).length ≤ 3 := by cases v <;> exact Nat.le_of_ble_eq_true rfl
  refine Cl.of (own := RJ6) (ini := false) (by decide +kernel) rfl (by decide) hc ?_
  have ha : lv_args 0 [.int i, .int n, cV v] = [(0, .int i), (1, .int n), (2, cV v)] := by cases v <;> rfl
  rw [ha]
  show PW g mSchk6 1 μ μ (QN g (some (.int i)) μ μ) 0 [(0, .int i), (1, .int n), (2, cV v)] [] μ
  refine P.iload_n 0 (pc' := 1) dJ6_checkIndex_0 rfl rfl rfl ?_
  refine P.if_lt (tgt := 9) (pc' := 4) dJ6_checkIndex_1 (by decide) rfl (fun h => absurd h h0) (fun _ => ?_)
  refine P.iload_n 0 (pc' := 5) dJ6_checkIndex_4 rfl rfl rfl ?_
  refine P.iload_n 1 (pc' := 6) dJ6_checkIndex_5 rfl rfl rfl ?_
  refine P.icmp_lt (tgt := 16) (pc' := 9) dJ6_checkIndex_6 (by decide) rfl (fun _ => ?_) (fun h => absurd h1 h)
  refine P.iload_n 0 (pc' := 17) dJ6_checkIndex_16 rfl rfl rfl ?_
  exact P.iret rfl dJ6_checkIndex_17
theorem ok_schk {g : Gx} {i n : Int32} (h0 : ¬ i < 0) (h1 : i < n) (μ : Sw) : Cl g 2 yJ4_checkIndex cJ4_checkIndex 2 none [.int i, .int n] μ none μ := by
  refine Cl.of (own := RJ4) (ini := false) (by decide +kernel) rfl (by decide) (Nat.le_of_ble_eq_true rfl) ?_
  show PW g mSchk 2 μ μ (QN g none μ μ) 0 [(0, .int i), (1, .int n)] [] μ
  refine P.iload_n 0 (pc' := 1) dJ4_checkIndex_0 rfl rfl rfl ?_
  refine P.iload_n 1 (pc' := 2) dJ4_checkIndex_1 rfl rfl rfl ?_
  refine P.getsC (pc' := 5) 5 (zs5 g) q615 dJ4_checkIndex_2 rfl ?_
  refine P.callS (As := [.int i, .int n, cV (μ.2.2.2 5)]) (rest := []) (pc' := 8) 3 (ok_schk6 h0 h1 (μ.2.2.2 5) μ) (Nat.le_of_ble_eq_true rfl) (lw_S q617 q618 q175 q619) ⟨by decide +kernel, by decide +kernel, by decide +kernel⟩ rfl (Nat.le_of_ble_eq_true rfl) (by decide) rfl dJ4_checkIndex_5 rfl ?_
  refine P.pop (pc' := 9) dJ4_checkIndex_8 rfl rfl ?_
  exact P.vret rfl dJ4_checkIndex_9
theorem ok_schr5 {g : Gx} {k : Nat} {i : Int32} (hk : k < 26) (h0 : ¬ i < 0) (h1 : i < Int32.ofNat (wl.getD k 0)) (μ : Sw) : Cl g 3 yJ5_charAt cJ5_charAt 2 (some .char) [.ref (μ.2.2.2 (40 + k)), .int i] μ (some (.int ((wb.getD k []).getD i.toNatClampNeg 0))) μ := by
  have hlt : i.toNatClampNeg < wl.getD k 0 := by
    have a1 : (0 : Int) ≤ i.toInt := by
      have := Int32.not_lt.mp h0
      simpa using Int32.le_iff_toInt_le.mp this
    have a2 := Int32.lt_iff_toInt_lt.mp h1
    rw [wl_in k hk] at a2
    have a3 : ((i.toNatClampNeg : Nat) : Int) = i.toInt := by
      show ((i.toInt.toNat : Nat) : Int) = i.toInt
      omega
    omega
  have hin : vp_in i (wl.getD k 0) := fun h => by
    rcases h with h | h
    · exact h0 h
    · omega
  obtain ⟨e1, e2⟩ := wb_ch k hk _ hlt
  refine Cl.of (own := RJ5) (ini := false) (by decide +kernel) rfl (by decide) (Nat.le_of_ble_eq_true rfl) ?_
  show PW g mSchr5 3 μ μ (QN g (some (.int ((wb.getD k []).getD i.toNatClampNeg 0))) μ μ) 0 [(0, .ref (μ.2.2.2 (40 + k))), (1, .int i)] [] μ
  refine P.iload_n 1 (pc' := 1) dJ5_charAt_0 rfl rfl rfl ?_
  refine P.aload_n 0 (pc' := 2) dJ5_charAt_1 rfl rfl rfl ?_
  refine P.slen (pc' := 3) hk dJ5_charAt_2 rfl ?_
  refine P.callS (As := [.int i, .int (Int32.ofNat (wl.getD k 0))]) (rest := []) (rv := none) (pc' := 6) 2 (ok_schk h0 h1 μ) (Nat.le_of_ble_eq_true rfl) (lw_S q612 q613 q173 q614) ⟨by decide +kernel, by decide +kernel, by decide +kernel⟩ rfl (Nat.le_of_ble_eq_true rfl) (by decide) rfl dJ5_charAt_3 rfl ?_
  refine P.aload_n 0 (pc' := 7) dJ5_charAt_6 rfl rfl rfl ?_
  refine P.iload_n 1 (pc' := 8) dJ5_charAt_7 rfl rfl rfl ?_
  refine P.sbal (pc' := 9) hk hin dJ5_charAt_8 rfl ?_
  refine P.sipush (v := 255) (pc' := 12) dJ5_charAt_9 rfl rfl ?_
  refine P.iand (pc' := 13) dJ5_charAt_12 rfl ?_
  refine P.i2c (pc' := 14) dJ5_charAt_13 rfl ?_
  rw [e1]
  exact P.cret rfl e2 dJ5_charAt_14
theorem ok_J4_charAt {g : Gx} {k : Nat} {i n : Int32} {μ : Sw} (h : sChr k i = some n) : Cl g 8 yJ4_charAt cJ4_charAt 2 (some .char) [.ref (μ.2.2.2 (10 + k)), .int i] μ (some (.int n)) μ := by
  have hk := sChr_k h
  unfold sChr at h
  rw [if_pos hk] at h
  by_cases h0 : i < 0
  · rw [if_pos h0] at h; cases h
  rw [if_neg h0] at h
  by_cases h1 : i < Int32.ofNat (wl.getD k 0)
  case neg => rw [if_neg h1] at h; cases h
  rw [if_pos h1] at h
  injection h with h
  subst h
  have hlt : narrow .char (.int ((wb.getD k []).getD i.toNatClampNeg 0)) = .int ((wb.getD k []).getD i.toNatClampNeg 0) := by
    have a1 : (0 : Int) ≤ i.toInt := by
      have := Int32.not_lt.mp h0
      simpa using Int32.le_iff_toInt_le.mp this
    have a2 := Int32.lt_iff_toInt_lt.mp h1
    rw [wl_in k hk] at a2
    have a3 : ((i.toNatClampNeg : Nat) : Int) = i.toInt := by
      show ((i.toInt.toNat : Nat) : Int) = i.toInt
      omega
    exact (wb_ch k hk _ (by omega)).2
  refine Cl.of (own := RJ4) (ini := false) (by decide +kernel) rfl (by decide) (Nat.le_of_ble_eq_true rfl) ?_
  show PW g mSchr 8 μ μ (QN g (some (.int ((wb.getD k []).getD i.toNatClampNeg 0))) μ μ) 0 [(0, .ref (μ.2.2.2 (10 + k))), (1, .int i)] [] μ
  refine P.aload_n 0 (pc' := 1) dJ4_charAt_0 rfl rfl rfl ?_
  refine P.callO (As := []) (rest := []) (pc' := 4) 0 (ok_slat hk μ) (Nat.le_of_ble_eq_true rfl) (lw_V q605 q606 q607 q173 q608) rfl ⟨by decide +kernel, by decide +kernel, by decide +kernel⟩ rfl (Nat.le_of_ble_eq_true rfl) (sRecv0 hk) (by decide) rfl dJ4_charAt_1 rfl ?_
  refine P.if_eq (tgt := 16) (pc' := 7) dJ4_charAt_4 (by decide) rfl (fun h => absurd h (by decide)) (fun _ => ?_)
  refine P.aload_n 0 (pc' := 8) dJ4_charAt_7 rfl rfl rfl ?_
  refine P.sval (pc' := 11) hk q2321 dJ4_charAt_8 rfl ?_
  refine P.iload_n 1 (pc' := 12) dJ4_charAt_11 rfl rfl rfl ?_
  refine P.callS (As := [.ref (μ.2.2.2 (40 + k)), .int i]) (rest := []) (pc' := 15) 2 (ok_schr5 hk h0 h1 μ) (Nat.le_of_ble_eq_true rfl) (lw_S q609 q610 q174 q611) ⟨by decide +kernel, by decide +kernel, by decide +kernel⟩ rfl (Nat.le_of_ble_eq_true rfl) (by decide) rfl dJ4_charAt_12 rfl ?_
  exact P.cret rfl hlt dJ4_charAt_15
