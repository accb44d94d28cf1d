set_option maxRecDepth 100000
theorem yok_X9_await : yOK yX9_await 1 := ⟨by decide +kernel, by decide +kernel, by decide +kernel⟩
theorem yok_X9_isSign : yOK yX9_isSign 1 := ⟨by decide +kernel, by decide +kernel, by decide +kernel⟩
theorem yok_X9_pass : yOK yX9_pass 0 := ⟨by decide +kernel, by decide +kernel, by decide +kernel⟩
theorem yok_X9_reduce : yOK yX9_reduce 2 := ⟨by decide +kernel, by decide +kernel, by decide +kernel⟩
theorem yok_X9_variableOf : yOK yX9_variableOf 1 := ⟨by decide +kernel, by decide +kernel, by decide +kernel⟩
abbrev mX9_expr : Ym := (RX9, cX9_expr, 5, (some Jvm.ClassFile.FieldType.boolean), false, [])
noncomputable def t_X9_expr_j190 (F : Nat) (self : Int32 → Int32 → Int32 → Tw → Option (Int32 × Tw)) (v1 : Int32) (v3 : Int32) (τ : Tw) : Option (Int32 × Tw) :=
  Option.bind (t_X9_reduce F 2 0 τ) fun q1 =>
  Option.bind (t_X9_isSign F 42 q1) fun q3 =>
  if q3 = 0 then
    Option.bind (t_X9_await F 5 q1) fun q6 =>
    Option.bind (t_X9_pass F q6) fun q8 =>
    if q8.1 = 0 then
      some (0, q8.2)
    else
      self v1 1 v3 q8.2
  else
    Option.bind (t_X9_await F 4 q1) fun q11 =>
    Option.bind (t_X9_pass F q11) fun q13 =>
    if q13.1 = 0 then
      some (0, q13.2)
    else
      self v1 1 v3 q13.2
set_option maxHeartbeats 4000000 in
theorem ok_t_X9_expr_j190 {g : Gx} {μ0 : Sw} {rv : Int32} {τF : Tw} (F : Nat) (tw : Nat) (μ : Sw) (v1 : Int32) (v3 : Int32) (τ : Tw) (self : Int32 → Int32 → Int32 → Tw → Option (Int32 × Tw)) (ih : ∀ (w1 : Int32) (w2 : Int32) (w3 : Int32) (τ : Tw), self w1 w2 w3 τ = some (rv, τF) → PW g mX9_expr 3 μ0 (mT tw τF μ) (QN g (some (.int rv)) μ0 (mT tw τF μ)) 21 [(0, .ref tw), (1, .int w1), (2, .int w2), (3, .int w3)] [] (mT tw τ μ)) (hf : t_X9_expr_j190 F self v1 v3 τ = some (rv, τF)) : PW g mX9_expr 3 μ0 (mT tw τF μ) (QN g (some (.int rv)) μ0 (mT tw τF μ)) 190 [(0, .ref tw), (1, .int v1), (3, .int v3)] [] (mT tw τ μ) := by
  unfold t_X9_expr_j190 at hf
  refine P.aload_n 0 (pc' := 191) dX9_expr_190 rfl rfl rfl ?_
  refine P.iconst (v := 2) (pc' := 192) dX9_expr_191 rfl (by decide) ?_
  refine P.iconst (v := 0) (pc' := 193) dX9_expr_192 rfl (by decide) ?_
  obtain ⟨q1, h2, hf⟩ := ob hf
  refine P.callV (pc' := 196) (As := [.int 2, .int 0]) 2 (ok_X9_reduce F 2 0 tw μ τ h2) (Nat.le_of_ble_eq_true rfl) (lw_V q1893 q1895 qs110 q172 q1896) rfl yok_X9_reduce rfl (Nat.le_of_ble_eq_true rfl) ci9 T_oc (by decide) rfl dX9_expr_193 rfl ?_
  refine P.aload_n 0 (pc' := 197) dX9_expr_196 rfl rfl rfl ?_
  refine P.aload_n 0 (pc' := 198) dX9_expr_197 rfl rfl rfl ?_
  refine P.bipush (v := 42) (pc' := 200) dX9_expr_198 rfl (by decide) ?_
  obtain ⟨q3, h4, hf⟩ := ob hf
  refine P.callV (pc' := 203) (As := [.int 42]) 1 (ok_X9_isSign F 42 tw μ q1 h4) (Nat.le_of_ble_eq_true rfl) (lw_V q1874 q1876 qs106 q172 q1877) rfl yok_X9_isSign rfl (Nat.le_of_ble_eq_true rfl) ci9 T_oc (Nat.le_of_ble_eq_true rfl) rfl dX9_expr_200 rfl ?_
  refine P.if_eq (tgt := 210) (pc' := 206) dX9_expr_203 (by decide) rfl (fun y5 => ?_) (fun y5 => ?_)
  · have hf := (if_pos y5).symm.trans hf
    refine P.iconst (v := 5) (pc' := 211) dX9_expr_210 rfl (by decide) ?_
    obtain ⟨q6, h7, hf⟩ := ob hf
    refine P.callV (pc' := 214) (As := [.int 5]) 1 (ok_X9_await F 5 tw μ q1 h7) (Nat.le_of_ble_eq_true rfl) (lw_V q1882 q1884 qs108 q172 q1885) rfl yok_X9_await rfl (Nat.le_of_ble_eq_true rfl) ci9 T_oc (by decide) rfl dX9_expr_211 rfl ?_
    refine P.aload_n 0 (pc' := 215) dX9_expr_214 rfl rfl rfl ?_
    obtain ⟨q8, h9, hf⟩ := ob hf
    refine P.callV (pc' := 218) (As := []) 0 (ok_X9_pass F tw μ q6 h9) (Nat.le_of_ble_eq_true rfl) (lw_V q1818 q1820 qs92 q172 q1821) rfl yok_X9_pass rfl (Nat.le_of_ble_eq_true rfl) ci9 T_oc (by decide) rfl dX9_expr_215 rfl ?_
    refine P.if_ne (tgt := 223) (pc' := 221) dX9_expr_218 (by decide) rfl (fun y10 => ?_) (fun y10 => ?_)
    · have hf := (if_neg y10).symm.trans hf
      refine P.iconst (v := 1) (pc' := 224) dX9_expr_223 rfl (by decide) ?_
      refine P.istore_n (pc' := 225) (lv' := [(2, .int 1), (0, .ref tw), (1, .int v1), (3, .int v3)]) dX9_expr_224 rfl rfl (Nat.le_of_ble_eq_true rfl) rfl ?_
      refine P.goto (tgt := 21) dX9_expr_225 (by decide) ?_
      exact PW.sub [1, 2, 0, 3] rfl (ih _ _ _ _ hf)
    · have hf := (if_pos y10).symm.trans hf
      refine P.iconst (v := 0) (pc' := 222) dX9_expr_221 rfl (by decide) ?_
      cases hf; exact P.zret rfl (Or.inl rfl) dX9_expr_222
  · have hf := (if_neg y5).symm.trans hf
    refine P.iconst (v := 4) (pc' := 207) dX9_expr_206 rfl (by decide) ?_
    refine P.goto (tgt := 211) dX9_expr_207 (by decide) ?_
    obtain ⟨q11, h12, hf⟩ := ob hf
    refine P.callV (pc' := 214) (As := [.int 4]) 1 (ok_X9_await F 4 tw μ q1 h12) (Nat.le_of_ble_eq_true rfl) (lw_V q1882 q1884 qs108 q172 q1885) rfl yok_X9_await rfl (Nat.le_of_ble_eq_true rfl) ci9 T_oc (by decide) rfl dX9_expr_211 rfl ?_
    refine P.aload_n 0 (pc' := 215) dX9_expr_214 rfl rfl rfl ?_
    obtain ⟨q13, h14, hf⟩ := ob hf
    refine P.callV (pc' := 218) (As := []) 0 (ok_X9_pass F tw μ q11 h14) (Nat.le_of_ble_eq_true rfl) (lw_V q1818 q1820 qs92 q172 q1821) rfl yok_X9_pass rfl (Nat.le_of_ble_eq_true rfl) ci9 T_oc (by decide) rfl dX9_expr_215 rfl ?_
    refine P.if_ne (tgt := 223) (pc' := 221) dX9_expr_218 (by decide) rfl (fun y15 => ?_) (fun y15 => ?_)
    · have hf := (if_neg y15).symm.trans hf
      refine P.iconst (v := 1) (pc' := 224) dX9_expr_223 rfl (by decide) ?_
      refine P.istore_n (pc' := 225) (lv' := [(2, .int 1), (0, .ref tw), (1, .int v1), (3, .int v3)]) dX9_expr_224 rfl rfl (Nat.le_of_ble_eq_true rfl) rfl ?_
      refine P.goto (tgt := 21) dX9_expr_225 (by decide) ?_
      exact PW.sub [1, 2, 0, 3] rfl (ih _ _ _ _ hf)
    · have hf := (if_pos y15).symm.trans hf
      refine P.iconst (v := 0) (pc' := 222) dX9_expr_221 rfl (by decide) ?_
      cases hf; exact P.zret rfl (Or.inl rfl) dX9_expr_222
noncomputable def t_X9_expr_j246 (F : Nat) (self : Int32 → Int32 → Int32 → Tw → Option (Int32 × Tw)) (v1 : Int32) (v3 : Int32) (τ : Tw) : Option (Int32 × Tw) :=
  Option.bind (t_X9_reduce F 1 0 τ) fun q1 =>
  Option.bind (t_X9_isSign F 43 q1) fun q3 =>
  if q3 = 0 then
    Option.bind (t_X9_await F 3 q1) fun q6 =>
    Option.bind (t_X9_pass F q6) fun q8 =>
    if q8.1 = 0 then
      some (0, q8.2)
    else
      self v1 1 v3 q8.2
  else
    Option.bind (t_X9_await F 2 q1) fun q11 =>
    Option.bind (t_X9_pass F q11) fun q13 =>
    if q13.1 = 0 then
      some (0, q13.2)
    else
      self v1 1 v3 q13.2
set_option maxHeartbeats 4000000 in
theorem ok_t_X9_expr_j246 {g : Gx} {μ0 : Sw} {rv : Int32} {τF : Tw} (F : Nat) (tw : Nat) (μ : Sw) (v1 : Int32) (v3 : Int32) (τ : Tw) (self : Int32 → Int32 → Int32 → Tw → Option (Int32 × Tw)) (ih : ∀ (w1 : Int32) (w2 : Int32) (w3 : Int32) (τ : Tw), self w1 w2 w3 τ = some (rv, τF) → PW g mX9_expr 3 μ0 (mT tw τF μ) (QN g (some (.int rv)) μ0 (mT tw τF μ)) 21 [(0, .ref tw), (1, .int w1), (2, .int w2), (3, .int w3)] [] (mT tw τ μ)) (hf : t_X9_expr_j246 F self v1 v3 τ = some (rv, τF)) : PW g mX9_expr 3 μ0 (mT tw τF μ) (QN g (some (.int rv)) μ0 (mT tw τF μ)) 246 [(0, .ref tw), (1, .int v1), (3, .int v3)] [] (mT tw τ μ) := by
  unfold t_X9_expr_j246 at hf
  refine P.aload_n 0 (pc' := 247) dX9_expr_246 rfl rfl rfl ?_
  refine P.iconst (v := 1) (pc' := 248) dX9_expr_247 rfl (by decide) ?_
  refine P.iconst (v := 0) (pc' := 249) dX9_expr_248 rfl (by decide) ?_
  obtain ⟨q1, h2, hf⟩ := ob hf
  refine P.callV (pc' := 252) (As := [.int 1, .int 0]) 2 (ok_X9_reduce F 1 0 tw μ τ h2) (Nat.le_of_ble_eq_true rfl) (lw_V q1893 q1895 qs110 q172 q1896) rfl yok_X9_reduce rfl (Nat.le_of_ble_eq_true rfl) ci9 T_oc (by decide) rfl dX9_expr_249 rfl ?_
  refine P.aload_n 0 (pc' := 253) dX9_expr_252 rfl rfl rfl ?_
  refine P.aload_n 0 (pc' := 254) dX9_expr_253 rfl rfl rfl ?_
  refine P.bipush (v := 43) (pc' := 256) dX9_expr_254 rfl (by decide) ?_
  obtain ⟨q3, h4, hf⟩ := ob hf
  refine P.callV (pc' := 259) (As := [.int 43]) 1 (ok_X9_isSign F 43 tw μ q1 h4) (Nat.le_of_ble_eq_true rfl) (lw_V q1874 q1876 qs106 q172 q1877) rfl yok_X9_isSign rfl (Nat.le_of_ble_eq_true rfl) ci9 T_oc (Nat.le_of_ble_eq_true rfl) rfl dX9_expr_256 rfl ?_
  refine P.if_eq (tgt := 266) (pc' := 262) dX9_expr_259 (by decide) rfl (fun y5 => ?_) (fun y5 => ?_)
  · have hf := (if_pos y5).symm.trans hf
    refine P.iconst (v := 3) (pc' := 267) dX9_expr_266 rfl (by decide) ?_
    obtain ⟨q6, h7, hf⟩ := ob hf
    refine P.callV (pc' := 270) (As := [.int 3]) 1 (ok_X9_await F 3 tw μ q1 h7) (Nat.le_of_ble_eq_true rfl) (lw_V q1882 q1884 qs108 q172 q1885) rfl yok_X9_await rfl (Nat.le_of_ble_eq_true rfl) ci9 T_oc (by decide) rfl dX9_expr_267 rfl ?_
    refine P.aload_n 0 (pc' := 271) dX9_expr_270 rfl rfl rfl ?_
    obtain ⟨q8, h9, hf⟩ := ob hf
    refine P.callV (pc' := 274) (As := []) 0 (ok_X9_pass F tw μ q6 h9) (Nat.le_of_ble_eq_true rfl) (lw_V q1818 q1820 qs92 q172 q1821) rfl yok_X9_pass rfl (Nat.le_of_ble_eq_true rfl) ci9 T_oc (by decide) rfl dX9_expr_271 rfl ?_
    refine P.if_ne (tgt := 279) (pc' := 277) dX9_expr_274 (by decide) rfl (fun y10 => ?_) (fun y10 => ?_)
    · have hf := (if_neg y10).symm.trans hf
      refine P.iconst (v := 1) (pc' := 280) dX9_expr_279 rfl (by decide) ?_
      refine P.istore_n (pc' := 281) (lv' := [(2, .int 1), (0, .ref tw), (1, .int v1), (3, .int v3)]) dX9_expr_280 rfl rfl (Nat.le_of_ble_eq_true rfl) rfl ?_
      refine P.goto (tgt := 21) dX9_expr_281 (by decide) ?_
      exact PW.sub [1, 2, 0, 3] rfl (ih _ _ _ _ hf)
    · have hf := (if_pos y10).symm.trans hf
      refine P.iconst (v := 0) (pc' := 278) dX9_expr_277 rfl (by decide) ?_
      cases hf; exact P.zret rfl (Or.inl rfl) dX9_expr_278
  · have hf := (if_neg y5).symm.trans hf
    refine P.iconst (v := 2) (pc' := 263) dX9_expr_262 rfl (by decide) ?_
    refine P.goto (tgt := 267) dX9_expr_263 (by decide) ?_
    obtain ⟨q11, h12, hf⟩ := ob hf
    refine P.callV (pc' := 270) (As := [.int 2]) 1 (ok_X9_await F 2 tw μ q1 h12) (Nat.le_of_ble_eq_true rfl) (lw_V q1882 q1884 qs108 q172 q1885) rfl yok_X9_await rfl (Nat.le_of_ble_eq_true rfl) ci9 T_oc (by decide) rfl dX9_expr_267 rfl ?_
    refine P.aload_n 0 (pc' := 271) dX9_expr_270 rfl rfl rfl ?_
    obtain ⟨q13, h14, hf⟩ := ob hf
    refine P.callV (pc' := 274) (As := []) 0 (ok_X9_pass F tw μ q11 h14) (Nat.le_of_ble_eq_true rfl) (lw_V q1818 q1820 qs92 q172 q1821) rfl yok_X9_pass rfl (Nat.le_of_ble_eq_true rfl) ci9 T_oc (by decide) rfl dX9_expr_271 rfl ?_
    refine P.if_ne (tgt := 279) (pc' := 277) dX9_expr_274 (by decide) rfl (fun y15 => ?_) (fun y15 => ?_)
    · have hf := (if_neg y15).symm.trans hf
      refine P.iconst (v := 1) (pc' := 280) dX9_expr_279 rfl (by decide) ?_
      refine P.istore_n (pc' := 281) (lv' := [(2, .int 1), (0, .ref tw), (1, .int v1), (3, .int v3)]) dX9_expr_280 rfl rfl (Nat.le_of_ble_eq_true rfl) rfl ?_
      refine P.goto (tgt := 21) dX9_expr_281 (by decide) ?_
      exact PW.sub [1, 2, 0, 3] rfl (ih _ _ _ _ hf)
    · have hf := (if_pos y15).symm.trans hf
      refine P.iconst (v := 0) (pc' := 278) dX9_expr_277 rfl (by decide) ?_
      cases hf; exact P.zret rfl (Or.inl rfl) dX9_expr_278
noncomputable def t_X9_expr_j136 (F : Nat) (self : Int32 → Int32 → Int32 → Tw → Option (Int32 × Tw)) (v1 : Int32) (v3 : Int32) (v4 : Int32) (s1 : Int32) (τ : Tw) : Option (Int32 × Tw) :=
  if 0 ≤ v4 then
    Option.bind (t_X9_emit F s1 v4 τ) fun q2 =>
    Option.bind (t_X9_pass F q2) fun q4 =>
    if q4.1 = 0 then
      some (0, q4.2)
    else
      self v1 0 v3 q4.2
  else
    Option.bind (taI τ 4 2001 (τ.1 7)) fun x7 =>
    Option.bind (t_X9_emit F s1 x7 τ) fun q9 =>
    Option.bind (t_X9_pass F q9) fun q11 =>
    if q11.1 = 0 then
      some (0, q11.2)
    else
      self v1 0 v3 q11.2
set_option maxHeartbeats 4000000 in
theorem ok_t_X9_expr_j136 {g : Gx} {μ0 : Sw} {rv : Int32} {τF : Tw} (F : Nat) (tw : Nat) (μ : Sw) (v1 : Int32) (v3 : Int32) (v4 : Int32) (s1 : Int32) (τ : Tw) (self : Int32 → Int32 → Int32 → Tw → Option (Int32 × Tw)) (ih : ∀ (w1 : Int32) (w2 : Int32) (w3 : Int32) (τ : Tw), self w1 w2 w3 τ = some (rv, τF) → PW g mX9_expr 3 μ0 (mT tw τF μ) (QN g (some (.int rv)) μ0 (mT tw τF μ)) 21 [(0, .ref tw), (1, .int w1), (2, .int w2), (3, .int w3)] [] (mT tw τ μ)) (hf : t_X9_expr_j136 F self v1 v3 v4 s1 τ = some (rv, τF)) : PW g mX9_expr 3 μ0 (mT tw τF μ) (QN g (some (.int rv)) μ0 (mT tw τF μ)) 136 [(0, .ref tw), (1, .int v1), (3, .int v3), (4, .int v4)] [.int s1, .ref tw] (mT tw τ μ) := by
  unfold t_X9_expr_j136 at hf
  refine P.iload 3 (pc' := 138) dX9_expr_136 rfl rfl ?_
  refine P.if_ge (tgt := 153) (pc' := 141) dX9_expr_138 (by decide) rfl (fun y1 => ?_) (fun y1 => ?_)
  · have hf := (if_pos y1).symm.trans hf
    refine P.iload 3 (pc' := 155) dX9_expr_153 rfl rfl ?_
    obtain ⟨q2, h3, hf⟩ := ob hf
    refine P.callV (pc' := 158) (As := [.int s1, .int v4]) 2 (ok_X9_emit F s1 v4 tw μ τ h3) (Nat.le_of_ble_eq_true rfl) (lw_V q1889 q1891 qs109 q172 q1892) rfl yok_X9_emit rfl (Nat.le_of_ble_eq_true rfl) ci9 T_oc (by decide) rfl dX9_expr_155 rfl ?_
    refine P.aload_n 0 (pc' := 159) dX9_expr_158 rfl rfl rfl ?_
    obtain ⟨q4, h5, hf⟩ := ob hf
    refine P.callV (pc' := 162) (As := []) 0 (ok_X9_pass F tw μ q2 h5) (Nat.le_of_ble_eq_true rfl) (lw_V q1818 q1820 qs92 q172 q1821) rfl yok_X9_pass rfl (Nat.le_of_ble_eq_true rfl) ci9 T_oc (by decide) rfl dX9_expr_159 rfl ?_
    refine P.if_ne (tgt := 167) (pc' := 165) dX9_expr_162 (by decide) rfl (fun y6 => ?_) (fun y6 => ?_)
    · have hf := (if_neg y6).symm.trans hf
      refine P.iconst (v := 0) (pc' := 168) dX9_expr_167 rfl (by decide) ?_
      refine P.istore_n (pc' := 169) (lv' := [(2, .int 0), (0, .ref tw), (1, .int v1), (3, .int v3), (4, .int v4)]) dX9_expr_168 rfl rfl (Nat.le_of_ble_eq_true rfl) rfl ?_
      refine P.goto (tgt := 21) dX9_expr_169 (by decide) ?_
      exact PW.sub [1, 2, 0, 3] rfl (ih _ _ _ _ hf)
    · have hf := (if_pos y6).symm.trans hf
      refine P.iconst (v := 0) (pc' := 166) dX9_expr_165 rfl (by decide) ?_
      cases hf; exact P.zret rfl (Or.inl rfl) dX9_expr_166
  · have hf := (if_neg y1).symm.trans hf
    refine P.aload_n 0 (pc' := 142) dX9_expr_141 rfl rfl rfl ?_
    refine P.get (v := .ref (tw + 4)) (pc' := 145) ci9 5 (by decide) (T_gf rfl) q1560 (Or.inl rfl) dX9_expr_142 rfl ?_
    refine P.aload_n 0 (pc' := 146) dX9_expr_145 rfl rfl rfl ?_
    refine P.get (v := .int (τ.1 7)) (pc' := 149) ci9 7 (by decide) (T_gf rfl) q1562 (Or.inl rfl) dX9_expr_146 rfl ?_
    obtain ⟨x7, h8, hf⟩ := ob hf
    refine P.iald (t := 0) (pc' := 150) rfl (T_aI rfl h8) dX9_expr_149 rfl ?_
    refine P.goto (tgt := 155) dX9_expr_150 (by decide) ?_
    obtain ⟨q9, h10, hf⟩ := ob hf
    refine P.callV (pc' := 158) (As := [.int s1, .int x7]) 2 (ok_X9_emit F s1 x7 tw μ τ h10) (Nat.le_of_ble_eq_true rfl) (lw_V q1889 q1891 qs109 q172 q1892) rfl yok_X9_emit rfl (Nat.le_of_ble_eq_true rfl) ci9 T_oc (by decide) rfl dX9_expr_155 rfl ?_
    refine P.aload_n 0 (pc' := 159) dX9_expr_158 rfl rfl rfl ?_
    obtain ⟨q11, h12, hf⟩ := ob hf
    refine P.callV (pc' := 162) (As := []) 0 (ok_X9_pass F tw μ q9 h12) (Nat.le_of_ble_eq_true rfl) (lw_V q1818 q1820 qs92 q172 q1821) rfl yok_X9_pass rfl (Nat.le_of_ble_eq_true rfl) ci9 T_oc (by decide) rfl dX9_expr_159 rfl ?_
    refine P.if_ne (tgt := 167) (pc' := 165) dX9_expr_162 (by decide) rfl (fun y13 => ?_) (fun y13 => ?_)
    · have hf := (if_neg y13).symm.trans hf
      refine P.iconst (v := 0) (pc' := 168) dX9_expr_167 rfl (by decide) ?_
      refine P.istore_n (pc' := 169) (lv' := [(2, .int 0), (0, .ref tw), (1, .int v1), (3, .int v3), (4, .int v4)]) dX9_expr_168 rfl rfl (Nat.le_of_ble_eq_true rfl) rfl ?_
      refine P.goto (tgt := 21) dX9_expr_169 (by decide) ?_
      exact PW.sub [1, 2, 0, 3] rfl (ih _ _ _ _ hf)
    · have hf := (if_pos y13).symm.trans hf
      refine P.iconst (v := 0) (pc' := 166) dX9_expr_165 rfl (by decide) ?_
      cases hf; exact P.zret rfl (Or.inl rfl) dX9_expr_166
noncomputable def t_X9_expr_j125 (F : Nat) (self : Int32 → Int32 → Int32 → Tw → Option (Int32 × Tw)) (v1 : Int32) (v3 : Int32) (v4 : Int32) (τ : Tw) : Option (Int32 × Tw) :=
  if 0 ≤ v4 then
    t_X9_expr_j136 F self v1 v3 v4 1 τ
  else
    t_X9_expr_j136 F self v1 v3 v4 0 τ
set_option maxHeartbeats 4000000 in
theorem ok_t_X9_expr_j125 {g : Gx} {μ0 : Sw} {rv : Int32} {τF : Tw} (F : Nat) (tw : Nat) (μ : Sw) (v1 : Int32) (v3 : Int32) (v4 : Int32) (τ : Tw) (self : Int32 → Int32 → Int32 → Tw → Option (Int32 × Tw)) (ih : ∀ (w1 : Int32) (w2 : Int32) (w3 : Int32) (τ : Tw), self w1 w2 w3 τ = some (rv, τF) → PW g mX9_expr 3 μ0 (mT tw τF μ) (QN g (some (.int rv)) μ0 (mT tw τF μ)) 21 [(0, .ref tw), (1, .int w1), (2, .int w2), (3, .int w3)] [] (mT tw τ μ)) (hf : t_X9_expr_j125 F self v1 v3 v4 τ = some (rv, τF)) : PW g mX9_expr 3 μ0 (mT tw τF μ) (QN g (some (.int rv)) μ0 (mT tw τF μ)) 125 [(0, .ref tw), (1, .int v1), (3, .int v3), (4, .int v4)] [] (mT tw τ μ) := by
  unfold t_X9_expr_j125 at hf
  refine P.aload_n 0 (pc' := 126) dX9_expr_125 rfl rfl rfl ?_
  refine P.iload 3 (pc' := 128) dX9_expr_126 rfl rfl ?_
  refine P.if_ge (tgt := 135) (pc' := 131) dX9_expr_128 (by decide) rfl (fun y1 => ?_) (fun y1 => ?_)
  · have hf := (if_pos y1).symm.trans hf
    refine P.iconst (v := 1) (pc' := 136) dX9_expr_135 rfl (by decide) ?_
    exact PW.sub [0, 1, 2, 3] rfl (ok_t_X9_expr_j136 F tw μ v1 v3 v4 1 τ _ ih hf)
  · have hf := (if_neg y1).symm.trans hf
    refine P.iconst (v := 0) (pc' := 132) dX9_expr_131 rfl (by decide) ?_
    refine P.goto (tgt := 136) dX9_expr_132 (by decide) ?_
    exact PW.sub [0, 1, 2, 3] rfl (ok_t_X9_expr_j136 F tw μ v1 v3 v4 0 τ _ ih hf)
noncomputable def t_X9_expr_j99 (F : Nat) (self : Int32 → Int32 → Int32 → Tw → Option (Int32 × Tw)) (v1 : Int32) (v3 : Int32) (s0 : Int32) (τ : Tw) : Option (Int32 × Tw) :=
  Option.bind (taI τ 2 2001 (τ.1 7)) fun x1 =>
  if x1 = 1 then
    t_X9_expr_j125 F self v1 v3 s0 τ
  else
    if 0 ≤ s0 then
      t_X9_expr_j125 F self v1 v3 s0 τ
    else
      Option.bind (t_X9_wrong F 1 τ) fun q5 =>
      if q5.1 = 0 ∨ q5.1 = 1 then
        some (q5.1, q5.2)
      else
        none
set_option maxHeartbeats 4000000 in
theorem ok_t_X9_expr_j99 {g : Gx} {μ0 : Sw} {rv : Int32} {τF : Tw} (F : Nat) (tw : Nat) (μ : Sw) (v1 : Int32) (v3 : Int32) (s0 : Int32) (τ : Tw) (self : Int32 → Int32 → Int32 → Tw → Option (Int32 × Tw)) (ih : ∀ (w1 : Int32) (w2 : Int32) (w3 : Int32) (τ : Tw), self w1 w2 w3 τ = some (rv, τF) → PW g mX9_expr 3 μ0 (mT tw τF μ) (QN g (some (.int rv)) μ0 (mT tw τF μ)) 21 [(0, .ref tw), (1, .int w1), (2, .int w2), (3, .int w3)] [] (mT tw τ μ)) (hf : t_X9_expr_j99 F self v1 v3 s0 τ = some (rv, τF)) : PW g mX9_expr 3 μ0 (mT tw τF μ) (QN g (some (.int rv)) μ0 (mT tw τF μ)) 99 [(0, .ref tw), (1, .int v1), (3, .int v3)] [.int s0] (mT tw τ μ) := by
  unfold t_X9_expr_j99 at hf
  refine P.istore (pc' := 101) (lv' := [(4, .int s0), (0, .ref tw), (1, .int v1), (3, .int v3)]) dX9_expr_99 rfl (Nat.le_of_ble_eq_true rfl) rfl ?_
  refine P.aload_n 1 (pc' := 102) dX9_expr_101 rfl rfl rfl ?_
  refine P.get (v := .ref (tw + 2)) (pc' := 105) ci9 3 (by decide) (T_gf rfl) q1558 (Or.inl rfl) dX9_expr_102 rfl ?_
  refine P.aload_n 1 (pc' := 106) dX9_expr_105 rfl rfl rfl ?_
  refine P.get (v := .int (τ.1 7)) (pc' := 109) ci9 7 (by decide) (T_gf rfl) q1562 (Or.inl rfl) dX9_expr_106 rfl ?_
  obtain ⟨x1, h2, hf⟩ := ob hf
  refine P.iald (t := 0) (pc' := 110) rfl (T_aI rfl h2) dX9_expr_109 rfl ?_
  refine P.iconst (v := 1) (pc' := 111) dX9_expr_110 rfl (by decide) ?_
  refine P.icmp_eq (tgt := 125) (pc' := 114) dX9_expr_111 (by decide) rfl (fun y3 => ?_) (fun y3 => ?_)
  · have hf := (if_pos y3).symm.trans hf
    exact PW.sub [1, 2, 3, 0] rfl (ok_t_X9_expr_j125 F tw μ v1 v3 s0 τ _ ih hf)
  · have hf := (if_neg y3).symm.trans hf
    refine P.iload 0 (pc' := 116) dX9_expr_114 rfl rfl ?_
    refine P.if_ge (tgt := 125) (pc' := 119) dX9_expr_116 (by decide) rfl (fun y4 => ?_) (fun y4 => ?_)
    · have hf := (if_pos y4).symm.trans hf
      exact PW.sub [1, 2, 3, 0] rfl (ok_t_X9_expr_j125 F tw μ v1 v3 s0 τ _ ih hf)
    · have hf := (if_neg y4).symm.trans hf
      refine P.aload_n 1 (pc' := 120) dX9_expr_119 rfl rfl rfl ?_
      refine P.iconst (v := 1) (pc' := 121) dX9_expr_120 rfl (by decide) ?_
      obtain ⟨q5, h6, hf⟩ := ob hf
      refine P.callV (pc' := 124) (As := [.int 1]) 1 (ok_X9_wrong F 1 tw μ τ h6) (Nat.le_of_ble_eq_true rfl) (lw_V q1814 q1816 qs91 q172 q1817) rfl yok_X9_wrong rfl (Nat.le_of_ble_eq_true rfl) ci9 T_oc (by decide) rfl dX9_expr_121 rfl ?_
      by_cases y7 : q5.1 = 0 ∨ q5.1 = 1
      · have hf := (if_pos y7).symm.trans hf
        cases hf; exact P.zret rfl y7 dX9_expr_124
      · have hf := (if_neg y7).symm.trans hf
        cases hf
noncomputable def t_X9_expr_L21_b (F : Nat) (self : Int32 → Int32 → Int32 → Tw → Option (Int32 × Tw)) (v1 : Int32) (v2 : Int32) (v3 : Int32) (τ : Tw) : Option (Int32 × Tw) :=
  if v3 = 0 then
    Option.bind (t_X9_reduce F 1 0 τ) fun q2 =>
    some (1, q2)
  else
    if v2 = 0 then
      Option.bind (t_X9_isSign F 42 τ) fun q5 =>
      if q5 = 0 then
        Option.bind (t_X9_isSign F 47 τ) fun q8 =>
        if q8 = 0 then
          Option.bind (t_X9_isSign F 43 τ) fun q11 =>
          if q11 = 0 then
            Option.bind (t_X9_isSign F 45 τ) fun q14 =>
            if q14 = 0 then
              if v1 ≤ 0 then
                self v1 v2 0 τ
              else
                Option.bind (t_X9_isSign F 41 τ) fun q18 =>
                if q18 = 0 then
                  Option.bind (t_X9_wrong F 1 τ) fun q30 =>
                  if q30.1 = 0 ∨ q30.1 = 1 then
                    some (q30.1, q30.2)
                  else
                    none
                else
                  Option.bind (t_X9_pass F τ) fun q21 =>
                  if q21.1 = 0 then
                    some (0, q21.2)
                  else
                    Option.bind (t_X9_reduce F 1 0 q21.2) fun q24 =>
                    nm (tsI q24 30 ((q24.1 30) - 1)) fun τ26 =>
                    nm (v1 + (-1)) fun x28 =>
                    self x28 v2 v3 τ26
            else
              t_X9_expr_j246 F self v1 v3 τ
          else
            t_X9_expr_j246 F self v1 v3 τ
        else
          t_X9_expr_j190 F self v1 v3 τ
      else
        t_X9_expr_j190 F self v1 v3 τ
    else
      Option.bind (t_X9_isSign F 40 τ) fun q33 =>
      if q33 = 0 then
        Option.bind (taI τ 2 2001 (τ.1 7)) fun x36 =>
        if x36 = 3 then
          Option.bind (taI τ 4 2001 (τ.1 7)) fun x39 =>
          Option.bind (p_X9_variableOf F x39) fun q41 =>
          t_X9_expr_j99 F self v1 v3 q41 τ
        else
          t_X9_expr_j99 F self v1 v3 (-1) τ
      else
        if v1 = 6 then
          Option.bind (t_X9_wrong F 2 τ) fun q51 =>
          if q51.1 = 0 ∨ q51.1 = 1 then
            some (q51.1, q51.2)
          else
            none
        else
          Option.bind (t_X9_pass F τ) fun q44 =>
          if q44.1 = 0 then
            some (0, q44.2)
          else
            nm (v1 + 1) fun x47 =>
            Option.bind (t_X9_await F 0 q44.2) fun q49 =>
            self x47 v2 v3 q49
noncomputable def t_X9_expr_L21 (F : Nat) (n : Nat) : Int32 → Int32 → Int32 → Tw → Option (Int32 × Tw) := Nat.rec (motive := fun _ => Int32 → Int32 → Int32 → Tw → Option (Int32 × Tw)) (fun _ _ _ _ => none) (fun _ self => t_X9_expr_L21_b F self) n
set_option maxHeartbeats 4000000 in
theorem ok_t_X9_expr_L21 {g : Gx} {μ0 : Sw} {rv : Int32} {τF : Tw} (F : Nat) (tw : Nat) (μ : Sw) : ∀ (n : Nat) (v1 : Int32) (v2 : Int32) (v3 : Int32) (τ : Tw), t_X9_expr_L21 F n v1 v2 v3 τ = some (rv, τF) → PW g mX9_expr 3 μ0 (mT tw τF μ) (QN g (some (.int rv)) μ0 (mT tw τF μ)) 21 [(0, .ref tw), (1, .int v1), (2, .int v2), (3, .int v3)] [] (mT tw τ μ) := by
  intro n
  induction n with
  | zero =>
    intro v1 v2 v3 τ hf
    have hf : (none : Option (Int32 × Tw)) = some _ := hf
    cases hf
  | succ n ih =>
    intro v1 v2 v3 τ hf
    have hf : t_X9_expr_L21_b F (t_X9_expr_L21 F n) v1 v2 v3 τ = some (rv, τF) := hf
    unfold t_X9_expr_L21_b at hf
    refine P.iload_n 3 (pc' := 22) dX9_expr_21 rfl rfl rfl ?_
    refine P.if_eq (tgt := 339) (pc' := 25) dX9_expr_22 (by decide) rfl (fun y1 => ?_) (fun y1 => ?_)
    · have hf := (if_pos y1).symm.trans hf
      refine P.aload_n 0 (pc' := 340) dX9_expr_339 rfl rfl rfl ?_
      refine P.iconst (v := 1) (pc' := 341) dX9_expr_340 rfl (by decide) ?_
      refine P.iconst (v := 0) (pc' := 342) dX9_expr_341 rfl (by decide) ?_
      obtain ⟨q2, h3, hf⟩ := ob hf
      refine P.callV (pc' := 345) (As := [.int 1, .int 0]) 2 (ok_X9_reduce F 1 0 tw μ τ h3) (Nat.le_of_ble_eq_true rfl) (lw_V q1893 q1895 qs110 q172 q1896) rfl yok_X9_reduce rfl (Nat.le_of_ble_eq_true rfl) ci9 T_oc (by decide) rfl dX9_expr_342 rfl ?_
      refine P.iconst (v := 1) (pc' := 346) dX9_expr_345 rfl (by decide) ?_
      cases hf; exact P.zret rfl (Or.inr rfl) dX9_expr_346
    · have hf := (if_neg y1).symm.trans hf
      refine P.iload_n 2 (pc' := 26) dX9_expr_25 rfl rfl rfl ?_
      refine P.if_eq (tgt := 172) (pc' := 29) dX9_expr_26 (by decide) rfl (fun y4 => ?_) (fun y4 => ?_)
      · have hf := (if_pos y4).symm.trans hf
        refine P.aload_n 0 (pc' := 173) dX9_expr_172 rfl rfl rfl ?_
        refine P.bipush (v := 42) (pc' := 175) dX9_expr_173 rfl (by decide) ?_
        obtain ⟨q5, h6, hf⟩ := ob hf
        refine P.callV (pc' := 178) (As := [.int 42]) 1 (ok_X9_isSign F 42 tw μ τ h6) (Nat.le_of_ble_eq_true rfl) (lw_V q1874 q1876 qs106 q172 q1877) rfl yok_X9_isSign rfl (Nat.le_of_ble_eq_true rfl) ci9 T_oc (by decide) rfl dX9_expr_175 rfl ?_
        refine P.if_ne (tgt := 190) (pc' := 181) dX9_expr_178 (by decide) rfl (fun y7 => ?_) (fun y7 => ?_)
        · have hf := (if_neg y7).symm.trans hf
          exact PW.sub [0, 1, 3] rfl (ok_t_X9_expr_j190 F tw μ v1 v3 τ _ ih hf)
        · have hf := (if_pos y7).symm.trans hf
          refine P.aload_n 0 (pc' := 182) dX9_expr_181 rfl rfl rfl ?_
          refine P.bipush (v := 47) (pc' := 184) dX9_expr_182 rfl (by decide) ?_
          obtain ⟨q8, h9, hf⟩ := ob hf
          refine P.callV (pc' := 187) (As := [.int 47]) 1 (ok_X9_isSign F 47 tw μ τ h9) (Nat.le_of_ble_eq_true rfl) (lw_V q1874 q1876 qs106 q172 q1877) rfl yok_X9_isSign rfl (Nat.le_of_ble_eq_true rfl) ci9 T_oc (by decide) rfl dX9_expr_184 rfl ?_
          refine P.if_eq (tgt := 228) (pc' := 190) dX9_expr_187 (by decide) rfl (fun y10 => ?_) (fun y10 => ?_)
          · have hf := (if_pos y10).symm.trans hf
            refine P.aload_n 0 (pc' := 229) dX9_expr_228 rfl rfl rfl ?_
            refine P.bipush (v := 43) (pc' := 231) dX9_expr_229 rfl (by decide) ?_
            obtain ⟨q11, h12, hf⟩ := ob hf
            refine P.callV (pc' := 234) (As := [.int 43]) 1 (ok_X9_isSign F 43 tw μ τ h12) (Nat.le_of_ble_eq_true rfl) (lw_V q1874 q1876 qs106 q172 q1877) rfl yok_X9_isSign rfl (Nat.le_of_ble_eq_true rfl) ci9 T_oc (by decide) rfl dX9_expr_231 rfl ?_
            refine P.if_ne (tgt := 246) (pc' := 237) dX9_expr_234 (by decide) rfl (fun y13 => ?_) (fun y13 => ?_)
            · have hf := (if_neg y13).symm.trans hf
              exact PW.sub [0, 1, 3] rfl (ok_t_X9_expr_j246 F tw μ v1 v3 τ _ ih hf)
            · have hf := (if_pos y13).symm.trans hf
              refine P.aload_n 0 (pc' := 238) dX9_expr_237 rfl rfl rfl ?_
              refine P.bipush (v := 45) (pc' := 240) dX9_expr_238 rfl (by decide) ?_
              obtain ⟨q14, h15, hf⟩ := ob hf
              refine P.callV (pc' := 243) (As := [.int 45]) 1 (ok_X9_isSign F 45 tw μ τ h15) (Nat.le_of_ble_eq_true rfl) (lw_V q1874 q1876 qs106 q172 q1877) rfl yok_X9_isSign rfl (Nat.le_of_ble_eq_true rfl) ci9 T_oc (by decide) rfl dX9_expr_240 rfl ?_
              refine P.if_eq (tgt := 284) (pc' := 246) dX9_expr_243 (by decide) rfl (fun y16 => ?_) (fun y16 => ?_)
              · have hf := (if_pos y16).symm.trans hf
                refine P.iload_n 1 (pc' := 285) dX9_expr_284 rfl rfl rfl ?_
                refine P.if_le (tgt := 334) (pc' := 288) dX9_expr_285 (by decide) rfl (fun y17 => ?_) (fun y17 => ?_)
                · have hf := (if_pos y17).symm.trans hf
                  refine P.iconst (v := 0) (pc' := 335) dX9_expr_334 rfl (by decide) ?_
                  refine P.istore_n (pc' := 336) (lv' := [(3, .int 0), (0, .ref tw), (1, .int v1), (2, .int v2)]) dX9_expr_335 rfl rfl (Nat.le_of_ble_eq_true rfl) rfl ?_
                  refine P.goto (tgt := 21) dX9_expr_336 (by decide) ?_
                  exact PW.sub [1, 2, 3, 0] rfl (ih _ _ _ _ hf)
                · have hf := (if_neg y17).symm.trans hf
                  refine P.aload_n 0 (pc' := 289) dX9_expr_288 rfl rfl rfl ?_
                  refine P.bipush (v := 41) (pc' := 291) dX9_expr_289 rfl (by decide) ?_
                  obtain ⟨q18, h19, hf⟩ := ob hf
                  refine P.callV (pc' := 294) (As := [.int 41]) 1 (ok_X9_isSign F 41 tw μ τ h19) (Nat.le_of_ble_eq_true rfl) (lw_V q1874 q1876 qs106 q172 q1877) rfl yok_X9_isSign rfl (Nat.le_of_ble_eq_true rfl) ci9 T_oc (by decide) rfl dX9_expr_291 rfl ?_
                  refine P.if_ne (tgt := 303) (pc' := 297) dX9_expr_294 (by decide) rfl (fun y20 => ?_) (fun y20 => ?_)
                  · have hf := (if_neg y20).symm.trans hf
                    refine P.aload_n 0 (pc' := 304) dX9_expr_303 rfl rfl rfl ?_
                    obtain ⟨q21, h22, hf⟩ := ob hf
                    refine P.callV (pc' := 307) (As := []) 0 (ok_X9_pass F tw μ τ h22) (Nat.le_of_ble_eq_true rfl) (lw_V q1818 q1820 qs92 q172 q1821) rfl yok_X9_pass rfl (Nat.le_of_ble_eq_true rfl) ci9 T_oc (by decide) rfl dX9_expr_304 rfl ?_
                    refine P.if_ne (tgt := 312) (pc' := 310) dX9_expr_307 (by decide) rfl (fun y23 => ?_) (fun y23 => ?_)
                    · have hf := (if_neg y23).symm.trans hf
                      refine P.aload_n 0 (pc' := 313) dX9_expr_312 rfl rfl rfl ?_
                      refine P.iconst (v := 1) (pc' := 314) dX9_expr_313 rfl (by decide) ?_
                      refine P.iconst (v := 0) (pc' := 315) dX9_expr_314 rfl (by decide) ?_
                      obtain ⟨q24, h25, hf⟩ := ob hf
                      refine P.callV (pc' := 318) (As := [.int 1, .int 0]) 2 (ok_X9_reduce F 1 0 tw μ q21.2 h25) (Nat.le_of_ble_eq_true rfl) (lw_V q1893 q1895 qs110 q172 q1896) rfl yok_X9_reduce rfl (Nat.le_of_ble_eq_true rfl) ci9 T_oc (by decide) rfl dX9_expr_315 rfl ?_
                      refine P.aload_n 0 (pc' := 319) dX9_expr_318 rfl rfl rfl ?_
                      refine P.dup (pc' := 320) dX9_expr_319 rfl rfl ?_
                      refine P.get (v := .int (q24.1 30)) (pc' := 323) ci9 30 (by decide) (T_gf rfl) q1585 (Or.inl rfl) dX9_expr_320 rfl ?_
                      refine P.iconst (v := 1) (pc' := 324) dX9_expr_323 rfl (by decide) ?_
                      refine P.isub (pc' := 325) dX9_expr_324 rfl ?_
                      obtain ⟨τ26, e27, hf⟩ := nm_i hf
                      refine P.put (v := .int ((q24.1 30) - 1)) (pc' := 328) ci9 30 (by decide) (T_put rfl (by decide) e27) q1585 (Or.inl rfl) rfl rfl rfl dX9_expr_325 rfl ?_
                      obtain ⟨x28, e29, hf⟩ := nm_i hf
                      refine P.iinc 1 (pc' := 331) (lv' := [(1, .int x28), (0, .ref tw), (2, .int v2), (3, .int v3)]) dX9_expr_328 rfl rfl (by decide) e29 (Nat.le_of_ble_eq_true rfl) rfl ?_
                      refine P.goto (tgt := 21) dX9_expr_331 (by decide) ?_
                      exact PW.sub [1, 0, 2, 3] rfl (ih _ _ _ _ hf)
                    · have hf := (if_pos y23).symm.trans hf
                      refine P.iconst (v := 0) (pc' := 311) dX9_expr_310 rfl (by decide) ?_
                      cases hf; exact P.zret rfl (Or.inl rfl) dX9_expr_311
                  · have hf := (if_pos y20).symm.trans hf
                    refine P.aload_n 0 (pc' := 298) dX9_expr_297 rfl rfl rfl ?_
                    refine P.iconst (v := 1) (pc' := 299) dX9_expr_298 rfl (by decide) ?_
                    obtain ⟨q30, h31, hf⟩ := ob hf
                    refine P.callV (pc' := 302) (As := [.int 1]) 1 (ok_X9_wrong F 1 tw μ τ h31) (Nat.le_of_ble_eq_true rfl) (lw_V q1814 q1816 qs91 q172 q1817) rfl yok_X9_wrong rfl (Nat.le_of_ble_eq_true rfl) ci9 T_oc (by decide) rfl dX9_expr_299 rfl ?_
                    by_cases y32 : q30.1 = 0 ∨ q30.1 = 1
                    · have hf := (if_pos y32).symm.trans hf
                      cases hf; exact P.zret rfl y32 dX9_expr_302
                    · have hf := (if_neg y32).symm.trans hf
                      cases hf
              · have hf := (if_neg y16).symm.trans hf
                exact PW.sub [0, 1, 3] rfl (ok_t_X9_expr_j246 F tw μ v1 v3 τ _ ih hf)
          · have hf := (if_neg y10).symm.trans hf
            exact PW.sub [0, 1, 3] rfl (ok_t_X9_expr_j190 F tw μ v1 v3 τ _ ih hf)
      · have hf := (if_neg y4).symm.trans hf
        refine P.aload_n 0 (pc' := 30) dX9_expr_29 rfl rfl rfl ?_
        refine P.bipush (v := 40) (pc' := 32) dX9_expr_30 rfl (by decide) ?_
        obtain ⟨q33, h34, hf⟩ := ob hf
        refine P.callV (pc' := 35) (As := [.int 40]) 1 (ok_X9_isSign F 40 tw μ τ h34) (Nat.le_of_ble_eq_true rfl) (lw_V q1874 q1876 qs106 q172 q1877) rfl yok_X9_isSign rfl (Nat.le_of_ble_eq_true rfl) ci9 T_oc (by decide) rfl dX9_expr_32 rfl ?_
        refine P.if_eq (tgt := 70) (pc' := 38) dX9_expr_35 (by decide) rfl (fun y35 => ?_) (fun y35 => ?_)
        · have hf := (if_pos y35).symm.trans hf
          refine P.aload_n 0 (pc' := 71) dX9_expr_70 rfl rfl rfl ?_
          refine P.get (v := .ref (tw + 2)) (pc' := 74) ci9 3 (by decide) (T_gf rfl) q1558 (Or.inl rfl) dX9_expr_71 rfl ?_
          refine P.aload_n 0 (pc' := 75) dX9_expr_74 rfl rfl rfl ?_
          refine P.get (v := .int (τ.1 7)) (pc' := 78) ci9 7 (by decide) (T_gf rfl) q1562 (Or.inl rfl) dX9_expr_75 rfl ?_
          obtain ⟨x36, h37, hf⟩ := ob hf
          refine P.iald (t := 0) (pc' := 79) rfl (T_aI rfl h37) dX9_expr_78 rfl ?_
          refine P.iconst (v := 3) (pc' := 80) dX9_expr_79 rfl (by decide) ?_
          refine P.icmp_ne (tgt := 98) (pc' := 83) dX9_expr_80 (by decide) rfl (fun y38 => ?_) (fun y38 => ?_)
          · have hf := (if_neg y38).symm.trans hf
            refine P.iconst (v := (-1)) (pc' := 99) dX9_expr_98 rfl (by decide) ?_
            exact PW.sub [0, 1, 3] rfl (ok_t_X9_expr_j99 F tw μ v1 v3 (-1) τ _ ih hf)
          · have hf := (if_pos y38).symm.trans hf
            refine P.aload_n 0 (pc' := 84) dX9_expr_83 rfl rfl rfl ?_
            refine P.get (v := .ref (tw + 4)) (pc' := 87) ci9 5 (by decide) (T_gf rfl) q1560 (Or.inl rfl) dX9_expr_84 rfl ?_
            refine P.aload_n 0 (pc' := 88) dX9_expr_87 rfl rfl rfl ?_
            refine P.get (v := .int (τ.1 7)) (pc' := 91) ci9 7 (by decide) (T_gf rfl) q1562 (Or.inl rfl) dX9_expr_88 rfl ?_
            obtain ⟨x39, h40, hf⟩ := ob hf
            refine P.iald (t := 0) (pc' := 92) rfl (T_aI rfl h40) dX9_expr_91 rfl ?_
            obtain ⟨q41, h42, hf⟩ := ob hf
            refine P.callS (pc' := 95) (As := [.int x39]) 1 (ok_X9_variableOf F x39 (mT tw τ μ) h42) (Nat.le_of_ble_eq_true rfl) (lw_S q1886 q1887 q172 q1888) yok_X9_variableOf rfl (Nat.le_of_ble_eq_true rfl) (by decide) rfl dX9_expr_92 rfl ?_
            refine P.goto (tgt := 99) dX9_expr_95 (by decide) ?_
            exact PW.sub [0, 1, 3] rfl (ok_t_X9_expr_j99 F tw μ v1 v3 q41 τ _ ih hf)
        · have hf := (if_neg y35).symm.trans hf
          refine P.iload_n 1 (pc' := 39) dX9_expr_38 rfl rfl rfl ?_
          refine P.bipush (v := 6) (pc' := 41) dX9_expr_39 rfl (by decide) ?_
          refine P.icmp_ne (tgt := 50) (pc' := 44) dX9_expr_41 (by decide) rfl (fun y43 => ?_) (fun y43 => ?_)
          · have hf := (if_neg y43).symm.trans hf
            refine P.aload_n 0 (pc' := 51) dX9_expr_50 rfl rfl rfl ?_
            obtain ⟨q44, h45, hf⟩ := ob hf
            refine P.callV (pc' := 54) (As := []) 0 (ok_X9_pass F tw μ τ h45) (Nat.le_of_ble_eq_true rfl) (lw_V q1818 q1820 qs92 q172 q1821) rfl yok_X9_pass rfl (Nat.le_of_ble_eq_true rfl) ci9 T_oc (by decide) rfl dX9_expr_51 rfl ?_
            refine P.if_ne (tgt := 59) (pc' := 57) dX9_expr_54 (by decide) rfl (fun y46 => ?_) (fun y46 => ?_)
            · have hf := (if_neg y46).symm.trans hf
              obtain ⟨x47, e48, hf⟩ := nm_i hf
              refine P.iinc 1 (pc' := 62) (lv' := [(1, .int x47), (0, .ref tw), (2, .int v2), (3, .int v3)]) dX9_expr_59 rfl rfl (by decide) e48 (Nat.le_of_ble_eq_true rfl) rfl ?_
              refine P.aload_n 1 (pc' := 63) dX9_expr_62 rfl rfl rfl ?_
              refine P.iconst (v := 0) (pc' := 64) dX9_expr_63 rfl (by decide) ?_
              obtain ⟨q49, h50, hf⟩ := ob hf
              refine P.callV (pc' := 67) (As := [.int 0]) 1 (ok_X9_await F 0 tw μ q44.2 h50) (Nat.le_of_ble_eq_true rfl) (lw_V q1882 q1884 qs108 q172 q1885) rfl yok_X9_await rfl (Nat.le_of_ble_eq_true rfl) ci9 T_oc (by decide) rfl dX9_expr_64 rfl ?_
              refine P.goto (tgt := 21) dX9_expr_67 (by decide) ?_
              exact PW.sub [1, 0, 2, 3] rfl (ih _ _ _ _ hf)
            · have hf := (if_pos y46).symm.trans hf
              refine P.iconst (v := 0) (pc' := 58) dX9_expr_57 rfl (by decide) ?_
              cases hf; exact P.zret rfl (Or.inl rfl) dX9_expr_58
          · have hf := (if_pos y43).symm.trans hf
            refine P.aload_n 0 (pc' := 45) dX9_expr_44 rfl rfl rfl ?_
            refine P.iconst (v := 2) (pc' := 46) dX9_expr_45 rfl (by decide) ?_
            obtain ⟨q51, h52, hf⟩ := ob hf
            refine P.callV (pc' := 49) (As := [.int 2]) 1 (ok_X9_wrong F 2 tw μ τ h52) (Nat.le_of_ble_eq_true rfl) (lw_V q1814 q1816 qs91 q172 q1817) rfl yok_X9_wrong rfl (Nat.le_of_ble_eq_true rfl) ci9 T_oc (by decide) rfl dX9_expr_46 rfl ?_
            by_cases y53 : q51.1 = 0 ∨ q51.1 = 1
            · have hf := (if_pos y53).symm.trans hf
              cases hf; exact P.zret rfl y53 dX9_expr_49
            · have hf := (if_neg y53).symm.trans hf
              cases hf
noncomputable def t_X9_expr (F : Nat) (τ : Tw) : Option (Int32 × Tw) :=
  Option.bind (taI τ 8 2 1) fun x1 =>
  nm (tsI τ 32 x1) fun τ3 =>
  nm (tsI τ3 30 0) fun τ5 =>
  t_X9_expr_L21 F F 0 1 1 τ5
set_option maxHeartbeats 4000000 in
theorem ok_X9_expr {g : Gx} (F : Nat) (tw : Nat) (μ : Sw) (τ : Tw) {rv : Int32} {τF : Tw} (hf : t_X9_expr F τ = some (rv, τF)) : Cl g 3 yX9_expr cX9_expr 5 (some Jvm.ClassFile.FieldType.boolean) [.ref tw] (mT tw τ μ) (some (.int rv)) (mT tw τF μ) := by
  unfold t_X9_expr at hf
  refine Cl.of (own := RX9) (ini := false) (by decide +kernel) rfl (by decide) (Nat.le_of_ble_eq_true rfl) ?_
  show PW g mX9_expr 3 (mT tw τ μ) (mT tw τF μ) (QN g (some (.int rv)) (mT tw τ μ) (mT tw τF μ)) 0 [(0, .ref tw)] [] (mT tw τ μ)
  refine P.aload_n 0 (pc' := 1) dX9_expr_0 rfl rfl rfl ?_
  refine P.aload_n 0 (pc' := 2) dX9_expr_1 rfl rfl rfl ?_
  refine P.get (v := .ref (tw + 8)) (pc' := 5) ci9 14 (by decide) (T_gf rfl) q1569 (Or.inl rfl) dX9_expr_2 rfl ?_
  refine P.iconst (v := 1) (pc' := 6) dX9_expr_5 rfl (by decide) ?_
  obtain ⟨x1, h2, hf⟩ := ob hf
  refine P.iald (t := 0) (pc' := 7) rfl (T_aI rfl h2) dX9_expr_6 rfl ?_
  obtain ⟨τ3, e4, hf⟩ := nm_i hf
  refine P.put (v := .int x1) (pc' := 10) ci9 32 (by decide) (T_put rfl (by decide) e4) q1587 (Or.inl rfl) rfl rfl rfl dX9_expr_7 rfl ?_
  refine P.aload_n 0 (pc' := 11) dX9_expr_10 rfl rfl rfl ?_
  refine P.iconst (v := 0) (pc' := 12) dX9_expr_11 rfl (by decide) ?_
  obtain ⟨τ5, e6, hf⟩ := nm_i hf
  refine P.put (v := .int 0) (pc' := 15) ci9 30 (by decide) (T_put rfl (by decide) e6) q1585 (Or.inl rfl) rfl rfl rfl dX9_expr_12 rfl ?_
  refine P.iconst (v := 0) (pc' := 16) dX9_expr_15 rfl (by decide) ?_
  refine P.istore_n (pc' := 17) (lv' := [(1, .int 0), (0, .ref tw)]) dX9_expr_16 rfl rfl (Nat.le_of_ble_eq_true rfl) rfl ?_
  refine P.iconst (v := 1) (pc' := 18) dX9_expr_17 rfl (by decide) ?_
  refine P.istore_n (pc' := 19) (lv' := [(2, .int 1), (1, .int 0), (0, .ref tw)]) dX9_expr_18 rfl rfl (Nat.le_of_ble_eq_true rfl) rfl ?_
  refine P.iconst (v := 1) (pc' := 20) dX9_expr_19 rfl (by decide) ?_
  refine P.istore_n (pc' := 21) (lv' := [(3, .int 1), (2, .int 1), (1, .int 0), (0, .ref tw)]) dX9_expr_20 rfl rfl (Nat.le_of_ble_eq_true rfl) rfl ?_
  exact PW.sub [3, 2, 1, 0] rfl (ok_t_X9_expr_L21 F tw μ F _ _ _ _ hf)
theorem yok_X9_expr : yOK yX9_expr 0 := ⟨by decide +kernel, by decide +kernel, by decide +kernel⟩
theorem yok_X9_isWord : yOK yX9_isWord 1 := ⟨by decide +kernel, by decide +kernel, by decide +kernel⟩
abbrev mX9_cond : Ym := (RX9, cX9_cond, 6, (some Jvm.ClassFile.FieldType.boolean), false, [])
noncomputable def t_X9_cond_L32_b (F : Nat) (k65 : Int32 → Tw → Option (Int32 × Tw)) (c1 : Int32) (c3 : Int32) (self : Int32 → Tw → Option (Int32 × Tw)) (v4 : Int32) (τ : Tw) : Option (Int32 × Tw) :=
  Option.bind (t_X9_isWord F 10 τ) fun q1 =>
  if q1 = 0 then
    k65 v4 τ
  else
    Option.bind (t_X9_pass F τ) fun q4 =>
    if q4.1 = 0 then
      some (0, q4.2)
    else
      if v4 = 0 then
        self 1 q4.2
      else
        self 0 q4.2
noncomputable def t_X9_cond_L32 (F : Nat) (k65 : Int32 → Tw → Option (Int32 × Tw)) (c1 : Int32) (c3 : Int32) (n : Nat) : Int32 → Tw → Option (Int32 × Tw) := Nat.rec (motive := fun _ => Int32 → Tw → Option (Int32 × Tw)) (fun _ _ => none) (fun _ self => t_X9_cond_L32_b F k65 c1 c3 self) n
set_option maxHeartbeats 4000000 in
theorem ok_t_X9_cond_L32 {g : Gx} {μ0 : Sw} {rv : Int32} {τF : Tw} (F : Nat) (tw : Nat) (μ : Sw) (c1 : Int32) (c3 : Int32) (k65 : Int32 → Tw → Option (Int32 × Tw)) (hk65 : ∀ (w4 : Int32) (τ : Tw), k65 w4 τ = some (rv, τF) → PW g mX9_cond 4 μ0 (mT tw τF μ) (QN g (some (.int rv)) μ0 (mT tw τF μ)) 65 [(0, .ref tw), (1, .int c1), (3, .int c3), (4, .int w4)] [] (mT tw τ μ)) : ∀ (n : Nat) (v4 : Int32) (τ : Tw), t_X9_cond_L32 F k65 c1 c3 n v4 τ = some (rv, τF) → PW g mX9_cond 4 μ0 (mT tw τF μ) (QN g (some (.int rv)) μ0 (mT tw τF μ)) 32 [(0, .ref tw), (1, .int c1), (3, .int c3), (4, .int v4)] [] (mT tw τ μ) := by
  intro n
  induction n with
  | zero =>
    intro v4 τ hf
    have hf : (none : Option (Int32 × Tw)) = some _ := hf
    cases hf
  | succ n ih =>
    intro v4 τ hf
    have hf : t_X9_cond_L32_b F k65 c1 c3 (t_X9_cond_L32 F k65 c1 c3 n) v4 τ = some (rv, τF) := hf
    unfold t_X9_cond_L32_b at hf
    refine P.aload_n 0 (pc' := 33) dX9_cond_32 rfl rfl rfl ?_
    refine P.bipush (v := 10) (pc' := 35) dX9_cond_33 rfl (by decide) ?_
    obtain ⟨q1, h2, hf⟩ := ob hf
    refine P.callV (pc' := 38) (As := [.int 10]) 1 (ok_X9_isWord F 10 tw μ τ h2) (Nat.le_of_ble_eq_true rfl) (lw_V q1854 q1856 qs101 q172 q1857) rfl yok_X9_isWord rfl (Nat.le_of_ble_eq_true rfl) ci9 T_oc (by decide) rfl dX9_cond_35 rfl ?_
    refine P.if_eq (tgt := 65) (pc' := 41) dX9_cond_38 (by decide) rfl (fun y3 => ?_) (fun y3 => ?_)
    · have hf := (if_pos y3).symm.trans hf
      exact PW.sub [0, 1, 2, 3] rfl (hk65 _ _ hf)
    · have hf := (if_neg y3).symm.trans hf
      refine P.aload_n 0 (pc' := 42) dX9_cond_41 rfl rfl rfl ?_
      obtain ⟨q4, h5, hf⟩ := ob hf
      refine P.callV (pc' := 45) (As := []) 0 (ok_X9_pass F tw μ τ h5) (Nat.le_of_ble_eq_true rfl) (lw_V q1818 q1820 qs92 q172 q1821) rfl yok_X9_pass rfl (Nat.le_of_ble_eq_true rfl) ci9 T_oc (by decide) rfl dX9_cond_42 rfl ?_
      refine P.if_ne (tgt := 50) (pc' := 48) dX9_cond_45 (by decide) rfl (fun y6 => ?_) (fun y6 => ?_)
      · have hf := (if_neg y6).symm.trans hf
        refine P.iload 3 (pc' := 52) dX9_cond_50 rfl rfl ?_
        refine P.if_ne (tgt := 59) (pc' := 55) dX9_cond_52 (by decide) rfl (fun y7 => ?_) (fun y7 => ?_)
        · have hf := (if_neg y7).symm.trans hf
          refine P.iconst (v := 0) (pc' := 60) dX9_cond_59 rfl (by decide) ?_
          refine P.istore (pc' := 62) (lv' := [(4, .int 0), (0, .ref tw), (1, .int c1), (3, .int c3)]) dX9_cond_60 rfl (Nat.le_of_ble_eq_true rfl) rfl ?_
          refine P.goto (tgt := 32) dX9_cond_62 (by decide) ?_
          exact PW.sub [1, 2, 3, 0] rfl (ih _ _ hf)
        · have hf := (if_pos y7).symm.trans hf
          refine P.iconst (v := 1) (pc' := 56) dX9_cond_55 rfl (by decide) ?_
          refine P.goto (tgt := 60) dX9_cond_56 (by decide) ?_
          refine P.istore (pc' := 62) (lv' := [(4, .int 1), (0, .ref tw), (1, .int c1), (3, .int c3)]) dX9_cond_60 rfl (Nat.le_of_ble_eq_true rfl) rfl ?_
          refine P.goto (tgt := 32) dX9_cond_62 (by decide) ?_
          exact PW.sub [1, 2, 3, 0] rfl (ih _ _ hf)
      · have hf := (if_pos y6).symm.trans hf
        refine P.iconst (v := 0) (pc' := 49) dX9_cond_48 rfl (by decide) ?_
        cases hf; exact P.zret rfl (Or.inl rfl) dX9_cond_49
noncomputable def t_X9_cond_j244 (F : Nat) (self : Int32 → Int32 → Tw → Option (Int32 × Tw)) (v1 : Int32) (s0 : Int32) (τ : Tw) : Option (Int32 × Tw) :=
  Option.bind (t_X9_isWord F 12 τ) fun q1 =>
  if q1 = 0 then
    if s0 = 0 then
      self v1 s0 τ
    else
      Option.bind (t_X9_pass F τ) fun q5 =>
      if q5.1 = 0 then
        some (0, q5.2)
      else
        self v1 s0 q5.2
  else
    nm (v1 + 1) fun x8 =>
    if s0 = 0 then
      self x8 s0 τ
    else
      Option.bind (t_X9_pass F τ) fun q11 =>
      if q11.1 = 0 then
        some (0, q11.2)
      else
        self x8 s0 q11.2
set_option maxHeartbeats 4000000 in
theorem ok_t_X9_cond_j244 {g : Gx} {μ0 : Sw} {rv : Int32} {τF : Tw} (F : Nat) (tw : Nat) (μ : Sw) (v1 : Int32) (s0 : Int32) (τ : Tw) (self : Int32 → Int32 → Tw → Option (Int32 × Tw)) (ih : ∀ (w1 : Int32) (w2 : Int32) (τ : Tw), self w1 w2 τ = some (rv, τF) → PW g mX9_cond 4 μ0 (mT tw τF μ) (QN g (some (.int rv)) μ0 (mT tw τF μ)) 14 [(0, .ref tw), (1, .int w1), (2, .int w2)] [] (mT tw τ μ)) (hf : t_X9_cond_j244 F self v1 s0 τ = some (rv, τF)) : PW g mX9_cond 4 μ0 (mT tw τF μ) (QN g (some (.int rv)) μ0 (mT tw τF μ)) 244 [(0, .ref tw), (1, .int v1)] [.int s0] (mT tw τ μ) := by
  unfold t_X9_cond_j244 at hf
  refine P.istore_n (pc' := 245) (lv' := [(2, .int s0), (0, .ref tw), (1, .int v1)]) dX9_cond_244 rfl rfl (Nat.le_of_ble_eq_true rfl) rfl ?_
  refine P.aload_n 1 (pc' := 246) dX9_cond_245 rfl rfl rfl ?_
  refine P.bipush (v := 12) (pc' := 248) dX9_cond_246 rfl (by decide) ?_
  obtain ⟨q1, h2, hf⟩ := ob hf
  refine P.callV (pc' := 251) (As := [.int 12]) 1 (ok_X9_isWord F 12 tw μ τ h2) (Nat.le_of_ble_eq_true rfl) (lw_V q1854 q1856 qs101 q172 q1857) rfl yok_X9_isWord rfl (Nat.le_of_ble_eq_true rfl) ci9 T_oc (by decide) rfl dX9_cond_248 rfl ?_
  refine P.if_eq (tgt := 257) (pc' := 254) dX9_cond_251 (by decide) rfl (fun y3 => ?_) (fun y3 => ?_)
  · have hf := (if_pos y3).symm.trans hf
    refine P.iload_n 0 (pc' := 258) dX9_cond_257 rfl rfl rfl ?_
    refine P.if_eq (tgt := 270) (pc' := 261) dX9_cond_258 (by decide) rfl (fun y4 => ?_) (fun y4 => ?_)
    · have hf := (if_pos y4).symm.trans hf
      refine P.goto (tgt := 14) dX9_cond_270 (by decide) ?_
      exact PW.sub [1, 2, 0] rfl (ih _ _ _ hf)
    · have hf := (if_neg y4).symm.trans hf
      refine P.aload_n 1 (pc' := 262) dX9_cond_261 rfl rfl rfl ?_
      obtain ⟨q5, h6, hf⟩ := ob hf
      refine P.callV (pc' := 265) (As := []) 0 (ok_X9_pass F tw μ τ h6) (Nat.le_of_ble_eq_true rfl) (lw_V q1818 q1820 qs92 q172 q1821) rfl yok_X9_pass rfl (Nat.le_of_ble_eq_true rfl) ci9 T_oc (by decide) rfl dX9_cond_262 rfl ?_
      refine P.if_ne (tgt := 270) (pc' := 268) dX9_cond_265 (by decide) rfl (fun y7 => ?_) (fun y7 => ?_)
      · have hf := (if_neg y7).symm.trans hf
        refine P.goto (tgt := 14) dX9_cond_270 (by decide) ?_
        exact PW.sub [1, 2, 0] rfl (ih _ _ _ hf)
      · have hf := (if_pos y7).symm.trans hf
        refine P.iconst (v := 0) (pc' := 269) dX9_cond_268 rfl (by decide) ?_
        cases hf; exact P.zret rfl (Or.inl rfl) dX9_cond_269
  · have hf := (if_neg y3).symm.trans hf
    obtain ⟨x8, e9, hf⟩ := nm_i hf
    refine P.iinc 2 (pc' := 257) (lv' := [(1, .int x8), (2, .int s0), (0, .ref tw)]) dX9_cond_254 rfl rfl (by decide) e9 (Nat.le_of_ble_eq_true rfl) rfl ?_
    refine P.iload_n 1 (pc' := 258) dX9_cond_257 rfl rfl rfl ?_
    refine P.if_eq (tgt := 270) (pc' := 261) dX9_cond_258 (by decide) rfl (fun y10 => ?_) (fun y10 => ?_)
    · have hf := (if_pos y10).symm.trans hf
      refine P.goto (tgt := 14) dX9_cond_270 (by decide) ?_
      exact PW.sub [2, 0, 1] rfl (ih _ _ _ hf)
    · have hf := (if_neg y10).symm.trans hf
      refine P.aload_n 2 (pc' := 262) dX9_cond_261 rfl rfl rfl ?_
      obtain ⟨q11, h12, hf⟩ := ob hf
      refine P.callV (pc' := 265) (As := []) 0 (ok_X9_pass F tw μ τ h12) (Nat.le_of_ble_eq_true rfl) (lw_V q1818 q1820 qs92 q172 q1821) rfl yok_X9_pass rfl (Nat.le_of_ble_eq_true rfl) ci9 T_oc (by decide) rfl dX9_cond_262 rfl ?_
      refine P.if_ne (tgt := 270) (pc' := 268) dX9_cond_265 (by decide) rfl (fun y13 => ?_) (fun y13 => ?_)
      · have hf := (if_neg y13).symm.trans hf
        refine P.goto (tgt := 14) dX9_cond_270 (by decide) ?_
        exact PW.sub [2, 0, 1] rfl (ih _ _ _ hf)
      · have hf := (if_pos y13).symm.trans hf
        refine P.iconst (v := 0) (pc' := 269) dX9_cond_268 rfl (by decide) ?_
        cases hf; exact P.zret rfl (Or.inl rfl) dX9_cond_269
noncomputable def t_X9_cond_j239 (F : Nat) (self : Int32 → Int32 → Tw → Option (Int32 × Tw)) (v1 : Int32) (τ : Tw) : Option (Int32 × Tw) :=
  t_X9_cond_j244 F self v1 1 τ
set_option maxHeartbeats 4000000 in
theorem ok_t_X9_cond_j239 {g : Gx} {μ0 : Sw} {rv : Int32} {τF : Tw} (F : Nat) (tw : Nat) (μ : Sw) (v1 : Int32) (τ : Tw) (self : Int32 → Int32 → Tw → Option (Int32 × Tw)) (ih : ∀ (w1 : Int32) (w2 : Int32) (τ : Tw), self w1 w2 τ = some (rv, τF) → PW g mX9_cond 4 μ0 (mT tw τF μ) (QN g (some (.int rv)) μ0 (mT tw τF μ)) 14 [(0, .ref tw), (1, .int w1), (2, .int w2)] [] (mT tw τ μ)) (hf : t_X9_cond_j239 F self v1 τ = some (rv, τF)) : PW g mX9_cond 4 μ0 (mT tw τF μ) (QN g (some (.int rv)) μ0 (mT tw τF μ)) 239 [(0, .ref tw), (1, .int v1)] [] (mT tw τ μ) := by
  unfold t_X9_cond_j239 at hf
  refine P.iconst (v := 1) (pc' := 240) dX9_cond_239 rfl (by decide) ?_
  refine P.goto (tgt := 244) dX9_cond_240 (by decide) ?_
  exact PW.sub [0, 1] rfl (ok_t_X9_cond_j244 F tw μ v1 1 τ _ ih hf)
noncomputable def t_X9_cond_j140 (F : Nat) (self : Int32 → Int32 → Tw → Option (Int32 × Tw)) (v1 : Int32) (v3 : Int32) (v4 : Int32) (s0 : Int32) (τ : Tw) : Option (Int32 × Tw) :=
  if s0 = 0 then
    Option.bind (t_X9_wrong F 1 τ) fun q30 =>
    if q30.1 = 0 ∨ q30.1 = 1 then
      some (q30.1, q30.2)
    else
      none
  else
    Option.bind (taI τ 4 2001 (τ.1 7)) fun x2 =>
    Option.bind (tsA τ 13 0 400 v3 x2) fun τ5 =>
    Option.bind (t_X9_pass F τ5) fun q6 =>
    if q6.1 = 0 then
      some (0, q6.2)
    else
      Option.bind (t_X9_expr F q6.2) fun q9 =>
      if q9.1 = 0 then
        some (0, q9.2)
      else
        Option.bind (taI q9.2 8 2 1) fun x12 =>
        Option.bind (tsA q9.2 16 0 400 v3 x12) fun τ15 =>
        Option.bind (tsA τ15 12 4 400 v3 v4) fun τ17 =>
        Option.bind (tsA τ17 17 0 400 v3 v1) fun τ19 =>
        Option.bind (taI τ19 11 2 1) fun x20 =>
        Option.bind (tsA τ19 11 0 2 1 (x20 + 1)) fun τ23 =>
        Option.bind (t_X9_isWord F 11 τ23) fun q24 =>
        if q24 = 0 then
          Option.bind (t_X9_isWord F 12 τ23) fun q27 =>
          if q27 = 0 then
            t_X9_cond_j244 F self v1 0 τ23
          else
            t_X9_cond_j239 F self v1 τ23
        else
          t_X9_cond_j239 F self v1 τ23
set_option maxHeartbeats 4000000 in
theorem ok_t_X9_cond_j140 {g : Gx} {μ0 : Sw} {rv : Int32} {τF : Tw} (F : Nat) (tw : Nat) (μ : Sw) (v1 : Int32) (v3 : Int32) (v4 : Int32) (s0 : Int32) (τ : Tw) (self : Int32 → Int32 → Tw → Option (Int32 × Tw)) (ih : ∀ (w1 : Int32) (w2 : Int32) (τ : Tw), self w1 w2 τ = some (rv, τF) → PW g mX9_cond 4 μ0 (mT tw τF μ) (QN g (some (.int rv)) μ0 (mT tw τF μ)) 14 [(0, .ref tw), (1, .int w1), (2, .int w2)] [] (mT tw τ μ)) (hf : t_X9_cond_j140 F self v1 v3 v4 s0 τ = some (rv, τF)) : PW g mX9_cond 4 μ0 (mT tw τF μ) (QN g (some (.int rv)) μ0 (mT tw τF μ)) 140 [(0, .ref tw), (1, .int v1), (3, .int v3), (4, .int v4)] [.int s0] (mT tw τ μ) := by
  unfold t_X9_cond_j140 at hf
  refine P.istore (pc' := 142) (lv' := [(5, .int s0), (0, .ref tw), (1, .int v1), (3, .int v3), (4, .int v4)]) dX9_cond_140 rfl (Nat.le_of_ble_eq_true rfl) rfl ?_
  refine P.iload 0 (pc' := 144) dX9_cond_142 rfl rfl ?_
  refine P.if_ne (tgt := 153) (pc' := 147) dX9_cond_144 (by decide) rfl (fun y1 => ?_) (fun y1 => ?_)
  · have hf := (if_neg y1).symm.trans hf
    refine P.aload_n 1 (pc' := 154) dX9_cond_153 rfl rfl rfl ?_
    refine P.get (v := .ref (tw + 13)) (pc' := 157) ci9 19 (by decide) (T_gf rfl) q1574 (Or.inl rfl) dX9_cond_154 rfl ?_
    refine P.iload_n 3 (pc' := 158) dX9_cond_157 rfl rfl rfl ?_
    refine P.aload_n 1 (pc' := 159) dX9_cond_158 rfl rfl rfl ?_
    refine P.get (v := .ref (tw + 4)) (pc' := 162) ci9 5 (by decide) (T_gf rfl) q1560 (Or.inl rfl) dX9_cond_159 rfl ?_
    refine P.aload_n 1 (pc' := 163) dX9_cond_162 rfl rfl rfl ?_
    refine P.get (v := .int (τ.1 7)) (pc' := 166) ci9 7 (by decide) (T_gf rfl) q1562 (Or.inl rfl) dX9_cond_163 rfl ?_
    obtain ⟨x2, h3, hf⟩ := ob hf
    refine P.iald (t := 0) (pc' := 167) rfl (T_aI rfl h3) dX9_cond_166 rfl ?_
    obtain ⟨τ5, h4, hf⟩ := ob hf
    refine P.iast (pc' := 168) (T_sA rfl (by decide) h4) dX9_cond_167 rfl ?_
    refine P.aload_n 1 (pc' := 169) dX9_cond_168 rfl rfl rfl ?_
    obtain ⟨q6, h7, hf⟩ := ob hf
    refine P.callV (pc' := 172) (As := []) 0 (ok_X9_pass F tw μ τ5 h7) (Nat.le_of_ble_eq_true rfl) (lw_V q1818 q1820 qs92 q172 q1821) rfl yok_X9_pass rfl (Nat.le_of_ble_eq_true rfl) ci9 T_oc (by decide) rfl dX9_cond_169 rfl ?_
    refine P.if_eq (tgt := 182) (pc' := 175) dX9_cond_172 (by decide) rfl (fun y8 => ?_) (fun y8 => ?_)
    · have hf := (if_pos y8).symm.trans hf
      refine P.iconst (v := 0) (pc' := 183) dX9_cond_182 rfl (by decide) ?_
      cases hf; exact P.zret rfl (Or.inl rfl) dX9_cond_183
    · have hf := (if_neg y8).symm.trans hf
      refine P.aload_n 1 (pc' := 176) dX9_cond_175 rfl rfl rfl ?_
      obtain ⟨q9, h10, hf⟩ := ob hf
      refine P.callV (pc' := 179) (As := []) 0 (ok_X9_expr F tw μ q6.2 h10) (Nat.le_of_ble_eq_true rfl) (lw_V q1878 q1880 qs107 q172 q1881) rfl yok_X9_expr rfl (Nat.le_of_ble_eq_true rfl) ci9 T_oc (by decide) rfl dX9_cond_176 rfl ?_
      refine P.if_ne (tgt := 184) (pc' := 182) dX9_cond_179 (by decide) rfl (fun y11 => ?_) (fun y11 => ?_)
      · have hf := (if_neg y11).symm.trans hf
        refine P.aload_n 1 (pc' := 185) dX9_cond_184 rfl rfl rfl ?_
        refine P.get (v := .ref (tw + 16)) (pc' := 188) ci9 22 (by decide) (T_gf rfl) q1577 (Or.inl rfl) dX9_cond_185 rfl ?_
        refine P.iload_n 3 (pc' := 189) dX9_cond_188 rfl rfl rfl ?_
        refine P.aload_n 1 (pc' := 190) dX9_cond_189 rfl rfl rfl ?_
        refine P.get (v := .ref (tw + 8)) (pc' := 193) ci9 14 (by decide) (T_gf rfl) q1569 (Or.inl rfl) dX9_cond_190 rfl ?_
        refine P.iconst (v := 1) (pc' := 194) dX9_cond_193 rfl (by decide) ?_
        obtain ⟨x12, h13, hf⟩ := ob hf
        refine P.iald (t := 0) (pc' := 195) rfl (T_aI rfl h13) dX9_cond_194 rfl ?_
        obtain ⟨τ15, h14, hf⟩ := ob hf
        refine P.iast (pc' := 196) (T_sA rfl (by decide) h14) dX9_cond_195 rfl ?_
        refine P.aload_n 1 (pc' := 197) dX9_cond_196 rfl rfl rfl ?_
        refine P.get (v := .ref (tw + 12)) (pc' := 200) ci9 18 (by decide) (T_gf rfl) q1573 (Or.inl rfl) dX9_cond_197 rfl ?_
        refine P.iload_n 3 (pc' := 201) dX9_cond_200 rfl rfl rfl ?_
        refine P.iload 4 (pc' := 203) dX9_cond_201 rfl rfl ?_
        obtain ⟨τ17, h16, hf⟩ := ob hf
        refine P.zast (pc' := 204) (T_sA rfl (by decide) h16) dX9_cond_203 rfl ?_
        refine P.aload_n 1 (pc' := 205) dX9_cond_204 rfl rfl rfl ?_
        refine P.get (v := .ref (tw + 17)) (pc' := 208) ci9 23 (by decide) (T_gf rfl) q1578 (Or.inl rfl) dX9_cond_205 rfl ?_
        refine P.iload_n 3 (pc' := 209) dX9_cond_208 rfl rfl rfl ?_
        refine P.iload_n 2 (pc' := 210) dX9_cond_209 rfl rfl rfl ?_
        obtain ⟨τ19, h18, hf⟩ := ob hf
        refine P.iast (pc' := 211) (T_sA rfl (by decide) h18) dX9_cond_210 rfl ?_
        refine P.aload_n 1 (pc' := 212) dX9_cond_211 rfl rfl rfl ?_
        refine P.get (v := .ref (tw + 11)) (pc' := 215) ci9 17 (by decide) (T_gf rfl) q1572 (Or.inl rfl) dX9_cond_212 rfl ?_
        refine P.iconst (v := 1) (pc' := 216) dX9_cond_215 rfl (by decide) ?_
        refine P.dup2 (pc' := 217) dX9_cond_216 rfl rfl rfl ?_
        obtain ⟨x20, h21, hf⟩ := ob hf
        refine P.iald (t := 0) (pc' := 218) rfl (T_aI rfl h21) dX9_cond_217 rfl ?_
        refine P.iconst (v := 1) (pc' := 219) dX9_cond_218 rfl (by decide) ?_
        refine P.iadd (pc' := 220) dX9_cond_219 rfl ?_
        obtain ⟨τ23, h22, hf⟩ := ob hf
        refine P.iast (pc' := 221) (T_sA rfl (by decide) h22) dX9_cond_220 rfl ?_
        refine P.aload_n 1 (pc' := 222) dX9_cond_221 rfl rfl rfl ?_
        refine P.bipush (v := 11) (pc' := 224) dX9_cond_222 rfl (by decide) ?_
        obtain ⟨q24, h25, hf⟩ := ob hf
        refine P.callV (pc' := 227) (As := [.int 11]) 1 (ok_X9_isWord F 11 tw μ τ23 h25) (Nat.le_of_ble_eq_true rfl) (lw_V q1854 q1856 qs101 q172 q1857) rfl yok_X9_isWord rfl (Nat.le_of_ble_eq_true rfl) ci9 T_oc (by decide) rfl dX9_cond_224 rfl ?_
        refine P.if_ne (tgt := 239) (pc' := 230) dX9_cond_227 (by decide) rfl (fun y26 => ?_) (fun y26 => ?_)
        · have hf := (if_neg y26).symm.trans hf
          exact PW.sub [1, 2] rfl (ok_t_X9_cond_j239 F tw μ v1 τ23 _ ih hf)
        · have hf := (if_pos y26).symm.trans hf
          refine P.aload_n 1 (pc' := 231) dX9_cond_230 rfl rfl rfl ?_
          refine P.bipush (v := 12) (pc' := 233) dX9_cond_231 rfl (by decide) ?_
          obtain ⟨q27, h28, hf⟩ := ob hf
          refine P.callV (pc' := 236) (As := [.int 12]) 1 (ok_X9_isWord F 12 tw μ τ23 h28) (Nat.le_of_ble_eq_true rfl) (lw_V q1854 q1856 qs101 q172 q1857) rfl yok_X9_isWord rfl (Nat.le_of_ble_eq_true rfl) ci9 T_oc (by decide) rfl dX9_cond_233 rfl ?_
          refine P.if_eq (tgt := 243) (pc' := 239) dX9_cond_236 (by decide) rfl (fun y29 => ?_) (fun y29 => ?_)
          · have hf := (if_pos y29).symm.trans hf
            refine P.iconst (v := 0) (pc' := 244) dX9_cond_243 rfl (by decide) ?_
            exact PW.sub [1, 2] rfl (ok_t_X9_cond_j244 F tw μ v1 0 τ23 _ ih hf)
          · have hf := (if_neg y29).symm.trans hf
            exact PW.sub [1, 2] rfl (ok_t_X9_cond_j239 F tw μ v1 τ23 _ ih hf)
      · have hf := (if_pos y11).symm.trans hf
        refine P.iconst (v := 0) (pc' := 183) dX9_cond_182 rfl (by decide) ?_
        cases hf; exact P.zret rfl (Or.inl rfl) dX9_cond_183
  · have hf := (if_pos y1).symm.trans hf
    refine P.aload_n 1 (pc' := 148) dX9_cond_147 rfl rfl rfl ?_
    refine P.iconst (v := 1) (pc' := 149) dX9_cond_148 rfl (by decide) ?_
    obtain ⟨q30, h31, hf⟩ := ob hf
    refine P.callV (pc' := 152) (As := [.int 1]) 1 (ok_X9_wrong F 1 tw μ τ h31) (Nat.le_of_ble_eq_true rfl) (lw_V q1814 q1816 qs91 q172 q1817) rfl yok_X9_wrong rfl (Nat.le_of_ble_eq_true rfl) ci9 T_oc (by decide) rfl dX9_cond_149 rfl ?_
    by_cases y32 : q30.1 = 0 ∨ q30.1 = 1
    · have hf := (if_pos y32).symm.trans hf
      cases hf; exact P.zret rfl y32 dX9_cond_152
    · have hf := (if_neg y32).symm.trans hf
      cases hf
noncomputable def t_X9_cond_j135 (F : Nat) (self : Int32 → Int32 → Tw → Option (Int32 × Tw)) (v1 : Int32) (v3 : Int32) (v4 : Int32) (τ : Tw) : Option (Int32 × Tw) :=
  t_X9_cond_j140 F self v1 v3 v4 1 τ
set_option maxHeartbeats 4000000 in
theorem ok_t_X9_cond_j135 {g : Gx} {μ0 : Sw} {rv : Int32} {τF : Tw} (F : Nat) (tw : Nat) (μ : Sw) (v1 : Int32) (v3 : Int32) (v4 : Int32) (τ : Tw) (self : Int32 → Int32 → Tw → Option (Int32 × Tw)) (ih : ∀ (w1 : Int32) (w2 : Int32) (τ : Tw), self w1 w2 τ = some (rv, τF) → PW g mX9_cond 4 μ0 (mT tw τF μ) (QN g (some (.int rv)) μ0 (mT tw τF μ)) 14 [(0, .ref tw), (1, .int w1), (2, .int w2)] [] (mT tw τ μ)) (hf : t_X9_cond_j135 F self v1 v3 v4 τ = some (rv, τF)) : PW g mX9_cond 4 μ0 (mT tw τF μ) (QN g (some (.int rv)) μ0 (mT tw τF μ)) 135 [(0, .ref tw), (1, .int v1), (3, .int v3), (4, .int v4)] [] (mT tw τ μ) := by
  unfold t_X9_cond_j135 at hf
  refine P.iconst (v := 1) (pc' := 136) dX9_cond_135 rfl (by decide) ?_
  refine P.goto (tgt := 140) dX9_cond_136 (by decide) ?_
  exact PW.sub [0, 1, 2, 3] rfl (ok_t_X9_cond_j140 F tw μ v1 v3 v4 1 τ _ ih hf)
noncomputable def t_X9_cond_L14_b (F : Nat) (self : Int32 → Int32 → Tw → Option (Int32 × Tw)) (v1 : Int32) (v2 : Int32) (τ : Tw) : Option (Int32 × Tw) :=
  if v2 = 0 then
    some (1, τ)
  else
    Option.bind (taI τ 11 2 1) fun x2 =>
    nm (200 + x2) fun x4 =>
    t_X9_cond_L32 F
      (fun w6 τ7 =>
        Option.bind (t_X9_expr F τ7) fun q8 =>
        if q8.1 = 0 then
          some (0, q8.2)
        else
          Option.bind (tsA q8.2 14 0 400 x4 (q8.2.1 32)) fun τ12 =>
          Option.bind (taI τ12 8 2 1) fun x13 =>
          Option.bind (tsA τ12 15 0 400 x4 x13) fun τ16 =>
          Option.bind (t_X9_isSign F 300 τ16) fun q17 =>
          if q17 = 0 then
            Option.bind (t_X9_isSign F 301 τ16) fun q20 =>
            if q20 = 0 then
              Option.bind (t_X9_isSign F 302 τ16) fun q23 =>
              if q23 = 0 then
                Option.bind (t_X9_isSign F 60 τ16) fun q26 =>
                if q26 = 0 then
                  t_X9_cond_j140 F self v1 x4 w6 0 τ16
                else
                  t_X9_cond_j135 F self v1 x4 w6 τ16
              else
                t_X9_cond_j135 F self v1 x4 w6 τ16
            else
              t_X9_cond_j135 F self v1 x4 w6 τ16
          else
            t_X9_cond_j135 F self v1 x4 w6 τ16)
      v1 x4 F 0 τ
noncomputable def t_X9_cond_L14 (F : Nat) (n : Nat) : Int32 → Int32 → Tw → Option (Int32 × Tw) := Nat.rec (motive := fun _ => Int32 → Int32 → Tw → Option (Int32 × Tw)) (fun _ _ _ => none) (fun _ self => t_X9_cond_L14_b F self) n
set_option maxHeartbeats 4000000 in
theorem ok_t_X9_cond_L14 {g : Gx} {μ0 : Sw} {rv : Int32} {τF : Tw} (F : Nat) (tw : Nat) (μ : Sw) : ∀ (n : Nat) (v1 : Int32) (v2 : Int32) (τ : Tw), t_X9_cond_L14 F n v1 v2 τ = some (rv, τF) → PW g mX9_cond 4 μ0 (mT tw τF μ) (QN g (some (.int rv)) μ0 (mT tw τF μ)) 14 [(0, .ref tw), (1, .int v1), (2, .int v2)] [] (mT tw τ μ) := by
  intro n
  induction n with
  | zero =>
    intro v1 v2 τ hf
    have hf : (none : Option (Int32 × Tw)) = some _ := hf
    cases hf
  | succ n ih =>
    intro v1 v2 τ hf
    have hf : t_X9_cond_L14_b F (t_X9_cond_L14 F n) v1 v2 τ = some (rv, τF) := hf
    unfold t_X9_cond_L14_b at hf
    refine P.iload_n 2 (pc' := 15) dX9_cond_14 rfl rfl rfl ?_
    refine P.if_eq (tgt := 273) (pc' := 18) dX9_cond_15 (by decide) rfl (fun y1 => ?_) (fun y1 => ?_)
    · have hf := (if_pos y1).symm.trans hf
      refine P.iconst (v := 1) (pc' := 274) dX9_cond_273 rfl (by decide) ?_
      cases hf; exact P.zret rfl (Or.inr rfl) dX9_cond_274
    · have hf := (if_neg y1).symm.trans hf
      refine P.sipush (v := 200) (pc' := 21) dX9_cond_18 rfl (by decide) ?_
      refine P.aload_n 0 (pc' := 22) dX9_cond_21 rfl rfl rfl ?_
      refine P.get (v := .ref (tw + 11)) (pc' := 25) ci9 17 (by decide) (T_gf rfl) q1572 (Or.inl rfl) dX9_cond_22 rfl ?_
      refine P.iconst (v := 1) (pc' := 26) dX9_cond_25 rfl (by decide) ?_
      obtain ⟨x2, h3, hf⟩ := ob hf
      refine P.iald (t := 0) (pc' := 27) rfl (T_aI rfl h3) dX9_cond_26 rfl ?_
      refine P.iadd (pc' := 28) dX9_cond_27 rfl ?_
      obtain ⟨x4, e5, hf⟩ := nm_i hf
      refine P.nmi e5 ?_
      refine P.istore_n (pc' := 29) (lv' := [(3, .int x4), (0, .ref tw), (1, .int v1), (2, .int v2)]) dX9_cond_28 rfl rfl (Nat.le_of_ble_eq_true rfl) rfl ?_
      refine P.iconst (v := 0) (pc' := 30) dX9_cond_29 rfl (by decide) ?_
      refine P.istore (pc' := 32) (lv' := [(4, .int 0), (3, .int x4), (0, .ref tw), (1, .int v1), (2, .int v2)]) dX9_cond_30 rfl (Nat.le_of_ble_eq_true rfl) rfl ?_
      refine PW.sub [2, 3, 1, 0] rfl (ok_t_X9_cond_L32 F tw μ v1 x4 _ ?_ F _ _ hf)
      · intro w6 τ7 hf
        refine P.aload_n 0 (pc' := 66) dX9_cond_65 rfl rfl rfl ?_
        obtain ⟨q8, h9, hf⟩ := ob hf
        refine P.callV (pc' := 69) (As := []) 0 (ok_X9_expr F tw μ τ7 h9) (Nat.le_of_ble_eq_true rfl) (lw_V q1878 q1880 qs107 q172 q1881) rfl yok_X9_expr rfl (Nat.le_of_ble_eq_true rfl) ci9 T_oc (by decide) rfl dX9_cond_66 rfl ?_
        refine P.if_ne (tgt := 74) (pc' := 72) dX9_cond_69 (by decide) rfl (fun y10 => ?_) (fun y10 => ?_)
        · have hf := (if_neg y10).symm.trans hf
          refine P.aload_n 0 (pc' := 75) dX9_cond_74 rfl rfl rfl ?_
          refine P.get (v := .ref (tw + 14)) (pc' := 78) ci9 20 (by decide) (T_gf rfl) q1575 (Or.inl rfl) dX9_cond_75 rfl ?_
          refine P.iload_n 2 (pc' := 79) dX9_cond_78 rfl rfl rfl ?_
          refine P.aload_n 0 (pc' := 80) dX9_cond_79 rfl rfl rfl ?_
          refine P.get (v := .int (q8.2.1 32)) (pc' := 83) ci9 32 (by decide) (T_gf rfl) q1587 (Or.inl rfl) dX9_cond_80 rfl ?_
          obtain ⟨τ12, h11, hf⟩ := ob hf
          refine P.iast (pc' := 84) (T_sA rfl (by decide) h11) dX9_cond_83 rfl ?_
          refine P.aload_n 0 (pc' := 85) dX9_cond_84 rfl rfl rfl ?_
          refine P.get (v := .ref (tw + 15)) (pc' := 88) ci9 21 (by decide) (T_gf rfl) q1576 (Or.inl rfl) dX9_cond_85 rfl ?_
          refine P.iload_n 2 (pc' := 89) dX9_cond_88 rfl rfl rfl ?_
          refine P.aload_n 0 (pc' := 90) dX9_cond_89 rfl rfl rfl ?_
          refine P.get (v := .ref (tw + 8)) (pc' := 93) ci9 14 (by decide) (T_gf rfl) q1569 (Or.inl rfl) dX9_cond_90 rfl ?_
          refine P.iconst (v := 1) (pc' := 94) dX9_cond_93 rfl (by decide) ?_
          obtain ⟨x13, h14, hf⟩ := ob hf
          refine P.iald (t := 0) (pc' := 95) rfl (T_aI rfl h14) dX9_cond_94 rfl ?_
          obtain ⟨τ16, h15, hf⟩ := ob hf
          refine P.iast (pc' := 96) (T_sA rfl (by decide) h15) dX9_cond_95 rfl ?_
          refine P.aload_n 0 (pc' := 97) dX9_cond_96 rfl rfl rfl ?_
          refine P.sipush (v := 300) (pc' := 100) dX9_cond_97 rfl (by decide) ?_
          obtain ⟨q17, h18, hf⟩ := ob hf
          refine P.callV (pc' := 103) (As := [.int 300]) 1 (ok_X9_isSign F 300 tw μ τ16 h18) (Nat.le_of_ble_eq_true rfl) (lw_V q1874 q1876 qs106 q172 q1877) rfl yok_X9_isSign rfl (Nat.le_of_ble_eq_true rfl) ci9 T_oc (by decide) rfl dX9_cond_100 rfl ?_
          refine P.if_ne (tgt := 135) (pc' := 106) dX9_cond_103 (by decide) rfl (fun y19 => ?_) (fun y19 => ?_)
          · have hf := (if_neg y19).symm.trans hf
            exact PW.sub [0, 1, 2, 3] rfl (ok_t_X9_cond_j135 F tw μ v1 x4 w6 τ16 _ ih hf)
          · have hf := (if_pos y19).symm.trans hf
            refine P.aload_n 0 (pc' := 107) dX9_cond_106 rfl rfl rfl ?_
            refine P.sipush (v := 301) (pc' := 110) dX9_cond_107 rfl (by decide) ?_
            obtain ⟨q20, h21, hf⟩ := ob hf
            refine P.callV (pc' := 113) (As := [.int 301]) 1 (ok_X9_isSign F 301 tw μ τ16 h21) (Nat.le_of_ble_eq_true rfl) (lw_V q1874 q1876 qs106 q172 q1877) rfl yok_X9_isSign rfl (Nat.le_of_ble_eq_true rfl) ci9 T_oc (by decide) rfl dX9_cond_110 rfl ?_
            refine P.if_ne (tgt := 135) (pc' := 116) dX9_cond_113 (by decide) rfl (fun y22 => ?_) (fun y22 => ?_)
            · have hf := (if_neg y22).symm.trans hf
              exact PW.sub [0, 1, 2, 3] rfl (ok_t_X9_cond_j135 F tw μ v1 x4 w6 τ16 _ ih hf)
            · have hf := (if_pos y22).symm.trans hf
              refine P.aload_n 0 (pc' := 117) dX9_cond_116 rfl rfl rfl ?_
              refine P.sipush (v := 302) (pc' := 120) dX9_cond_117 rfl (by decide) ?_
              obtain ⟨q23, h24, hf⟩ := ob hf
              refine P.callV (pc' := 123) (As := [.int 302]) 1 (ok_X9_isSign F 302 tw μ τ16 h24) (Nat.le_of_ble_eq_true rfl) (lw_V q1874 q1876 qs106 q172 q1877) rfl yok_X9_isSign rfl (Nat.le_of_ble_eq_true rfl) ci9 T_oc (by decide) rfl dX9_cond_120 rfl ?_
              refine P.if_ne (tgt := 135) (pc' := 126) dX9_cond_123 (by decide) rfl (fun y25 => ?_) (fun y25 => ?_)
              · have hf := (if_neg y25).symm.trans hf
                exact PW.sub [0, 1, 2, 3] rfl (ok_t_X9_cond_j135 F tw μ v1 x4 w6 τ16 _ ih hf)
              · have hf := (if_pos y25).symm.trans hf
                refine P.aload_n 0 (pc' := 127) dX9_cond_126 rfl rfl rfl ?_
                refine P.bipush (v := 60) (pc' := 129) dX9_cond_127 rfl (by decide) ?_
                obtain ⟨q26, h27, hf⟩ := ob hf
                refine P.callV (pc' := 132) (As := [.int 60]) 1 (ok_X9_isSign F 60 tw μ τ16 h27) (Nat.le_of_ble_eq_true rfl) (lw_V q1874 q1876 qs106 q172 q1877) rfl yok_X9_isSign rfl (Nat.le_of_ble_eq_true rfl) ci9 T_oc (by decide) rfl dX9_cond_129 rfl ?_
                refine P.if_eq (tgt := 139) (pc' := 135) dX9_cond_132 (by decide) rfl (fun y28 => ?_) (fun y28 => ?_)
                · have hf := (if_pos y28).symm.trans hf
                  refine P.iconst (v := 0) (pc' := 140) dX9_cond_139 rfl (by decide) ?_
                  exact PW.sub [0, 1, 2, 3] rfl (ok_t_X9_cond_j140 F tw μ v1 x4 w6 0 τ16 _ ih hf)
                · have hf := (if_neg y28).symm.trans hf
                  exact PW.sub [0, 1, 2, 3] rfl (ok_t_X9_cond_j135 F tw μ v1 x4 w6 τ16 _ ih hf)
        · have hf := (if_pos y10).symm.trans hf
          refine P.iconst (v := 0) (pc' := 73) dX9_cond_72 rfl (by decide) ?_
          cases hf; exact P.zret rfl (Or.inl rfl) dX9_cond_73
noncomputable def t_X9_cond (F : Nat) (τ : Tw) : Option (Int32 × Tw) :=
  Option.bind (taI τ 11 2 1) fun x1 =>
  nm (tsI τ 33 x1) fun τ3 =>
  t_X9_cond_L14 F F 0 1 τ3
set_option maxHeartbeats 4000000 in
theorem ok_X9_cond {g : Gx} (F : Nat) (tw : Nat) (μ : Sw) (τ : Tw) {rv : Int32} {τF : Tw} (hf : t_X9_cond F τ = some (rv, τF)) : Cl g 4 yX9_cond cX9_cond 6 (some Jvm.ClassFile.FieldType.boolean) [.ref tw] (mT tw τ μ) (some (.int rv)) (mT tw τF μ) := by
  unfold t_X9_cond at hf
  refine Cl.of (own := RX9) (ini := false) (by decide +kernel) rfl (by decide) (Nat.le_of_ble_eq_true rfl) ?_
  show PW g mX9_cond 4 (mT tw τ μ) (mT tw τF μ) (QN g (some (.int rv)) (mT tw τ μ) (mT tw τF μ)) 0 [(0, .ref tw)] [] (mT tw τ μ)
  refine P.aload_n 0 (pc' := 1) dX9_cond_0 rfl rfl rfl ?_
  refine P.aload_n 0 (pc' := 2) dX9_cond_1 rfl rfl rfl ?_
  refine P.get (v := .ref (tw + 11)) (pc' := 5) ci9 17 (by decide) (T_gf rfl) q1572 (Or.inl rfl) dX9_cond_2 rfl ?_
  refine P.iconst (v := 1) (pc' := 6) dX9_cond_5 rfl (by decide) ?_
  obtain ⟨x1, h2, hf⟩ := ob hf
  refine P.iald (t := 0) (pc' := 7) rfl (T_aI rfl h2) dX9_cond_6 rfl ?_
  obtain ⟨τ3, e4, hf⟩ := nm_i hf
  refine P.put (v := .int x1) (pc' := 10) ci9 33 (by decide) (T_put rfl (by decide) e4) q1588 (Or.inl rfl) rfl rfl rfl dX9_cond_7 rfl ?_
  refine P.iconst (v := 0) (pc' := 11) dX9_cond_10 rfl (by decide) ?_
  refine P.istore_n (pc' := 12) (lv' := [(1, .int 0), (0, .ref tw)]) dX9_cond_11 rfl rfl (Nat.le_of_ble_eq_true rfl) rfl ?_
  refine P.iconst (v := 1) (pc' := 13) dX9_cond_12 rfl (by decide) ?_
  refine P.istore_n (pc' := 14) (lv' := [(2, .int 1), (1, .int 0), (0, .ref tw)]) dX9_cond_13 rfl rfl (Nat.le_of_ble_eq_true rfl) rfl ?_
  exact PW.sub [2, 1, 0] rfl (ok_t_X9_cond_L14 F tw μ F _ _ _ hf)
theorem yok_X9_cond : yOK yX9_cond 0 := ⟨by decide +kernel, by decide +kernel, by decide +kernel⟩
theorem yok_X9_next : yOK yX9_next 4 := ⟨by decide +kernel, by decide +kernel, by decide +kernel⟩
abbrev mX9_tellRule : Ym := (RX9, cX9_tellRule, 4, (some Jvm.ClassFile.FieldType.boolean), false, [])
noncomputable def t_X9_tellRule (F : Nat) (p1 : Int32) (p2 : Int32) (τ : Tw) : Option (Int32 × Tw) :=
  Option.bind (t_X9_next F p1 4 p2 2 τ) fun q1 =>
  if 0 ≤ q1.1 then
    Option.bind (t_X9_pass F q1.2) fun q4 =>
    if q4.1 = 0 then
      some (0, q4.2)
    else
      Option.bind (t_X9_isWord F 8 q4.2) fun q7 =>
      if q7 = 0 then
        Option.bind (t_X9_wrong F 1 q4.2) fun q22 =>
        if q22.1 = 0 ∨ q22.1 = 1 then
          some (q22.1, q22.2)
        else
          none
      else
        Option.bind (t_X9_pass F q4.2) fun q10 =>
        if q10.1 = 0 then
          some (0, q10.2)
        else
          Option.bind (t_X9_cond F q10.2) fun q13 =>
          if q13.1 = 0 then
            some (0, q13.2)
          else
            Option.bind (t_X9_tell F q1.1 (q13.2.1 33) q13.2) fun q16 =>
            Option.bind (taI q16 11 2 1) fun x18 =>
            Option.bind (t_X9_tell F (q1.1 + 1) x18 q16) fun q20 =>
            some (1, q20)
  else
    Option.bind (t_X9_wrong F 2 q1.2) fun q25 =>
    if q25.1 = 0 ∨ q25.1 = 1 then
      some (q25.1, q25.2)
    else
      none
set_option maxHeartbeats 4000000 in
theorem ok_X9_tellRule {g : Gx} (F : Nat) (p1 : Int32) (p2 : Int32) (tw : Nat) (μ : Sw) (τ : Tw) {rv : Int32} {τF : Tw} (hf : t_X9_tellRule F p1 p2 τ = some (rv, τF)) : Cl g 5 yX9_tellRule cX9_tellRule 4 (some Jvm.ClassFile.FieldType.boolean) [.ref tw, .int p1, .int p2] (mT tw τ μ) (some (.int rv)) (mT tw τF μ) := by
  unfold t_X9_tellRule at hf
  refine Cl.of (own := RX9) (ini := false) (by decide +kernel) rfl (by decide) (Nat.le_of_ble_eq_true rfl) ?_
  show PW g mX9_tellRule 5 (mT tw τ μ) (mT tw τF μ) (QN g (some (.int rv)) (mT tw τ μ) (mT tw τF μ)) 0 [(0, .ref tw), (1, .int p1), (2, .int p2)] [] (mT tw τ μ)
  refine P.aload_n 0 (pc' := 1) dX9_tellRule_0 rfl rfl rfl ?_
  refine P.iload_n 1 (pc' := 2) dX9_tellRule_1 rfl rfl rfl ?_
  refine P.iconst (v := 4) (pc' := 3) dX9_tellRule_2 rfl (by decide) ?_
  refine P.iload_n 2 (pc' := 4) dX9_tellRule_3 rfl rfl rfl ?_
  refine P.iconst (v := 2) (pc' := 5) dX9_tellRule_4 rfl (by decide) ?_
  obtain ⟨q1, h2, hf⟩ := ob hf
  refine P.callV (pc' := 8) (As := [.int p1, .int 4, .int p2, .int 2]) 4 (ok_X9_next F p1 4 p2 2 tw μ τ h2) (Nat.le_of_ble_eq_true rfl) (lw_V q1806 q1808 qs89 q172 q1809) rfl yok_X9_next rfl (Nat.le_of_ble_eq_true rfl) ci9 T_oc (by decide) rfl dX9_tellRule_5 rfl ?_
  refine P.istore_n (pc' := 9) (lv' := [(3, .int q1.1), (0, .ref tw), (1, .int p1), (2, .int p2)]) dX9_tellRule_8 rfl rfl (Nat.le_of_ble_eq_true rfl) rfl ?_
  refine P.iload_n 0 (pc' := 10) dX9_tellRule_9 rfl rfl rfl ?_
  refine P.if_ge (tgt := 19) (pc' := 13) dX9_tellRule_10 (by decide) rfl (fun y3 => ?_) (fun y3 => ?_)
  · have hf := (if_pos y3).symm.trans hf
    refine P.aload_n 1 (pc' := 20) dX9_tellRule_19 rfl rfl rfl ?_
    obtain ⟨q4, h5, hf⟩ := ob hf
    refine P.callV (pc' := 23) (As := []) 0 (ok_X9_pass F tw μ q1.2 h5) (Nat.le_of_ble_eq_true rfl) (lw_V q1818 q1820 qs92 q172 q1821) rfl yok_X9_pass rfl (Nat.le_of_ble_eq_true rfl) ci9 T_oc (by decide) rfl dX9_tellRule_20 rfl ?_
    refine P.if_ne (tgt := 28) (pc' := 26) dX9_tellRule_23 (by decide) rfl (fun y6 => ?_) (fun y6 => ?_)
    · have hf := (if_neg y6).symm.trans hf
      refine P.aload_n 1 (pc' := 29) dX9_tellRule_28 rfl rfl rfl ?_
      refine P.bipush (v := 8) (pc' := 31) dX9_tellRule_29 rfl (by decide) ?_
      obtain ⟨q7, h8, hf⟩ := ob hf
      refine P.callV (pc' := 34) (As := [.int 8]) 1 (ok_X9_isWord F 8 tw μ q4.2 h8) (Nat.le_of_ble_eq_true rfl) (lw_V q1854 q1856 qs101 q172 q1857) rfl yok_X9_isWord rfl (Nat.le_of_ble_eq_true rfl) ci9 T_oc (by decide) rfl dX9_tellRule_31 rfl ?_
      refine P.if_ne (tgt := 43) (pc' := 37) dX9_tellRule_34 (by decide) rfl (fun y9 => ?_) (fun y9 => ?_)
      · have hf := (if_neg y9).symm.trans hf
        refine P.aload_n 1 (pc' := 44) dX9_tellRule_43 rfl rfl rfl ?_
        obtain ⟨q10, h11, hf⟩ := ob hf
        refine P.callV (pc' := 47) (As := []) 0 (ok_X9_pass F tw μ q4.2 h11) (Nat.le_of_ble_eq_true rfl) (lw_V q1818 q1820 qs92 q172 q1821) rfl yok_X9_pass rfl (Nat.le_of_ble_eq_true rfl) ci9 T_oc (by decide) rfl dX9_tellRule_44 rfl ?_
        refine P.if_eq (tgt := 57) (pc' := 50) dX9_tellRule_47 (by decide) rfl (fun y12 => ?_) (fun y12 => ?_)
        · have hf := (if_pos y12).symm.trans hf
          refine P.iconst (v := 0) (pc' := 58) dX9_tellRule_57 rfl (by decide) ?_
          cases hf; exact P.zret rfl (Or.inl rfl) dX9_tellRule_58
        · have hf := (if_neg y12).symm.trans hf
          refine P.aload_n 1 (pc' := 51) dX9_tellRule_50 rfl rfl rfl ?_
          obtain ⟨q13, h14, hf⟩ := ob hf
          refine P.callV (pc' := 54) (As := []) 0 (ok_X9_cond F tw μ q10.2 h14) (Nat.le_of_ble_eq_true rfl) (lw_V q1904 q1906 qs112 q172 q1907) rfl yok_X9_cond rfl (Nat.le_of_ble_eq_true rfl) ci9 T_oc (by decide) rfl dX9_tellRule_51 rfl ?_
          refine P.if_ne (tgt := 59) (pc' := 57) dX9_tellRule_54 (by decide) rfl (fun y15 => ?_) (fun y15 => ?_)
          · have hf := (if_neg y15).symm.trans hf
            refine P.aload_n 1 (pc' := 60) dX9_tellRule_59 rfl rfl rfl ?_
            refine P.iload_n 0 (pc' := 61) dX9_tellRule_60 rfl rfl rfl ?_
            refine P.aload_n 1 (pc' := 62) dX9_tellRule_61 rfl rfl rfl ?_
            refine P.get (v := .int (q13.2.1 33)) (pc' := 65) ci9 33 (by decide) (T_gf rfl) q1588 (Or.inl rfl) dX9_tellRule_62 rfl ?_
            obtain ⟨q16, h17, hf⟩ := ob hf
            refine P.callV (pc' := 68) (As := [.int q1.1, .int (q13.2.1 33)]) 2 (ok_X9_tell F q1.1 (q13.2.1 33) tw μ q13.2 h17) (Nat.le_of_ble_eq_true rfl) (lw_V q1810 q1812 qs90 q172 q1813) rfl yok_X9_tell rfl (Nat.le_of_ble_eq_true rfl) ci9 T_oc (by decide) rfl dX9_tellRule_65 rfl ?_
            refine P.aload_n 1 (pc' := 69) dX9_tellRule_68 rfl rfl rfl ?_
            refine P.iload_n 0 (pc' := 70) dX9_tellRule_69 rfl rfl rfl ?_
            refine P.iconst (v := 1) (pc' := 71) dX9_tellRule_70 rfl (by decide) ?_
            refine P.iadd (pc' := 72) dX9_tellRule_71 rfl ?_
            refine P.aload_n 1 (pc' := 73) dX9_tellRule_72 rfl rfl rfl ?_
            refine P.get (v := .ref (tw + 11)) (pc' := 76) ci9 17 (by decide) (T_gf rfl) q1572 (Or.inl rfl) dX9_tellRule_73 rfl ?_
            refine P.iconst (v := 1) (pc' := 77) dX9_tellRule_76 rfl (by decide) ?_
            obtain ⟨x18, h19, hf⟩ := ob hf
            refine P.iald (t := 0) (pc' := 78) rfl (T_aI rfl h19) dX9_tellRule_77 rfl ?_
            obtain ⟨q20, h21, hf⟩ := ob hf
            refine P.callV (pc' := 81) (As := [.int (q1.1 + 1), .int x18]) 2 (ok_X9_tell F (q1.1 + 1) x18 tw μ q16 h21) (Nat.le_of_ble_eq_true rfl) (lw_V q1810 q1812 qs90 q172 q1813) rfl yok_X9_tell rfl (Nat.le_of_ble_eq_true rfl) ci9 T_oc (by decide) rfl dX9_tellRule_78 rfl ?_
            refine P.iconst (v := 1) (pc' := 82) dX9_tellRule_81 rfl (by decide) ?_
            cases hf; exact P.zret rfl (Or.inr rfl) dX9_tellRule_82
          · have hf := (if_pos y15).symm.trans hf
            refine P.iconst (v := 0) (pc' := 58) dX9_tellRule_57 rfl (by decide) ?_
            cases hf; exact P.zret rfl (Or.inl rfl) dX9_tellRule_58
      · have hf := (if_pos y9).symm.trans hf
        refine P.aload_n 1 (pc' := 38) dX9_tellRule_37 rfl rfl rfl ?_
        refine P.iconst (v := 1) (pc' := 39) dX9_tellRule_38 rfl (by decide) ?_
        obtain ⟨q22, h23, hf⟩ := ob hf
        refine P.callV (pc' := 42) (As := [.int 1]) 1 (ok_X9_wrong F 1 tw μ q4.2 h23) (Nat.le_of_ble_eq_true rfl) (lw_V q1814 q1816 qs91 q172 q1817) rfl yok_X9_wrong rfl (Nat.le_of_ble_eq_true rfl) ci9 T_oc (by decide) rfl dX9_tellRule_39 rfl ?_
        by_cases y24 : q22.1 = 0 ∨ q22.1 = 1
        · have hf := (if_pos y24).symm.trans hf
          cases hf; exact P.zret rfl y24 dX9_tellRule_42
        · have hf := (if_neg y24).symm.trans hf
          cases hf
    · have hf := (if_pos y6).symm.trans hf
      refine P.iconst (v := 0) (pc' := 27) dX9_tellRule_26 rfl (by decide) ?_
      cases hf; exact P.zret rfl (Or.inl rfl) dX9_tellRule_27
  · have hf := (if_neg y3).symm.trans hf
    refine P.aload_n 1 (pc' := 14) dX9_tellRule_13 rfl rfl rfl ?_
    refine P.iconst (v := 2) (pc' := 15) dX9_tellRule_14 rfl (by decide) ?_
    obtain ⟨q25, h26, hf⟩ := ob hf
    refine P.callV (pc' := 18) (As := [.int 2]) 1 (ok_X9_wrong F 2 tw μ q1.2 h26) (Nat.le_of_ble_eq_true rfl) (lw_V q1814 q1816 qs91 q172 q1817) rfl yok_X9_wrong rfl (Nat.le_of_ble_eq_true rfl) ci9 T_oc (by decide) rfl dX9_tellRule_15 rfl ?_
    by_cases y27 : q25.1 = 0 ∨ q25.1 = 1
    · have hf := (if_pos y27).symm.trans hf
      cases hf; exact P.zret rfl y27 dX9_tellRule_18
    · have hf := (if_neg y27).symm.trans hf
      cases hf
abbrev mX9_tellLaw : Ym := (RX9, cX9_tellLaw, 2, (some Jvm.ClassFile.FieldType.boolean), false, [])
noncomputable def t_X9_tellLaw (F : Nat) (p1 : Int32) (τ : Tw) : Option (Int32 × Tw) :=
  Option.bind (t_X9_pass F τ) fun q1 =>
  if q1.1 = 0 then
    some (0, q1.2)
  else
    Option.bind (t_X9_isSign F 61 q1.2) fun q4 =>
    if q4 = 0 then
      Option.bind (t_X9_wrong F 1 q1.2) fun q19 =>
      if q19.1 = 0 ∨ q19.1 = 1 then
        some (q19.1, q19.2)
      else
        none
    else
      Option.bind (t_X9_pass F q1.2) fun q7 =>
      if q7.1 = 0 then
        some (0, q7.2)
      else
        Option.bind (t_X9_expr F q7.2) fun q10 =>
        if q10.1 = 0 then
          some (0, q10.2)
        else
          Option.bind (t_X9_tell F (10 + (2 * p1)) (q10.2.1 32) q10.2) fun q13 =>
          Option.bind (taI q13 8 2 1) fun x15 =>
          Option.bind (t_X9_tell F ((10 + (2 * p1)) + 1) x15 q13) fun q17 =>
          some (1, q17)
set_option maxHeartbeats 4000000 in
theorem ok_X9_tellLaw {g : Gx} (F : Nat) (p1 : Int32) (tw : Nat) (μ : Sw) (τ : Tw) {rv : Int32} {τF : Tw} (hf : t_X9_tellLaw F p1 τ = some (rv, τF)) : Cl g 4 yX9_tellLaw cX9_tellLaw 2 (some Jvm.ClassFile.FieldType.boolean) [.ref tw, .int p1] (mT tw τ μ) (some (.int rv)) (mT tw τF μ) := by
  unfold t_X9_tellLaw at hf
  refine Cl.of (own := RX9) (ini := false) (by decide +kernel) rfl (by decide) (Nat.le_of_ble_eq_true rfl) ?_
  show PW g mX9_tellLaw 4 (mT tw τ μ) (mT tw τF μ) (QN g (some (.int rv)) (mT tw τ μ) (mT tw τF μ)) 0 [(0, .ref tw), (1, .int p1)] [] (mT tw τ μ)
  refine P.aload_n 0 (pc' := 1) dX9_tellLaw_0 rfl rfl rfl ?_
  obtain ⟨q1, h2, hf⟩ := ob hf
  refine P.callV (pc' := 4) (As := []) 0 (ok_X9_pass F tw μ τ h2) (Nat.le_of_ble_eq_true rfl) (lw_V q1818 q1820 qs92 q172 q1821) rfl yok_X9_pass rfl (Nat.le_of_ble_eq_true rfl) ci9 T_oc (by decide) rfl dX9_tellLaw_1 rfl ?_
  refine P.if_ne (tgt := 9) (pc' := 7) dX9_tellLaw_4 (by decide) rfl (fun y3 => ?_) (fun y3 => ?_)
  · have hf := (if_neg y3).symm.trans hf
    refine P.aload_n 0 (pc' := 10) dX9_tellLaw_9 rfl rfl rfl ?_
    refine P.bipush (v := 61) (pc' := 12) dX9_tellLaw_10 rfl (by decide) ?_
    obtain ⟨q4, h5, hf⟩ := ob hf
    refine P.callV (pc' := 15) (As := [.int 61]) 1 (ok_X9_isSign F 61 tw μ q1.2 h5) (Nat.le_of_ble_eq_true rfl) (lw_V q1874 q1876 qs106 q172 q1877) rfl yok_X9_isSign rfl (Nat.le_of_ble_eq_true rfl) ci9 T_oc (by decide) rfl dX9_tellLaw_12 rfl ?_
    refine P.if_ne (tgt := 24) (pc' := 18) dX9_tellLaw_15 (by decide) rfl (fun y6 => ?_) (fun y6 => ?_)
    · have hf := (if_neg y6).symm.trans hf
      refine P.aload_n 0 (pc' := 25) dX9_tellLaw_24 rfl rfl rfl ?_
      obtain ⟨q7, h8, hf⟩ := ob hf
      refine P.callV (pc' := 28) (As := []) 0 (ok_X9_pass F tw μ q1.2 h8) (Nat.le_of_ble_eq_true rfl) (lw_V q1818 q1820 qs92 q172 q1821) rfl yok_X9_pass rfl (Nat.le_of_ble_eq_true rfl) ci9 T_oc (by decide) rfl dX9_tellLaw_25 rfl ?_
      refine P.if_eq (tgt := 38) (pc' := 31) dX9_tellLaw_28 (by decide) rfl (fun y9 => ?_) (fun y9 => ?_)
      · have hf := (if_pos y9).symm.trans hf
        refine P.iconst (v := 0) (pc' := 39) dX9_tellLaw_38 rfl (by decide) ?_
        cases hf; exact P.zret rfl (Or.inl rfl) dX9_tellLaw_39
      · have hf := (if_neg y9).symm.trans hf
        refine P.aload_n 0 (pc' := 32) dX9_tellLaw_31 rfl rfl rfl ?_
        obtain ⟨q10, h11, hf⟩ := ob hf
        refine P.callV (pc' := 35) (As := []) 0 (ok_X9_expr F tw μ q7.2 h11) (Nat.le_of_ble_eq_true rfl) (lw_V q1878 q1880 qs107 q172 q1881) rfl yok_X9_expr rfl (Nat.le_of_ble_eq_true rfl) ci9 T_oc (by decide) rfl dX9_tellLaw_32 rfl ?_
        refine P.if_ne (tgt := 40) (pc' := 38) dX9_tellLaw_35 (by decide) rfl (fun y12 => ?_) (fun y12 => ?_)
        · have hf := (if_neg y12).symm.trans hf
          refine P.aload_n 0 (pc' := 41) dX9_tellLaw_40 rfl rfl rfl ?_
          refine P.bipush (v := 10) (pc' := 43) dX9_tellLaw_41 rfl (by decide) ?_
          refine P.iconst (v := 2) (pc' := 44) dX9_tellLaw_43 rfl (by decide) ?_
          refine P.iload_n 1 (pc' := 45) dX9_tellLaw_44 rfl rfl rfl ?_
          refine P.imul (pc' := 46) dX9_tellLaw_45 rfl ?_
          refine P.iadd (pc' := 47) dX9_tellLaw_46 rfl ?_
          refine P.aload_n 0 (pc' := 48) dX9_tellLaw_47 rfl rfl rfl ?_
          refine P.get (v := .int (q10.2.1 32)) (pc' := 51) ci9 32 (by decide) (T_gf rfl) q1587 (Or.inl rfl) dX9_tellLaw_48 rfl ?_
          obtain ⟨q13, h14, hf⟩ := ob hf
          refine P.callV (pc' := 54) (As := [.int (10 + (2 * p1)), .int (q10.2.1 32)]) 2 (ok_X9_tell F (10 + (2 * p1)) (q10.2.1 32) tw μ q10.2 h14) (Nat.le_of_ble_eq_true rfl) (lw_V q1810 q1812 qs90 q172 q1813) rfl yok_X9_tell rfl (Nat.le_of_ble_eq_true rfl) ci9 T_oc (by decide) rfl dX9_tellLaw_51 rfl ?_
          refine P.aload_n 0 (pc' := 55) dX9_tellLaw_54 rfl rfl rfl ?_
          refine P.bipush (v := 10) (pc' := 57) dX9_tellLaw_55 rfl (by decide) ?_
          refine P.iconst (v := 2) (pc' := 58) dX9_tellLaw_57 rfl (by decide) ?_
          refine P.iload_n 1 (pc' := 59) dX9_tellLaw_58 rfl rfl rfl ?_
          refine P.imul (pc' := 60) dX9_tellLaw_59 rfl ?_
          refine P.iadd (pc' := 61) dX9_tellLaw_60 rfl ?_
          refine P.iconst (v := 1) (pc' := 62) dX9_tellLaw_61 rfl (by decide) ?_
          refine P.iadd (pc' := 63) dX9_tellLaw_62 rfl ?_
          refine P.aload_n 0 (pc' := 64) dX9_tellLaw_63 rfl rfl rfl ?_
          refine P.get (v := .ref (tw + 8)) (pc' := 67) ci9 14 (by decide) (T_gf rfl) q1569 (Or.inl rfl) dX9_tellLaw_64 rfl ?_
          refine P.iconst (v := 1) (pc' := 68) dX9_tellLaw_67 rfl (by decide) ?_
          obtain ⟨x15, h16, hf⟩ := ob hf
          refine P.iald (t := 0) (pc' := 69) rfl (T_aI rfl h16) dX9_tellLaw_68 rfl ?_
          obtain ⟨q17, h18, hf⟩ := ob hf
          refine P.callV (pc' := 72) (As := [.int ((10 + (2 * p1)) + 1), .int x15]) 2 (ok_X9_tell F ((10 + (2 * p1)) + 1) x15 tw μ q13 h18) (Nat.le_of_ble_eq_true rfl) (lw_V q1810 q1812 qs90 q172 q1813) rfl yok_X9_tell rfl (Nat.le_of_ble_eq_true rfl) ci9 T_oc (by decide) rfl dX9_tellLaw_69 rfl ?_
          refine P.iconst (v := 1) (pc' := 73) dX9_tellLaw_72 rfl (by decide) ?_
          cases hf; exact P.zret rfl (Or.inr rfl) dX9_tellLaw_73
        · have hf := (if_pos y12).symm.trans hf
          refine P.iconst (v := 0) (pc' := 39) dX9_tellLaw_38 rfl (by decide) ?_
          cases hf; exact P.zret rfl (Or.inl rfl) dX9_tellLaw_39
    · have hf := (if_pos y6).symm.trans hf
      refine P.aload_n 0 (pc' := 19) dX9_tellLaw_18 rfl rfl rfl ?_
      refine P.iconst (v := 1) (pc' := 20) dX9_tellLaw_19 rfl (by decide) ?_
      obtain ⟨q19, h20, hf⟩ := ob hf
      refine P.callV (pc' := 23) (As := [.int 1]) 1 (ok_X9_wrong F 1 tw μ q1.2 h20) (Nat.le_of_ble_eq_true rfl) (lw_V q1814 q1816 qs91 q172 q1817) rfl yok_X9_wrong rfl (Nat.le_of_ble_eq_true rfl) ci9 T_oc (by decide) rfl dX9_tellLaw_20 rfl ?_
      by_cases y21 : q19.1 = 0 ∨ q19.1 = 1
      · have hf := (if_pos y21).symm.trans hf
        cases hf; exact P.zret rfl y21 dX9_tellLaw_23
      · have hf := (if_neg y21).symm.trans hf
        cases hf
  · have hf := (if_pos y3).symm.trans hf
    refine P.iconst (v := 0) (pc' := 8) dX9_tellLaw_7 rfl (by decide) ?_
    cases hf; exact P.zret rfl (Or.inl rfl) dX9_tellLaw_8
abbrev mX9_takes : Ym := (RX9, cX9_takes, 2, (some Jvm.ClassFile.FieldType.boolean), false, [])
noncomputable def t_X9_takes (F : Nat) (p1 : Int32) (τ : Tw) : Option (Int32 × Tw) :=
  Option.bind (taI τ 2 2001 (τ.1 7)) fun x1 =>
  if x1 = p1 then
    Option.bind (t_X9_pass F τ) fun q7 =>
    if q7.1 = 0 ∨ q7.1 = 1 then
      some (q7.1, q7.2)
    else
      none
  else
    Option.bind (t_X9_wrong F 1 τ) fun q4 =>
    if q4.1 = 0 ∨ q4.1 = 1 then
      some (q4.1, q4.2)
    else
      none
set_option maxHeartbeats 4000000 in
theorem ok_X9_takes {g : Gx} (F : Nat) (p1 : Int32) (tw : Nat) (μ : Sw) (τ : Tw) {rv : Int32} {τF : Tw} (hf : t_X9_takes F p1 τ = some (rv, τF)) : Cl g 3 yX9_takes cX9_takes 2 (some Jvm.ClassFile.FieldType.boolean) [.ref tw, .int p1] (mT tw τ μ) (some (.int rv)) (mT tw τF μ) := by
  unfold t_X9_takes at hf
  refine Cl.of (own := RX9) (ini := false) (by decide +kernel) rfl (by decide) (Nat.le_of_ble_eq_true rfl) ?_
  show PW g mX9_takes 3 (mT tw τ μ) (mT tw τF μ) (QN g (some (.int rv)) (mT tw τ μ) (mT tw τF μ)) 0 [(0, .ref tw), (1, .int p1)] [] (mT tw τ μ)
  refine P.aload_n 0 (pc' := 1) dX9_takes_0 rfl rfl rfl ?_
  refine P.get (v := .ref (tw + 2)) (pc' := 4) ci9 3 (by decide) (T_gf rfl) q1558 (Or.inl rfl) dX9_takes_1 rfl ?_
  refine P.aload_n 0 (pc' := 5) dX9_takes_4 rfl rfl rfl ?_
  refine P.get (v := .int (τ.1 7)) (pc' := 8) ci9 7 (by decide) (T_gf rfl) q1562 (Or.inl rfl) dX9_takes_5 rfl ?_
  obtain ⟨x1, h2, hf⟩ := ob hf
  refine P.iald (t := 0) (pc' := 9) rfl (T_aI rfl h2) dX9_takes_8 rfl ?_
  refine P.iload_n 1 (pc' := 10) dX9_takes_9 rfl rfl rfl ?_
  refine P.icmp_ne (tgt := 20) (pc' := 13) dX9_takes_10 (by decide) rfl (fun y3 => ?_) (fun y3 => ?_)
  · have hf := (if_neg y3).symm.trans hf
    refine P.aload_n 0 (pc' := 21) dX9_takes_20 rfl rfl rfl ?_
    refine P.iconst (v := 1) (pc' := 22) dX9_takes_21 rfl (by decide) ?_
    obtain ⟨q4, h5, hf⟩ := ob hf
    refine P.callV (pc' := 25) (As := [.int 1]) 1 (ok_X9_wrong F 1 tw μ τ h5) (Nat.le_of_ble_eq_true rfl) (lw_V q1814 q1816 qs91 q172 q1817) rfl yok_X9_wrong rfl (Nat.le_of_ble_eq_true rfl) ci9 T_oc (by decide) rfl dX9_takes_22 rfl ?_
    by_cases y6 : q4.1 = 0 ∨ q4.1 = 1
    · have hf := (if_pos y6).symm.trans hf
      cases hf; exact P.zret rfl y6 dX9_takes_25
    · have hf := (if_neg y6).symm.trans hf
      cases hf
  · have hf := (if_pos y3).symm.trans hf
    refine P.aload_n 0 (pc' := 14) dX9_takes_13 rfl rfl rfl ?_
    obtain ⟨q7, h8, hf⟩ := ob hf
    refine P.callV (pc' := 17) (As := []) 0 (ok_X9_pass F tw μ τ h8) (Nat.le_of_ble_eq_true rfl) (lw_V q1818 q1820 qs92 q172 q1821) rfl yok_X9_pass rfl (Nat.le_of_ble_eq_true rfl) ci9 T_oc (by decide) rfl dX9_takes_14 rfl ?_
    refine P.goto (tgt := 25) dX9_takes_17 (by decide) ?_
    by_cases y9 : q7.1 = 0 ∨ q7.1 = 1
    · have hf := (if_pos y9).symm.trans hf
      cases hf; exact P.zret rfl y9 dX9_takes_25
    · have hf := (if_neg y9).symm.trans hf
      cases hf
abbrev mX9_tells : Ym := (RX9, cX9_tells, 4, none, false, [])
noncomputable def t_X9_tells (F : Nat) (p1 : Int32) (p2 : Int32) (τ : Tw) : Option Tw :=
  Option.bind (taI τ 3 2001 p2) fun x1 =>
  if (τ.1 10) = 0 then
    nm (tsI τ 10 p1) fun τ4 =>
    nm (tsI τ4 11 x1) fun τ6 =>
    some τ6
  else
    if (τ.1 11) < x1 then
      some τ
    else
      if x1 = (τ.1 11) then
        if p1 < (τ.1 10) then
          nm (tsI τ 10 p1) fun τ15 =>
          nm (tsI τ15 11 x1) fun τ17 =>
          some τ17
        else
          some τ
      else
        nm (tsI τ 10 p1) fun τ10 =>
        nm (tsI τ10 11 x1) fun τ12 =>
        some τ12
set_option maxHeartbeats 4000000 in
theorem ok_X9_tells {g : Gx} (F : Nat) (p1 : Int32) (p2 : Int32) (tw : Nat) (μ : Sw) (τ : Tw) {τF : Tw} (hf : t_X9_tells F p1 p2 τ = some τF) : Cl g 1 yX9_tells cX9_tells 4 none [.ref tw, .int p1, .int p2] (mT tw τ μ) none (mT tw τF μ) := by
  unfold t_X9_tells at hf
  refine Cl.of (own := RX9) (ini := false) (by decide +kernel) rfl (by decide) (Nat.le_of_ble_eq_true rfl) ?_
  show PW g mX9_tells 1 (mT tw τ μ) (mT tw τF μ) (QN g none (mT tw τ μ) (mT tw τF μ)) 0 [(0, .ref tw), (1, .int p1), (2, .int p2)] [] (mT tw τ μ)
  refine P.aload_n 0 (pc' := 1) dX9_tells_0 rfl rfl rfl ?_
  refine P.get (v := .ref (tw + 3)) (pc' := 4) ci9 4 (by decide) (T_gf rfl) q1559 (Or.inl rfl) dX9_tells_1 rfl ?_
  refine P.iload_n 2 (pc' := 5) dX9_tells_4 rfl rfl rfl ?_
  obtain ⟨x1, h2, hf⟩ := ob hf
  refine P.iald (t := 0) (pc' := 6) rfl (T_aI rfl h2) dX9_tells_5 rfl ?_
  refine P.istore_n (pc' := 7) (lv' := [(3, .int x1), (0, .ref tw), (1, .int p1), (2, .int p2)]) dX9_tells_6 rfl rfl (Nat.le_of_ble_eq_true rfl) rfl ?_
  refine P.aload_n 1 (pc' := 8) dX9_tells_7 rfl rfl rfl ?_
  refine P.get (v := .int (τ.1 10)) (pc' := 11) ci9 10 (by decide) (T_gf rfl) q1565 (Or.inl rfl) dX9_tells_8 rfl ?_
  refine P.if_eq (tgt := 39) (pc' := 14) dX9_tells_11 (by decide) rfl (fun y3 => ?_) (fun y3 => ?_)
  · have hf := (if_pos y3).symm.trans hf
    refine P.aload_n 1 (pc' := 40) dX9_tells_39 rfl rfl rfl ?_
    refine P.iload_n 2 (pc' := 41) dX9_tells_40 rfl rfl rfl ?_
    obtain ⟨τ4, e5, hf⟩ := nm_i hf
    refine P.put (v := .int p1) (pc' := 44) ci9 10 (by decide) (T_put rfl (by decide) e5) q1565 (Or.inl rfl) rfl rfl rfl dX9_tells_41 rfl ?_
    refine P.aload_n 1 (pc' := 45) dX9_tells_44 rfl rfl rfl ?_
    refine P.iload_n 0 (pc' := 46) dX9_tells_45 rfl rfl rfl ?_
    obtain ⟨τ6, e7, hf⟩ := nm_i hf
    refine P.put (v := .int x1) (pc' := 49) ci9 11 (by decide) (T_put rfl (by decide) e7) q1566 (Or.inl rfl) rfl rfl rfl dX9_tells_46 rfl ?_
    cases hf; exact P.vret rfl dX9_tells_49
  · have hf := (if_neg y3).symm.trans hf
    refine P.iload_n 0 (pc' := 15) dX9_tells_14 rfl rfl rfl ?_
    refine P.aload_n 1 (pc' := 16) dX9_tells_15 rfl rfl rfl ?_
    refine P.get (v := .int (τ.1 11)) (pc' := 19) ci9 11 (by decide) (T_gf rfl) q1566 (Or.inl rfl) dX9_tells_16 rfl ?_
    refine P.icmp_gt (tgt := 38) (pc' := 22) dX9_tells_19 (by decide) rfl (fun y8 => ?_) (fun y8 => ?_)
    · have hf := (if_pos y8).symm.trans hf
      cases hf; exact P.vret rfl dX9_tells_38
    · have hf := (if_neg y8).symm.trans hf
      refine P.iload_n 0 (pc' := 23) dX9_tells_22 rfl rfl rfl ?_
      refine P.aload_n 1 (pc' := 24) dX9_tells_23 rfl rfl rfl ?_
      refine P.get (v := .int (τ.1 11)) (pc' := 27) ci9 11 (by decide) (T_gf rfl) q1566 (Or.inl rfl) dX9_tells_24 rfl ?_
      refine P.icmp_ne (tgt := 39) (pc' := 30) dX9_tells_27 (by decide) rfl (fun y9 => ?_) (fun y9 => ?_)
      · have hf := (if_neg y9).symm.trans hf
        refine P.aload_n 1 (pc' := 40) dX9_tells_39 rfl rfl rfl ?_
        refine P.iload_n 2 (pc' := 41) dX9_tells_40 rfl rfl rfl ?_
        obtain ⟨τ10, e11, hf⟩ := nm_i hf
        refine P.put (v := .int p1) (pc' := 44) ci9 10 (by decide) (T_put rfl (by decide) e11) q1565 (Or.inl rfl) rfl rfl rfl dX9_tells_41 rfl ?_
        refine P.aload_n 1 (pc' := 45) dX9_tells_44 rfl rfl rfl ?_
        refine P.iload_n 0 (pc' := 46) dX9_tells_45 rfl rfl rfl ?_
        obtain ⟨τ12, e13, hf⟩ := nm_i hf
        refine P.put (v := .int x1) (pc' := 49) ci9 11 (by decide) (T_put rfl (by decide) e13) q1566 (Or.inl rfl) rfl rfl rfl dX9_tells_46 rfl ?_
        cases hf; exact P.vret rfl dX9_tells_49
      · have hf := (if_pos y9).symm.trans hf
        refine P.iload_n 2 (pc' := 31) dX9_tells_30 rfl rfl rfl ?_
        refine P.aload_n 1 (pc' := 32) dX9_tells_31 rfl rfl rfl ?_
        refine P.get (v := .int (τ.1 10)) (pc' := 35) ci9 10 (by decide) (T_gf rfl) q1565 (Or.inl rfl) dX9_tells_32 rfl ?_
        refine P.icmp_lt (tgt := 39) (pc' := 38) dX9_tells_35 (by decide) rfl (fun y14 => ?_) (fun y14 => ?_)
        · have hf := (if_pos y14).symm.trans hf
          refine P.aload_n 1 (pc' := 40) dX9_tells_39 rfl rfl rfl ?_
          refine P.iload_n 2 (pc' := 41) dX9_tells_40 rfl rfl rfl ?_
          obtain ⟨τ15, e16, hf⟩ := nm_i hf
          refine P.put (v := .int p1) (pc' := 44) ci9 10 (by decide) (T_put rfl (by decide) e16) q1565 (Or.inl rfl) rfl rfl rfl dX9_tells_41 rfl ?_
          refine P.aload_n 1 (pc' := 45) dX9_tells_44 rfl rfl rfl ?_
          refine P.iload_n 0 (pc' := 46) dX9_tells_45 rfl rfl rfl ?_
          obtain ⟨τ17, e18, hf⟩ := nm_i hf
          refine P.put (v := .int x1) (pc' := 49) ci9 11 (by decide) (T_put rfl (by decide) e18) q1566 (Or.inl rfl) rfl rfl rfl dX9_tells_46 rfl ?_
          cases hf; exact P.vret rfl dX9_tells_49
        · have hf := (if_neg y14).symm.trans hf
          cases hf; exact P.vret rfl dX9_tells_38
theorem yok_X9_takes : yOK yX9_takes 1 := ⟨by decide +kernel, by decide +kernel, by decide +kernel⟩
theorem yok_X9_tells : yOK yX9_tells 2 := ⟨by decide +kernel, by decide +kernel, by decide +kernel⟩
abbrev mX9_takesInt : Ym := (RX9, cX9_takesInt, 4, (some Jvm.ClassFile.FieldType.boolean), false, [])
noncomputable def t_X9_takesInt (F : Nat) (p1 : Int32) (p2 : Int32) (τ : Tw) : Option (Int32 × Tw) :=
  nm (τ.1 7) fun x1 =>
  Option.bind (t_X9_takes F 1 τ) fun q3 =>
  if q3.1 = 0 then
    some (0, q3.2)
  else
    Option.bind (taI q3.2 4 2001 x1) fun x6 =>
    nm (tsI q3.2 29 x6) fun τ8 =>
    if (τ8.1 29) < p1 then
      Option.bind (t_X9_tells F 5 x1 τ8) fun q11 =>
      some (1, q11)
    else
      if (τ8.1 29) ≤ p2 then
        some (1, τ8)
      else
        Option.bind (t_X9_tells F 5 x1 τ8) fun q14 =>
        some (1, q14)
set_option maxHeartbeats 4000000 in
theorem ok_X9_takesInt {g : Gx} (F : Nat) (p1 : Int32) (p2 : Int32) (tw : Nat) (μ : Sw) (τ : Tw) {rv : Int32} {τF : Tw} (hf : t_X9_takesInt F p1 p2 τ = some (rv, τF)) : Cl g 4 yX9_takesInt cX9_takesInt 4 (some Jvm.ClassFile.FieldType.boolean) [.ref tw, .int p1, .int p2] (mT tw τ μ) (some (.int rv)) (mT tw τF μ) := by
  unfold t_X9_takesInt at hf
  refine Cl.of (own := RX9) (ini := false) (by decide +kernel) rfl (by decide) (Nat.le_of_ble_eq_true rfl) ?_
  show PW g mX9_takesInt 4 (mT tw τ μ) (mT tw τF μ) (QN g (some (.int rv)) (mT tw τ μ) (mT tw τF μ)) 0 [(0, .ref tw), (1, .int p1), (2, .int p2)] [] (mT tw τ μ)
  refine P.aload_n 0 (pc' := 1) dX9_takesInt_0 rfl rfl rfl ?_
  refine P.get (v := .int (τ.1 7)) (pc' := 4) ci9 7 (by decide) (T_gf rfl) q1562 (Or.inl rfl) dX9_takesInt_1 rfl ?_
  obtain ⟨x1, e2, hf⟩ := nm_i hf
  refine P.nmi e2 ?_
  refine P.istore_n (pc' := 5) (lv' := [(3, .int x1), (0, .ref tw), (1, .int p1), (2, .int p2)]) dX9_takesInt_4 rfl rfl (Nat.le_of_ble_eq_true rfl) rfl ?_
  refine P.aload_n 1 (pc' := 6) dX9_takesInt_5 rfl rfl rfl ?_
  refine P.iconst (v := 1) (pc' := 7) dX9_takesInt_6 rfl (by decide) ?_
  obtain ⟨q3, h4, hf⟩ := ob hf
  refine P.callV (pc' := 10) (As := [.int 1]) 1 (ok_X9_takes F 1 tw μ τ h4) (Nat.le_of_ble_eq_true rfl) (lw_V q1826 q1828 qs94 q172 q1829) rfl yok_X9_takes rfl (Nat.le_of_ble_eq_true rfl) ci9 T_oc (by decide) rfl dX9_takesInt_7 rfl ?_
  refine P.if_ne (tgt := 15) (pc' := 13) dX9_takesInt_10 (by decide) rfl (fun y5 => ?_) (fun y5 => ?_)
  · have hf := (if_neg y5).symm.trans hf
    refine P.aload_n 1 (pc' := 16) dX9_takesInt_15 rfl rfl rfl ?_
    refine P.aload_n 1 (pc' := 17) dX9_takesInt_16 rfl rfl rfl ?_
    refine P.get (v := .ref (tw + 4)) (pc' := 20) ci9 5 (by decide) (T_gf rfl) q1560 (Or.inl rfl) dX9_takesInt_17 rfl ?_
    refine P.iload_n 0 (pc' := 21) dX9_takesInt_20 rfl rfl rfl ?_
    obtain ⟨x6, h7, hf⟩ := ob hf
    refine P.iald (t := 0) (pc' := 22) rfl (T_aI rfl h7) dX9_takesInt_21 rfl ?_
    obtain ⟨τ8, e9, hf⟩ := nm_i hf
    refine P.put (v := .int x6) (pc' := 25) ci9 29 (by decide) (T_put rfl (by decide) e9) q1584 (Or.inl rfl) rfl rfl rfl dX9_takesInt_22 rfl ?_
    refine P.aload_n 1 (pc' := 26) dX9_takesInt_25 rfl rfl rfl ?_
    refine P.get (v := .int (τ8.1 29)) (pc' := 29) ci9 29 (by decide) (T_gf rfl) q1584 (Or.inl rfl) dX9_takesInt_26 rfl ?_
    refine P.iload_n 2 (pc' := 30) dX9_takesInt_29 rfl rfl rfl ?_
    refine P.icmp_lt (tgt := 41) (pc' := 33) dX9_takesInt_30 (by decide) rfl (fun y10 => ?_) (fun y10 => ?_)
    · have hf := (if_pos y10).symm.trans hf
      refine P.aload_n 1 (pc' := 42) dX9_takesInt_41 rfl rfl rfl ?_
      refine P.iconst (v := 5) (pc' := 43) dX9_takesInt_42 rfl (by decide) ?_
      refine P.iload_n 0 (pc' := 44) dX9_takesInt_43 rfl rfl rfl ?_
      obtain ⟨q11, h12, hf⟩ := ob hf
      refine P.callV (pc' := 47) (As := [.int 5, .int x1]) 2 (ok_X9_tells F 5 x1 tw μ τ8 h12) (Nat.le_of_ble_eq_true rfl) (lw_V q1830 q1832 qs95 q172 q1833) rfl yok_X9_tells rfl (Nat.le_of_ble_eq_true rfl) ci9 T_oc (by decide) rfl dX9_takesInt_44 rfl ?_
      refine P.iconst (v := 1) (pc' := 48) dX9_takesInt_47 rfl (by decide) ?_
      cases hf; exact P.zret rfl (Or.inr rfl) dX9_takesInt_48
    · have hf := (if_neg y10).symm.trans hf
      refine P.aload_n 1 (pc' := 34) dX9_takesInt_33 rfl rfl rfl ?_
      refine P.get (v := .int (τ8.1 29)) (pc' := 37) ci9 29 (by decide) (T_gf rfl) q1584 (Or.inl rfl) dX9_takesInt_34 rfl ?_
      refine P.iload_n 3 (pc' := 38) dX9_takesInt_37 rfl rfl rfl ?_
      refine P.icmp_le (tgt := 47) (pc' := 41) dX9_takesInt_38 (by decide) rfl (fun y13 => ?_) (fun y13 => ?_)
      · have hf := (if_pos y13).symm.trans hf
        refine P.iconst (v := 1) (pc' := 48) dX9_takesInt_47 rfl (by decide) ?_
        cases hf; exact P.zret rfl (Or.inr rfl) dX9_takesInt_48
      · have hf := (if_neg y13).symm.trans hf
        refine P.aload_n 1 (pc' := 42) dX9_takesInt_41 rfl rfl rfl ?_
        refine P.iconst (v := 5) (pc' := 43) dX9_takesInt_42 rfl (by decide) ?_
        refine P.iload_n 0 (pc' := 44) dX9_takesInt_43 rfl rfl rfl ?_
        obtain ⟨q14, h15, hf⟩ := ob hf
        refine P.callV (pc' := 47) (As := [.int 5, .int x1]) 2 (ok_X9_tells F 5 x1 tw μ τ8 h15) (Nat.le_of_ble_eq_true rfl) (lw_V q1830 q1832 qs95 q172 q1833) rfl yok_X9_tells rfl (Nat.le_of_ble_eq_true rfl) ci9 T_oc (by decide) rfl dX9_takesInt_44 rfl ?_
        refine P.iconst (v := 1) (pc' := 48) dX9_takesInt_47 rfl (by decide) ?_
        cases hf; exact P.zret rfl (Or.inr rfl) dX9_takesInt_48
  · have hf := (if_pos y5).symm.trans hf
    refine P.iconst (v := 0) (pc' := 14) dX9_takesInt_13 rfl (by decide) ?_
    cases hf; exact P.zret rfl (Or.inl rfl) dX9_takesInt_14
theorem yok_X9_takesInt : yOK yX9_takesInt 2 := ⟨by decide +kernel, by decide +kernel, by decide +kernel⟩
abbrev mX9_tellNumber : Ym := (RX9, cX9_tellNumber, 3, (some Jvm.ClassFile.FieldType.boolean), false, [])
noncomputable def t_X9_tellNumber (F : Nat) (p1 : Int32) (p2 : Int32) (τ : Tw) : Option (Int32 × Tw) :=
  Option.bind (t_X9_pass F τ) fun q1 =>
  if q1.1 = 0 then
    some (0, q1.2)
  else
    Option.bind (t_X9_takesInt F 1 p2 q1.2) fun q4 =>
    if q4.1 = 0 then
      some (0, q4.2)
    else
      Option.bind (t_X9_tell F p1 (q4.2.1 29) q4.2) fun q7 =>
      some (1, q7)
set_option maxHeartbeats 4000000 in
theorem ok_X9_tellNumber {g : Gx} (F : Nat) (p1 : Int32) (p2 : Int32) (tw : Nat) (μ : Sw) (τ : Tw) {rv : Int32} {τF : Tw} (hf : t_X9_tellNumber F p1 p2 τ = some (rv, τF)) : Cl g 5 yX9_tellNumber cX9_tellNumber 3 (some Jvm.ClassFile.FieldType.boolean) [.ref tw, .int p1, .int p2] (mT tw τ μ) (some (.int rv)) (mT tw τF μ) := by
  unfold t_X9_tellNumber at hf
  refine Cl.of (own := RX9) (ini := false) (by decide +kernel) rfl (by decide) (Nat.le_of_ble_eq_true rfl) ?_
  show PW g mX9_tellNumber 5 (mT tw τ μ) (mT tw τF μ) (QN g (some (.int rv)) (mT tw τ μ) (mT tw τF μ)) 0 [(0, .ref tw), (1, .int p1), (2, .int p2)] [] (mT tw τ μ)
  refine P.aload_n 0 (pc' := 1) dX9_tellNumber_0 rfl rfl rfl ?_
  obtain ⟨q1, h2, hf⟩ := ob hf
  refine P.callV (pc' := 4) (As := []) 0 (ok_X9_pass F tw μ τ h2) (Nat.le_of_ble_eq_true rfl) (lw_V q1818 q1820 qs92 q172 q1821) rfl yok_X9_pass rfl (Nat.le_of_ble_eq_true rfl) ci9 T_oc (by decide) rfl dX9_tellNumber_1 rfl ?_
  refine P.if_eq (tgt := 16) (pc' := 7) dX9_tellNumber_4 (by decide) rfl (fun y3 => ?_) (fun y3 => ?_)
  · have hf := (if_pos y3).symm.trans hf
    refine P.iconst (v := 0) (pc' := 17) dX9_tellNumber_16 rfl (by decide) ?_
    cases hf; exact P.zret rfl (Or.inl rfl) dX9_tellNumber_17
  · have hf := (if_neg y3).symm.trans hf
    refine P.aload_n 0 (pc' := 8) dX9_tellNumber_7 rfl rfl rfl ?_
    refine P.iconst (v := 1) (pc' := 9) dX9_tellNumber_8 rfl (by decide) ?_
    refine P.iload_n 2 (pc' := 10) dX9_tellNumber_9 rfl rfl rfl ?_
    obtain ⟨q4, h5, hf⟩ := ob hf
    refine P.callV (pc' := 13) (As := [.int 1, .int p2]) 2 (ok_X9_takesInt F 1 p2 tw μ q1.2 h5) (Nat.le_of_ble_eq_true rfl) (lw_V q1834 q1836 qs96 q172 q1837) rfl yok_X9_takesInt rfl (Nat.le_of_ble_eq_true rfl) ci9 T_oc (by decide) rfl dX9_tellNumber_10 rfl ?_
    refine P.if_ne (tgt := 18) (pc' := 16) dX9_tellNumber_13 (by decide) rfl (fun y6 => ?_) (fun y6 => ?_)
    · have hf := (if_neg y6).symm.trans hf
      refine P.aload_n 0 (pc' := 19) dX9_tellNumber_18 rfl rfl rfl ?_
      refine P.iload_n 1 (pc' := 20) dX9_tellNumber_19 rfl rfl rfl ?_
      refine P.aload_n 0 (pc' := 21) dX9_tellNumber_20 rfl rfl rfl ?_
      refine P.get (v := .int (q4.2.1 29)) (pc' := 24) ci9 29 (by decide) (T_gf rfl) q1584 (Or.inl rfl) dX9_tellNumber_21 rfl ?_
      obtain ⟨q7, h8, hf⟩ := ob hf
      refine P.callV (pc' := 27) (As := [.int p1, .int (q4.2.1 29)]) 2 (ok_X9_tell F p1 (q4.2.1 29) tw μ q4.2 h8) (Nat.le_of_ble_eq_true rfl) (lw_V q1810 q1812 qs90 q172 q1813) rfl yok_X9_tell rfl (Nat.le_of_ble_eq_true rfl) ci9 T_oc (by decide) rfl dX9_tellNumber_24 rfl ?_
      refine P.iconst (v := 1) (pc' := 28) dX9_tellNumber_27 rfl (by decide) ?_
      cases hf; exact P.zret rfl (Or.inr rfl) dX9_tellNumber_28
    · have hf := (if_pos y6).symm.trans hf
      refine P.iconst (v := 0) (pc' := 17) dX9_tellNumber_16 rfl (by decide) ?_
      cases hf; exact P.zret rfl (Or.inl rfl) dX9_tellNumber_17
abbrev mX9_tellWood : Ym := (RX9, cX9_tellWood, 2, (some Jvm.ClassFile.FieldType.boolean), false, [])
noncomputable def t_X9_tellWood (F : Nat) (τ : Tw) : Option (Int32 × Tw) :=
  Option.bind (t_X9_next F 5 8 170 2 τ) fun q1 =>
  if 0 ≤ q1.1 then
    Option.bind (t_X9_pass F q1.2) fun q4 =>
    if q4.1 = 0 then
      some (0, q4.2)
    else
      Option.bind (t_X9_takesInt F 1 60 q4.2) fun q7 =>
      if q7.1 = 0 then
        some (0, q7.2)
      else
        Option.bind (t_X9_tell F q1.1 (q7.2.1 29) q7.2) fun q10 =>
        Option.bind (t_X9_takesInt F 0 99 q10) fun q12 =>
        if q12.1 = 0 then
          some (0, q12.2)
        else
          Option.bind (t_X9_tell F (q1.1 + 1) (q12.2.1 29) q12.2) fun q15 =>
          some (1, q15)
  else
    Option.bind (t_X9_wrong F 2 q1.2) fun q17 =>
    if q17.1 = 0 ∨ q17.1 = 1 then
      some (q17.1, q17.2)
    else
      none
set_option maxHeartbeats 4000000 in
theorem ok_X9_tellWood {g : Gx} (F : Nat) (tw : Nat) (μ : Sw) (τ : Tw) {rv : Int32} {τF : Tw} (hf : t_X9_tellWood F τ = some (rv, τF)) : Cl g 5 yX9_tellWood cX9_tellWood 2 (some Jvm.ClassFile.FieldType.boolean) [.ref tw] (mT tw τ μ) (some (.int rv)) (mT tw τF μ) := by
  unfold t_X9_tellWood at hf
  refine Cl.of (own := RX9) (ini := false) (by decide +kernel) rfl (by decide) (Nat.le_of_ble_eq_true rfl) ?_
  show PW g mX9_tellWood 5 (mT tw τ μ) (mT tw τF μ) (QN g (some (.int rv)) (mT tw τ μ) (mT tw τF μ)) 0 [(0, .ref tw)] [] (mT tw τ μ)
  refine P.aload_n 0 (pc' := 1) dX9_tellWood_0 rfl rfl rfl ?_
  refine P.iconst (v := 5) (pc' := 2) dX9_tellWood_1 rfl (by decide) ?_
  refine P.bipush (v := 8) (pc' := 4) dX9_tellWood_2 rfl (by decide) ?_
  refine P.sipush (v := 170) (pc' := 7) dX9_tellWood_4 rfl (by decide) ?_
  refine P.iconst (v := 2) (pc' := 8) dX9_tellWood_7 rfl (by decide) ?_
  obtain ⟨q1, h2, hf⟩ := ob hf
  refine P.callV (pc' := 11) (As := [.int 5, .int 8, .int 170, .int 2]) 4 (ok_X9_next F 5 8 170 2 tw μ τ h2) (Nat.le_of_ble_eq_true rfl) (lw_V q1806 q1808 qs89 q172 q1809) rfl yok_X9_next rfl (Nat.le_of_ble_eq_true rfl) ci9 T_oc (by decide) rfl dX9_tellWood_8 rfl ?_
  refine P.istore_n (pc' := 12) (lv' := [(1, .int q1.1), (0, .ref tw)]) dX9_tellWood_11 rfl rfl (Nat.le_of_ble_eq_true rfl) rfl ?_
  refine P.iload_n 0 (pc' := 13) dX9_tellWood_12 rfl rfl rfl ?_
  refine P.if_ge (tgt := 22) (pc' := 16) dX9_tellWood_13 (by decide) rfl (fun y3 => ?_) (fun y3 => ?_)
  · have hf := (if_pos y3).symm.trans hf
    refine P.aload_n 1 (pc' := 23) dX9_tellWood_22 rfl rfl rfl ?_
    obtain ⟨q4, h5, hf⟩ := ob hf
    refine P.callV (pc' := 26) (As := []) 0 (ok_X9_pass F tw μ q1.2 h5) (Nat.le_of_ble_eq_true rfl) (lw_V q1818 q1820 qs92 q172 q1821) rfl yok_X9_pass rfl (Nat.le_of_ble_eq_true rfl) ci9 T_oc (by decide) rfl dX9_tellWood_23 rfl ?_
    refine P.if_eq (tgt := 39) (pc' := 29) dX9_tellWood_26 (by decide) rfl (fun y6 => ?_) (fun y6 => ?_)
    · have hf := (if_pos y6).symm.trans hf
      refine P.iconst (v := 0) (pc' := 40) dX9_tellWood_39 rfl (by decide) ?_
      cases hf; exact P.zret rfl (Or.inl rfl) dX9_tellWood_40
    · have hf := (if_neg y6).symm.trans hf
      refine P.aload_n 1 (pc' := 30) dX9_tellWood_29 rfl rfl rfl ?_
      refine P.iconst (v := 1) (pc' := 31) dX9_tellWood_30 rfl (by decide) ?_
      refine P.bipush (v := 60) (pc' := 33) dX9_tellWood_31 rfl (by decide) ?_
      obtain ⟨q7, h8, hf⟩ := ob hf
      refine P.callV (pc' := 36) (As := [.int 1, .int 60]) 2 (ok_X9_takesInt F 1 60 tw μ q4.2 h8) (Nat.le_of_ble_eq_true rfl) (lw_V q1834 q1836 qs96 q172 q1837) rfl yok_X9_takesInt rfl (Nat.le_of_ble_eq_true rfl) ci9 T_oc (by decide) rfl dX9_tellWood_33 rfl ?_
      refine P.if_ne (tgt := 41) (pc' := 39) dX9_tellWood_36 (by decide) rfl (fun y9 => ?_) (fun y9 => ?_)
      · have hf := (if_neg y9).symm.trans hf
        refine P.aload_n 1 (pc' := 42) dX9_tellWood_41 rfl rfl rfl ?_
        refine P.iload_n 0 (pc' := 43) dX9_tellWood_42 rfl rfl rfl ?_
        refine P.aload_n 1 (pc' := 44) dX9_tellWood_43 rfl rfl rfl ?_
        refine P.get (v := .int (q7.2.1 29)) (pc' := 47) ci9 29 (by decide) (T_gf rfl) q1584 (Or.inl rfl) dX9_tellWood_44 rfl ?_
        obtain ⟨q10, h11, hf⟩ := ob hf
        refine P.callV (pc' := 50) (As := [.int q1.1, .int (q7.2.1 29)]) 2 (ok_X9_tell F q1.1 (q7.2.1 29) tw μ q7.2 h11) (Nat.le_of_ble_eq_true rfl) (lw_V q1810 q1812 qs90 q172 q1813) rfl yok_X9_tell rfl (Nat.le_of_ble_eq_true rfl) ci9 T_oc (by decide) rfl dX9_tellWood_47 rfl ?_
        refine P.aload_n 1 (pc' := 51) dX9_tellWood_50 rfl rfl rfl ?_
        refine P.iconst (v := 0) (pc' := 52) dX9_tellWood_51 rfl (by decide) ?_
        refine P.bipush (v := 99) (pc' := 54) dX9_tellWood_52 rfl (by decide) ?_
        obtain ⟨q12, h13, hf⟩ := ob hf
        refine P.callV (pc' := 57) (As := [.int 0, .int 99]) 2 (ok_X9_takesInt F 0 99 tw μ q10 h13) (Nat.le_of_ble_eq_true rfl) (lw_V q1834 q1836 qs96 q172 q1837) rfl yok_X9_takesInt rfl (Nat.le_of_ble_eq_true rfl) ci9 T_oc (by decide) rfl dX9_tellWood_54 rfl ?_
        refine P.if_ne (tgt := 62) (pc' := 60) dX9_tellWood_57 (by decide) rfl (fun y14 => ?_) (fun y14 => ?_)
        · have hf := (if_neg y14).symm.trans hf
          refine P.aload_n 1 (pc' := 63) dX9_tellWood_62 rfl rfl rfl ?_
          refine P.iload_n 0 (pc' := 64) dX9_tellWood_63 rfl rfl rfl ?_
          refine P.iconst (v := 1) (pc' := 65) dX9_tellWood_64 rfl (by decide) ?_
          refine P.iadd (pc' := 66) dX9_tellWood_65 rfl ?_
          refine P.aload_n 1 (pc' := 67) dX9_tellWood_66 rfl rfl rfl ?_
          refine P.get (v := .int (q12.2.1 29)) (pc' := 70) ci9 29 (by decide) (T_gf rfl) q1584 (Or.inl rfl) dX9_tellWood_67 rfl ?_
          obtain ⟨q15, h16, hf⟩ := ob hf
          refine P.callV (pc' := 73) (As := [.int (q1.1 + 1), .int (q12.2.1 29)]) 2 (ok_X9_tell F (q1.1 + 1) (q12.2.1 29) tw μ q12.2 h16) (Nat.le_of_ble_eq_true rfl) (lw_V q1810 q1812 qs90 q172 q1813) rfl yok_X9_tell rfl (Nat.le_of_ble_eq_true rfl) ci9 T_oc (by decide) rfl dX9_tellWood_70 rfl ?_
          refine P.iconst (v := 1) (pc' := 74) dX9_tellWood_73 rfl (by decide) ?_
          cases hf; exact P.zret rfl (Or.inr rfl) dX9_tellWood_74
        · have hf := (if_pos y14).symm.trans hf
          refine P.iconst (v := 0) (pc' := 61) dX9_tellWood_60 rfl (by decide) ?_
          cases hf; exact P.zret rfl (Or.inl rfl) dX9_tellWood_61
      · have hf := (if_pos y9).symm.trans hf
        refine P.iconst (v := 0) (pc' := 40) dX9_tellWood_39 rfl (by decide) ?_
        cases hf; exact P.zret rfl (Or.inl rfl) dX9_tellWood_40
  · have hf := (if_neg y3).symm.trans hf
    refine P.aload_n 1 (pc' := 17) dX9_tellWood_16 rfl rfl rfl ?_
    refine P.iconst (v := 2) (pc' := 18) dX9_tellWood_17 rfl (by decide) ?_
    obtain ⟨q17, h18, hf⟩ := ob hf
    refine P.callV (pc' := 21) (As := [.int 2]) 1 (ok_X9_wrong F 2 tw μ q1.2 h18) (Nat.le_of_ble_eq_true rfl) (lw_V q1814 q1816 qs91 q172 q1817) rfl yok_X9_wrong rfl (Nat.le_of_ble_eq_true rfl) ci9 T_oc (by decide) rfl dX9_tellWood_18 rfl ?_
    by_cases y19 : q17.1 = 0 ∨ q17.1 = 1
    · have hf := (if_pos y19).symm.trans hf
      cases hf; exact P.zret rfl y19 dX9_tellWood_21
    · have hf := (if_neg y19).symm.trans hf
      cases hf
abbrev mX9_takesName : Ym := (RX9, cX9_takesName, 4, (some Jvm.ClassFile.FieldType.boolean), false, [])
noncomputable def t_X9_takesName_L27_b (F : Nat) (c1 : Int32) (c2 : Int32) (self : Int32 → Tw → Option (Int32 × Tw)) (v3 : Int32) (τ : Tw) : Option (Int32 × Tw) :=
  if v3 < 0 then
    if 0 ≤ (τ.1 29) then
      some (1, τ)
    else
      Option.bind (t_X9_tells F 4 c2 τ) fun q3 =>
      some (1, q3)
  else
    Option.bind (taL τ 19 30 v3) fun x5 =>
    Option.bind (taL τ 5 2001 c2) fun x7 =>
    if (lg_cmp x5 x7) = 0 then
      Option.bind (taI τ 20 30 v3) fun x12 =>
      if x12 = c1 then
        Option.bind (taI τ 21 30 v3) fun x17 =>
        nm (tsI τ 29 x17) fun τ19 =>
        nm (v3 + (-1)) fun x21 =>
        self x21 τ19
      else
        nm (v3 + (-1)) fun x15 =>
        self x15 τ
    else
      nm (v3 + (-1)) fun x10 =>
      self x10 τ
noncomputable def t_X9_takesName_L27 (F : Nat) (c1 : Int32) (c2 : Int32) (n : Nat) : Int32 → Tw → Option (Int32 × Tw) := Nat.rec (motive := fun _ => Int32 → Tw → Option (Int32 × Tw)) (fun _ _ => none) (fun _ self => t_X9_takesName_L27_b F c1 c2 self) n
set_option maxHeartbeats 4000000 in
theorem ok_t_X9_takesName_L27 {g : Gx} {μ0 : Sw} {rv : Int32} {τF : Tw} (F : Nat) (tw : Nat) (μ : Sw) (c1 : Int32) (c2 : Int32) : ∀ (n : Nat) (v3 : Int32) (τ : Tw), t_X9_takesName_L27 F c1 c2 n v3 τ = some (rv, τF) → PW g mX9_takesName 4 μ0 (mT tw τF μ) (QN g (some (.int rv)) μ0 (mT tw τF μ)) 27 [(0, .ref tw), (1, .int c1), (2, .int c2), (3, .int v3)] [] (mT tw τ μ) := by
  intro n
  induction n with
  | zero =>
    intro v3 τ hf
    have hf : (none : Option (Int32 × Tw)) = some _ := hf
    cases hf
  | succ n ih =>
    intro v3 τ hf
    have hf : t_X9_takesName_L27_b F c1 c2 (t_X9_takesName_L27 F c1 c2 n) v3 τ = some (rv, τF) := hf
    unfold t_X9_takesName_L27_b at hf
    refine P.iload_n 3 (pc' := 28) dX9_takesName_27 rfl rfl rfl ?_
    refine P.if_lt (tgt := 73) (pc' := 31) dX9_takesName_28 (by decide) rfl (fun y1 => ?_) (fun y1 => ?_)
    · have hf := (if_pos y1).symm.trans hf
      refine P.aload_n 0 (pc' := 74) dX9_takesName_73 rfl rfl rfl ?_
      refine P.get (v := .int (τ.1 29)) (pc' := 77) ci9 29 (by decide) (T_gf rfl) q1584 (Or.inl rfl) dX9_takesName_74 rfl ?_
      refine P.if_ge (tgt := 86) (pc' := 80) dX9_takesName_77 (by decide) rfl (fun y2 => ?_) (fun y2 => ?_)
      · have hf := (if_pos y2).symm.trans hf
        refine P.iconst (v := 1) (pc' := 87) dX9_takesName_86 rfl (by decide) ?_
        cases hf; exact P.zret rfl (Or.inr rfl) dX9_takesName_87
      · have hf := (if_neg y2).symm.trans hf
        refine P.aload_n 0 (pc' := 81) dX9_takesName_80 rfl rfl rfl ?_
        refine P.iconst (v := 4) (pc' := 82) dX9_takesName_81 rfl (by decide) ?_
        refine P.iload_n 2 (pc' := 83) dX9_takesName_82 rfl rfl rfl ?_
        obtain ⟨q3, h4, hf⟩ := ob hf
        refine P.callV (pc' := 86) (As := [.int 4, .int c2]) 2 (ok_X9_tells F 4 c2 tw μ τ h4) (Nat.le_of_ble_eq_true rfl) (lw_V q1830 q1832 qs95 q172 q1833) rfl yok_X9_tells rfl (Nat.le_of_ble_eq_true rfl) ci9 T_oc (by decide) rfl dX9_takesName_83 rfl ?_
        refine P.iconst (v := 1) (pc' := 87) dX9_takesName_86 rfl (by decide) ?_
        cases hf; exact P.zret rfl (Or.inr rfl) dX9_takesName_87
    · have hf := (if_neg y1).symm.trans hf
      refine P.aload_n 0 (pc' := 32) dX9_takesName_31 rfl rfl rfl ?_
      refine P.get (v := .ref (tw + 19)) (pc' := 35) ci9 26 (by decide) (T_gf rfl) q1581 (Or.inl rfl) dX9_takesName_32 rfl ?_
      refine P.iload_n 3 (pc' := 36) dX9_takesName_35 rfl rfl rfl ?_
      obtain ⟨x5, h6, hf⟩ := ob hf
      refine P.lald (t := 1) (pc' := 37) rfl (T_aL rfl h6) dX9_takesName_36 rfl ?_
      refine P.aload_n 0 (pc' := 38) dX9_takesName_37 rfl rfl rfl ?_
      refine P.get (v := .ref (tw + 5)) (pc' := 41) ci9 6 (by decide) (T_gf rfl) q1561 (Or.inl rfl) dX9_takesName_38 rfl ?_
      refine P.iload_n 2 (pc' := 42) dX9_takesName_41 rfl rfl rfl ?_
      obtain ⟨x7, h8, hf⟩ := ob hf
      refine P.lald (t := 1) (pc' := 43) rfl (T_aL rfl h8) dX9_takesName_42 rfl ?_
      refine P.lcmp (pc' := 44) dX9_takesName_43 rfl ?_
      refine P.if_ne (tgt := 67) (pc' := 47) dX9_takesName_44 (by decide) rfl (fun y9 => ?_) (fun y9 => ?_)
      · have hf := (if_neg y9).symm.trans hf
        obtain ⟨x10, e11, hf⟩ := nm_i hf
        refine P.iinc 3 (pc' := 70) (lv' := [(3, .int x10), (0, .ref tw), (1, .int c1), (2, .int c2)]) dX9_takesName_67 rfl rfl (by decide) e11 (Nat.le_of_ble_eq_true rfl) rfl ?_
        refine P.goto (tgt := 27) dX9_takesName_70 (by decide) ?_
        exact PW.sub [1, 2, 3, 0] rfl (ih _ _ hf)
      · have hf := (if_pos y9).symm.trans hf
        refine P.aload_n 0 (pc' := 48) dX9_takesName_47 rfl rfl rfl ?_
        refine P.get (v := .ref (tw + 20)) (pc' := 51) ci9 27 (by decide) (T_gf rfl) q1582 (Or.inl rfl) dX9_takesName_48 rfl ?_
        refine P.iload_n 3 (pc' := 52) dX9_takesName_51 rfl rfl rfl ?_
        obtain ⟨x12, h13, hf⟩ := ob hf
        refine P.iald (t := 0) (pc' := 53) rfl (T_aI rfl h13) dX9_takesName_52 rfl ?_
        refine P.iload_n 1 (pc' := 54) dX9_takesName_53 rfl rfl rfl ?_
        refine P.icmp_ne (tgt := 67) (pc' := 57) dX9_takesName_54 (by decide) rfl (fun y14 => ?_) (fun y14 => ?_)
        · have hf := (if_neg y14).symm.trans hf
          obtain ⟨x15, e16, hf⟩ := nm_i hf
          refine P.iinc 3 (pc' := 70) (lv' := [(3, .int x15), (0, .ref tw), (1, .int c1), (2, .int c2)]) dX9_takesName_67 rfl rfl (by decide) e16 (Nat.le_of_ble_eq_true rfl) rfl ?_
          refine P.goto (tgt := 27) dX9_takesName_70 (by decide) ?_
          exact PW.sub [1, 2, 3, 0] rfl (ih _ _ hf)
        · have hf := (if_pos y14).symm.trans hf
          refine P.aload_n 0 (pc' := 58) dX9_takesName_57 rfl rfl rfl ?_
          refine P.aload_n 0 (pc' := 59) dX9_takesName_58 rfl rfl rfl ?_
          refine P.get (v := .ref (tw + 21)) (pc' := 62) ci9 28 (by decide) (T_gf rfl) q1583 (Or.inl rfl) dX9_takesName_59 rfl ?_
          refine P.iload_n 3 (pc' := 63) dX9_takesName_62 rfl rfl rfl ?_
          obtain ⟨x17, h18, hf⟩ := ob hf
          refine P.iald (t := 0) (pc' := 64) rfl (T_aI rfl h18) dX9_takesName_63 rfl ?_
          obtain ⟨τ19, e20, hf⟩ := nm_i hf
          refine P.put (v := .int x17) (pc' := 67) ci9 29 (by decide) (T_put rfl (by decide) e20) q1584 (Or.inl rfl) rfl rfl rfl dX9_takesName_64 rfl ?_
          obtain ⟨x21, e22, hf⟩ := nm_i hf
          refine P.iinc 3 (pc' := 70) (lv' := [(3, .int x21), (0, .ref tw), (1, .int c1), (2, .int c2)]) dX9_takesName_67 rfl rfl (by decide) e22 (Nat.le_of_ble_eq_true rfl) rfl ?_
          refine P.goto (tgt := 27) dX9_takesName_70 (by decide) ?_
          exact PW.sub [1, 2, 3, 0] rfl (ih _ _ hf)
noncomputable def t_X9_takesName (F : Nat) (p1 : Int32) (τ : Tw) : Option (Int32 × Tw) :=
  nm (τ.1 7) fun x1 =>
  Option.bind (t_X9_takes F 0 τ) fun q3 =>
  if q3.1 = 0 then
    some (0, q3.2)
  else
    nm (tsI q3.2 29 (-1)) fun τ6 =>
    nm ((τ6.1 25) - 1) fun x8 =>
    t_X9_takesName_L27 F p1 x1 F x8 τ6
set_option maxHeartbeats 4000000 in
theorem ok_X9_takesName {g : Gx} (F : Nat) (p1 : Int32) (tw : Nat) (μ : Sw) (τ : Tw) {rv : Int32} {τF : Tw} (hf : t_X9_takesName F p1 τ = some (rv, τF)) : Cl g 4 yX9_takesName cX9_takesName 4 (some Jvm.ClassFile.FieldType.boolean) [.ref tw, .int p1] (mT tw τ μ) (some (.int rv)) (mT tw τF μ) := by
  unfold t_X9_takesName at hf
  refine Cl.of (own := RX9) (ini := false) (by decide +kernel) rfl (by decide) (Nat.le_of_ble_eq_true rfl) ?_
  show PW g mX9_takesName 4 (mT tw τ μ) (mT tw τF μ) (QN g (some (.int rv)) (mT tw τ μ) (mT tw τF μ)) 0 [(0, .ref tw), (1, .int p1)] [] (mT tw τ μ)
  refine P.aload_n 0 (pc' := 1) dX9_takesName_0 rfl rfl rfl ?_
  refine P.get (v := .int (τ.1 7)) (pc' := 4) ci9 7 (by decide) (T_gf rfl) q1562 (Or.inl rfl) dX9_takesName_1 rfl ?_
  obtain ⟨x1, e2, hf⟩ := nm_i hf
  refine P.nmi e2 ?_
  refine P.istore_n (pc' := 5) (lv' := [(2, .int x1), (0, .ref tw), (1, .int p1)]) dX9_takesName_4 rfl rfl (Nat.le_of_ble_eq_true rfl) rfl ?_
  refine P.aload_n 1 (pc' := 6) dX9_takesName_5 rfl rfl rfl ?_
  refine P.iconst (v := 0) (pc' := 7) dX9_takesName_6 rfl (by decide) ?_
  obtain ⟨q3, h4, hf⟩ := ob hf
  refine P.callV (pc' := 10) (As := [.int 0]) 1 (ok_X9_takes F 0 tw μ τ h4) (Nat.le_of_ble_eq_true rfl) (lw_V q1826 q1828 qs94 q172 q1829) rfl yok_X9_takes rfl (Nat.le_of_ble_eq_true rfl) ci9 T_oc (by decide) rfl dX9_takesName_7 rfl ?_
  refine P.if_ne (tgt := 15) (pc' := 13) dX9_takesName_10 (by decide) rfl (fun y5 => ?_) (fun y5 => ?_)
  · have hf := (if_neg y5).symm.trans hf
    refine P.aload_n 1 (pc' := 16) dX9_takesName_15 rfl rfl rfl ?_
    refine P.iconst (v := (-1)) (pc' := 17) dX9_takesName_16 rfl (by decide) ?_
    obtain ⟨τ6, e7, hf⟩ := nm_i hf
    refine P.put (v := .int (-1)) (pc' := 20) ci9 29 (by decide) (T_put rfl (by decide) e7) q1584 (Or.inl rfl) rfl rfl rfl dX9_takesName_17 rfl ?_
    refine P.aload_n 1 (pc' := 21) dX9_takesName_20 rfl rfl rfl ?_
    refine P.get (v := .int (τ6.1 25)) (pc' := 24) ci9 25 (by decide) (T_gf rfl) q1580 (Or.inl rfl) dX9_takesName_21 rfl ?_
    refine P.iconst (v := 1) (pc' := 25) dX9_takesName_24 rfl (by decide) ?_
    refine P.isub (pc' := 26) dX9_takesName_25 rfl ?_
    obtain ⟨x8, e9, hf⟩ := nm_i hf
    refine P.nmi e9 ?_
    refine P.istore_n (pc' := 27) (lv' := [(3, .int x8), (2, .int x1), (0, .ref tw), (1, .int p1)]) dX9_takesName_26 rfl rfl (Nat.le_of_ble_eq_true rfl) rfl ?_
    exact PW.sub [2, 3, 1, 0] rfl (ok_t_X9_takesName_L27 F tw μ p1 x1 F _ _ hf)
  · have hf := (if_pos y5).symm.trans hf
    refine P.iconst (v := 0) (pc' := 14) dX9_takesName_13 rfl (by decide) ?_
    cases hf; exact P.zret rfl (Or.inl rfl) dX9_takesName_14
theorem yok_X9_takesName : yOK yX9_takesName 1 := ⟨by decide +kernel, by decide +kernel, by decide +kernel⟩
abbrev mX9_tellQuay : Ym := (RX9, cX9_tellQuay, 2, (some Jvm.ClassFile.FieldType.boolean), false, [])
noncomputable def t_X9_tellQuay (F : Nat) (τ : Tw) : Option (Int32 × Tw) :=
  Option.bind (t_X9_next F 4 4 160 1 τ) fun q1 =>
  if 0 ≤ q1.1 then
    Option.bind (t_X9_pass F q1.2) fun q4 =>
    if q4.1 = 0 then
      some (0, q4.2)
    else
      Option.bind (t_X9_takesName F 0 q4.2) fun q7 =>
      if q7.1 = 0 then
        some (0, q7.2)
      else
        Option.bind (t_X9_tell F q1.1 (q7.2.1 29) q7.2) fun q10 =>
        some (1, q10)
  else
    Option.bind (t_X9_wrong F 2 q1.2) fun q12 =>
    if q12.1 = 0 ∨ q12.1 = 1 then
      some (q12.1, q12.2)
    else
      none
set_option maxHeartbeats 4000000 in
theorem ok_X9_tellQuay {g : Gx} (F : Nat) (tw : Nat) (μ : Sw) (τ : Tw) {rv : Int32} {τF : Tw} (hf : t_X9_tellQuay F τ = some (rv, τF)) : Cl g 5 yX9_tellQuay cX9_tellQuay 2 (some Jvm.ClassFile.FieldType.boolean) [.ref tw] (mT tw τ μ) (some (.int rv)) (mT tw τF μ) := by
  unfold t_X9_tellQuay at hf
  refine Cl.of (own := RX9) (ini := false) (by decide +kernel) rfl (by decide) (Nat.le_of_ble_eq_true rfl) ?_
  show PW g mX9_tellQuay 5 (mT tw τ μ) (mT tw τF μ) (QN g (some (.int rv)) (mT tw τ μ) (mT tw τF μ)) 0 [(0, .ref tw)] [] (mT tw τ μ)
  refine P.aload_n 0 (pc' := 1) dX9_tellQuay_0 rfl rfl rfl ?_
  refine P.iconst (v := 4) (pc' := 2) dX9_tellQuay_1 rfl (by decide) ?_
  refine P.iconst (v := 4) (pc' := 3) dX9_tellQuay_2 rfl (by decide) ?_
  refine P.sipush (v := 160) (pc' := 6) dX9_tellQuay_3 rfl (by decide) ?_
  refine P.iconst (v := 1) (pc' := 7) dX9_tellQuay_6 rfl (by decide) ?_
  obtain ⟨q1, h2, hf⟩ := ob hf
  refine P.callV (pc' := 10) (As := [.int 4, .int 4, .int 160, .int 1]) 4 (ok_X9_next F 4 4 160 1 tw μ τ h2) (Nat.le_of_ble_eq_true rfl) (lw_V q1806 q1808 qs89 q172 q1809) rfl yok_X9_next rfl (Nat.le_of_ble_eq_true rfl) ci9 T_oc (by decide) rfl dX9_tellQuay_7 rfl ?_
  refine P.istore_n (pc' := 11) (lv' := [(1, .int q1.1), (0, .ref tw)]) dX9_tellQuay_10 rfl rfl (Nat.le_of_ble_eq_true rfl) rfl ?_
  refine P.iload_n 0 (pc' := 12) dX9_tellQuay_11 rfl rfl rfl ?_
  refine P.if_ge (tgt := 21) (pc' := 15) dX9_tellQuay_12 (by decide) rfl (fun y3 => ?_) (fun y3 => ?_)
  · have hf := (if_pos y3).symm.trans hf
    refine P.aload_n 1 (pc' := 22) dX9_tellQuay_21 rfl rfl rfl ?_
    obtain ⟨q4, h5, hf⟩ := ob hf
    refine P.callV (pc' := 25) (As := []) 0 (ok_X9_pass F tw μ q1.2 h5) (Nat.le_of_ble_eq_true rfl) (lw_V q1818 q1820 qs92 q172 q1821) rfl yok_X9_pass rfl (Nat.le_of_ble_eq_true rfl) ci9 T_oc (by decide) rfl dX9_tellQuay_22 rfl ?_
    refine P.if_eq (tgt := 36) (pc' := 28) dX9_tellQuay_25 (by decide) rfl (fun y6 => ?_) (fun y6 => ?_)
    · have hf := (if_pos y6).symm.trans hf
      refine P.iconst (v := 0) (pc' := 37) dX9_tellQuay_36 rfl (by decide) ?_
      cases hf; exact P.zret rfl (Or.inl rfl) dX9_tellQuay_37
    · have hf := (if_neg y6).symm.trans hf
      refine P.aload_n 1 (pc' := 29) dX9_tellQuay_28 rfl rfl rfl ?_
      refine P.iconst (v := 0) (pc' := 30) dX9_tellQuay_29 rfl (by decide) ?_
      obtain ⟨q7, h8, hf⟩ := ob hf
      refine P.callV (pc' := 33) (As := [.int 0]) 1 (ok_X9_takesName F 0 tw μ q4.2 h8) (Nat.le_of_ble_eq_true rfl) (lw_V q1846 q1848 qs99 q172 q1849) rfl yok_X9_takesName rfl (Nat.le_of_ble_eq_true rfl) ci9 T_oc (by decide) rfl dX9_tellQuay_30 rfl ?_
      refine P.if_ne (tgt := 38) (pc' := 36) dX9_tellQuay_33 (by decide) rfl (fun y9 => ?_) (fun y9 => ?_)
      · have hf := (if_neg y9).symm.trans hf
        refine P.aload_n 1 (pc' := 39) dX9_tellQuay_38 rfl rfl rfl ?_
        refine P.iload_n 0 (pc' := 40) dX9_tellQuay_39 rfl rfl rfl ?_
        refine P.aload_n 1 (pc' := 41) dX9_tellQuay_40 rfl rfl rfl ?_
        refine P.get (v := .int (q7.2.1 29)) (pc' := 44) ci9 29 (by decide) (T_gf rfl) q1584 (Or.inl rfl) dX9_tellQuay_41 rfl ?_
        obtain ⟨q10, h11, hf⟩ := ob hf
        refine P.callV (pc' := 47) (As := [.int q1.1, .int (q7.2.1 29)]) 2 (ok_X9_tell F q1.1 (q7.2.1 29) tw μ q7.2 h11) (Nat.le_of_ble_eq_true rfl) (lw_V q1810 q1812 qs90 q172 q1813) rfl yok_X9_tell rfl (Nat.le_of_ble_eq_true rfl) ci9 T_oc (by decide) rfl dX9_tellQuay_44 rfl ?_
        refine P.iconst (v := 1) (pc' := 48) dX9_tellQuay_47 rfl (by decide) ?_
        cases hf; exact P.zret rfl (Or.inr rfl) dX9_tellQuay_48
      · have hf := (if_pos y9).symm.trans hf
        refine P.iconst (v := 0) (pc' := 37) dX9_tellQuay_36 rfl (by decide) ?_
        cases hf; exact P.zret rfl (Or.inl rfl) dX9_tellQuay_37
  · have hf := (if_neg y3).symm.trans hf
    refine P.aload_n 1 (pc' := 16) dX9_tellQuay_15 rfl rfl rfl ?_
    refine P.iconst (v := 2) (pc' := 17) dX9_tellQuay_16 rfl (by decide) ?_
    obtain ⟨q12, h13, hf⟩ := ob hf
    refine P.callV (pc' := 20) (As := [.int 2]) 1 (ok_X9_wrong F 2 tw μ q1.2 h13) (Nat.le_of_ble_eq_true rfl) (lw_V q1814 q1816 qs91 q172 q1817) rfl yok_X9_wrong rfl (Nat.le_of_ble_eq_true rfl) ci9 T_oc (by decide) rfl dX9_tellQuay_17 rfl ?_
    by_cases y14 : q12.1 = 0 ∨ q12.1 = 1
    · have hf := (if_pos y14).symm.trans hf
      cases hf; exact P.zret rfl y14 dX9_tellQuay_20
    · have hf := (if_neg y14).symm.trans hf
      cases hf
abbrev mX9_tellStair : Ym := (RX9, cX9_tellStair, 3, (some Jvm.ClassFile.FieldType.boolean), false, [])
noncomputable def t_X9_tellStair_j123 (F : Nat) (v1 : Int32) (τ : Tw) : Option (Int32 × Tw) :=
  Option.bind (t_X9_takesInt F 0 99 τ) fun q1 =>
  if q1.1 = 0 then
    some (0, q1.2)
  else
    Option.bind (t_X9_tell F (v1 + 2) (q1.2.1 29) q1.2) fun q4 =>
    some (1, q4)
set_option maxHeartbeats 4000000 in
theorem ok_t_X9_tellStair_j123 {g : Gx} {μ0 : Sw} {rv : Int32} {τF : Tw} (F : Nat) (tw : Nat) (μ : Sw) (v1 : Int32) (τ : Tw) (hf : t_X9_tellStair_j123 F v1 τ = some (rv, τF)) : PW g mX9_tellStair 5 μ0 (mT tw τF μ) (QN g (some (.int rv)) μ0 (mT tw τF μ)) 123 [(0, .ref tw), (1, .int v1)] [] (mT tw τ μ) := by
  unfold t_X9_tellStair_j123 at hf
  refine P.aload_n 0 (pc' := 124) dX9_tellStair_123 rfl rfl rfl ?_
  refine P.iconst (v := 0) (pc' := 125) dX9_tellStair_124 rfl (by decide) ?_
  refine P.bipush (v := 99) (pc' := 127) dX9_tellStair_125 rfl (by decide) ?_
  obtain ⟨q1, h2, hf⟩ := ob hf
  refine P.callV (pc' := 130) (As := [.int 0, .int 99]) 2 (ok_X9_takesInt F 0 99 tw μ τ h2) (Nat.le_of_ble_eq_true rfl) (lw_V q1834 q1836 qs96 q172 q1837) rfl yok_X9_takesInt rfl (Nat.le_of_ble_eq_true rfl) ci9 T_oc (by decide) rfl dX9_tellStair_127 rfl ?_
  refine P.if_ne (tgt := 135) (pc' := 133) dX9_tellStair_130 (by decide) rfl (fun y3 => ?_) (fun y3 => ?_)
  · have hf := (if_neg y3).symm.trans hf
    refine P.aload_n 0 (pc' := 136) dX9_tellStair_135 rfl rfl rfl ?_
    refine P.iload_n 1 (pc' := 137) dX9_tellStair_136 rfl rfl rfl ?_
    refine P.iconst (v := 2) (pc' := 138) dX9_tellStair_137 rfl (by decide) ?_
    refine P.iadd (pc' := 139) dX9_tellStair_138 rfl ?_
    refine P.aload_n 0 (pc' := 140) dX9_tellStair_139 rfl rfl rfl ?_
    refine P.get (v := .int (q1.2.1 29)) (pc' := 143) ci9 29 (by decide) (T_gf rfl) q1584 (Or.inl rfl) dX9_tellStair_140 rfl ?_
    obtain ⟨q4, h5, hf⟩ := ob hf
    refine P.callV (pc' := 146) (As := [.int (v1 + 2), .int (q1.2.1 29)]) 2 (ok_X9_tell F (v1 + 2) (q1.2.1 29) tw μ q1.2 h5) (Nat.le_of_ble_eq_true rfl) (lw_V q1810 q1812 qs90 q172 q1813) rfl yok_X9_tell rfl (Nat.le_of_ble_eq_true rfl) ci9 T_oc (by decide) rfl dX9_tellStair_143 rfl ?_
    refine P.iconst (v := 1) (pc' := 147) dX9_tellStair_146 rfl (by decide) ?_
    cases hf; exact P.zret rfl (Or.inr rfl) dX9_tellStair_147
  · have hf := (if_pos y3).symm.trans hf
    refine P.iconst (v := 0) (pc' := 134) dX9_tellStair_133 rfl (by decide) ?_
    cases hf; exact P.zret rfl (Or.inl rfl) dX9_tellStair_134
noncomputable def t_X9_tellStair_j112 (F : Nat) (v1 : Int32) (τ : Tw) : Option (Int32 × Tw) :=
  Option.bind (t_X9_tell F (v1 + 1) (τ.1 29) τ) fun q1 =>
  t_X9_tellStair_j123 F v1 q1
set_option maxHeartbeats 4000000 in
theorem ok_t_X9_tellStair_j112 {g : Gx} {μ0 : Sw} {rv : Int32} {τF : Tw} (F : Nat) (tw : Nat) (μ : Sw) (v1 : Int32) (τ : Tw) (hf : t_X9_tellStair_j112 F v1 τ = some (rv, τF)) : PW g mX9_tellStair 5 μ0 (mT tw τF μ) (QN g (some (.int rv)) μ0 (mT tw τF μ)) 112 [(0, .ref tw), (1, .int v1)] [] (mT tw τ μ) := by
  unfold t_X9_tellStair_j112 at hf
  refine P.aload_n 0 (pc' := 113) dX9_tellStair_112 rfl rfl rfl ?_
  refine P.iload_n 1 (pc' := 114) dX9_tellStair_113 rfl rfl rfl ?_
  refine P.iconst (v := 1) (pc' := 115) dX9_tellStair_114 rfl (by decide) ?_
  refine P.iadd (pc' := 116) dX9_tellStair_115 rfl ?_
  refine P.aload_n 0 (pc' := 117) dX9_tellStair_116 rfl rfl rfl ?_
  refine P.get (v := .int (τ.1 29)) (pc' := 120) ci9 29 (by decide) (T_gf rfl) q1584 (Or.inl rfl) dX9_tellStair_117 rfl ?_
  obtain ⟨q1, h2, hf⟩ := ob hf
  refine P.callV (pc' := 123) (As := [.int (v1 + 1), .int (τ.1 29)]) 2 (ok_X9_tell F (v1 + 1) (τ.1 29) tw μ τ h2) (Nat.le_of_ble_eq_true rfl) (lw_V q1810 q1812 qs90 q172 q1813) rfl yok_X9_tell rfl (Nat.le_of_ble_eq_true rfl) ci9 T_oc (by decide) rfl dX9_tellStair_120 rfl ?_
  exact PW.sub [0, 1] rfl (ok_t_X9_tellStair_j123 F tw μ v1 q1 hf)
noncomputable def t_X9_tellStair (F : Nat) (τ : Tw) : Option (Int32 × Tw) :=
  Option.bind (t_X9_next F 3 12 120 3 τ) fun q1 =>
  if 0 ≤ q1.1 then
    Option.bind (t_X9_pass F q1.2) fun q4 =>
    if q4.1 = 0 then
      some (0, q4.2)
    else
      Option.bind (t_X9_takesName F 0 q4.2) fun q7 =>
      if q7.1 = 0 then
        some (0, q7.2)
      else
        Option.bind (t_X9_tell F q1.1 (q7.2.1 29) q7.2) fun q10 =>
        Option.bind (t_X9_tell F (q1.1 + 1) (-1) q10) fun q12 =>
        Option.bind (t_X9_isWord F 4 q12) fun q14 =>
        if q14 = 0 then
          nm (q12.1 7) fun x17 =>
          Option.bind (t_X9_takesName F 0 q12) fun q19 =>
          if q19.1 = 0 then
            some (0, q19.2)
          else
            if (q19.2.1 29) < 0 then
              t_X9_tellStair_j112 F q1.1 q19.2
            else
              Option.bind (t_X9_told F q1.1 q19.2) fun q23 =>
              if (q19.2.1 29) = q23 then
                Option.bind (t_X9_tells F 5 x17 q19.2) fun q26 =>
                t_X9_tellStair_j112 F q1.1 q26
              else
                t_X9_tellStair_j112 F q1.1 q19.2
        else
          Option.bind (t_X9_pass F q12) fun q28 =>
          if q28.1 = 0 then
            some (0, q28.2)
          else
            t_X9_tellStair_j123 F q1.1 q28.2
  else
    Option.bind (t_X9_wrong F 2 q1.2) fun q31 =>
    if q31.1 = 0 ∨ q31.1 = 1 then
      some (q31.1, q31.2)
    else
      none
set_option maxHeartbeats 4000000 in
theorem ok_X9_tellStair {g : Gx} (F : Nat) (tw : Nat) (μ : Sw) (τ : Tw) {rv : Int32} {τF : Tw} (hf : t_X9_tellStair F τ = some (rv, τF)) : Cl g 5 yX9_tellStair cX9_tellStair 3 (some Jvm.ClassFile.FieldType.boolean) [.ref tw] (mT tw τ μ) (some (.int rv)) (mT tw τF μ) := by
  unfold t_X9_tellStair at hf
  refine Cl.of (own := RX9) (ini := false) (by decide +kernel) rfl (by decide) (Nat.le_of_ble_eq_true rfl) ?_
  show PW g mX9_tellStair 5 (mT tw τ μ) (mT tw τF μ) (QN g (some (.int rv)) (mT tw τ μ) (mT tw τF μ)) 0 [(0, .ref tw)] [] (mT tw τ μ)
  refine P.aload_n 0 (pc' := 1) dX9_tellStair_0 rfl rfl rfl ?_
  refine P.iconst (v := 3) (pc' := 2) dX9_tellStair_1 rfl (by decide) ?_
  refine P.bipush (v := 12) (pc' := 4) dX9_tellStair_2 rfl (by decide) ?_
  refine P.bipush (v := 120) (pc' := 6) dX9_tellStair_4 rfl (by decide) ?_
  refine P.iconst (v := 3) (pc' := 7) dX9_tellStair_6 rfl (by decide) ?_
  obtain ⟨q1, h2, hf⟩ := ob hf
  refine P.callV (pc' := 10) (As := [.int 3, .int 12, .int 120, .int 3]) 4 (ok_X9_next F 3 12 120 3 tw μ τ h2) (Nat.le_of_ble_eq_true rfl) (lw_V q1806 q1808 qs89 q172 q1809) rfl yok_X9_next rfl (Nat.le_of_ble_eq_true rfl) ci9 T_oc (by decide) rfl dX9_tellStair_7 rfl ?_
  refine P.istore_n (pc' := 11) (lv' := [(1, .int q1.1), (0, .ref tw)]) dX9_tellStair_10 rfl rfl (Nat.le_of_ble_eq_true rfl) rfl ?_
  refine P.iload_n 0 (pc' := 12) dX9_tellStair_11 rfl rfl rfl ?_
  refine P.if_ge (tgt := 21) (pc' := 15) dX9_tellStair_12 (by decide) rfl (fun y3 => ?_) (fun y3 => ?_)
  · have hf := (if_pos y3).symm.trans hf
    refine P.aload_n 1 (pc' := 22) dX9_tellStair_21 rfl rfl rfl ?_
    obtain ⟨q4, h5, hf⟩ := ob hf
    refine P.callV (pc' := 25) (As := []) 0 (ok_X9_pass F tw μ q1.2 h5) (Nat.le_of_ble_eq_true rfl) (lw_V q1818 q1820 qs92 q172 q1821) rfl yok_X9_pass rfl (Nat.le_of_ble_eq_true rfl) ci9 T_oc (by decide) rfl dX9_tellStair_22 rfl ?_
    refine P.if_eq (tgt := 36) (pc' := 28) dX9_tellStair_25 (by decide) rfl (fun y6 => ?_) (fun y6 => ?_)
    · have hf := (if_pos y6).symm.trans hf
      refine P.iconst (v := 0) (pc' := 37) dX9_tellStair_36 rfl (by decide) ?_
      cases hf; exact P.zret rfl (Or.inl rfl) dX9_tellStair_37
    · have hf := (if_neg y6).symm.trans hf
      refine P.aload_n 1 (pc' := 29) dX9_tellStair_28 rfl rfl rfl ?_
      refine P.iconst (v := 0) (pc' := 30) dX9_tellStair_29 rfl (by decide) ?_
      obtain ⟨q7, h8, hf⟩ := ob hf
      refine P.callV (pc' := 33) (As := [.int 0]) 1 (ok_X9_takesName F 0 tw μ q4.2 h8) (Nat.le_of_ble_eq_true rfl) (lw_V q1846 q1848 qs99 q172 q1849) rfl yok_X9_takesName rfl (Nat.le_of_ble_eq_true rfl) ci9 T_oc (by decide) rfl dX9_tellStair_30 rfl ?_
      refine P.if_ne (tgt := 38) (pc' := 36) dX9_tellStair_33 (by decide) rfl (fun y9 => ?_) (fun y9 => ?_)
      · have hf := (if_neg y9).symm.trans hf
        refine P.aload_n 1 (pc' := 39) dX9_tellStair_38 rfl rfl rfl ?_
        refine P.iload_n 0 (pc' := 40) dX9_tellStair_39 rfl rfl rfl ?_
        refine P.aload_n 1 (pc' := 41) dX9_tellStair_40 rfl rfl rfl ?_
        refine P.get (v := .int (q7.2.1 29)) (pc' := 44) ci9 29 (by decide) (T_gf rfl) q1584 (Or.inl rfl) dX9_tellStair_41 rfl ?_
        obtain ⟨q10, h11, hf⟩ := ob hf
        refine P.callV (pc' := 47) (As := [.int q1.1, .int (q7.2.1 29)]) 2 (ok_X9_tell F q1.1 (q7.2.1 29) tw μ q7.2 h11) (Nat.le_of_ble_eq_true rfl) (lw_V q1810 q1812 qs90 q172 q1813) rfl yok_X9_tell rfl (Nat.le_of_ble_eq_true rfl) ci9 T_oc (by decide) rfl dX9_tellStair_44 rfl ?_
        refine P.aload_n 1 (pc' := 48) dX9_tellStair_47 rfl rfl rfl ?_
        refine P.iload_n 0 (pc' := 49) dX9_tellStair_48 rfl rfl rfl ?_
        refine P.iconst (v := 1) (pc' := 50) dX9_tellStair_49 rfl (by decide) ?_
        refine P.iadd (pc' := 51) dX9_tellStair_50 rfl ?_
        refine P.iconst (v := (-1)) (pc' := 52) dX9_tellStair_51 rfl (by decide) ?_
        obtain ⟨q12, h13, hf⟩ := ob hf
        refine P.callV (pc' := 55) (As := [.int (q1.1 + 1), .int (-1)]) 2 (ok_X9_tell F (q1.1 + 1) (-1) tw μ q10 h13) (Nat.le_of_ble_eq_true rfl) (lw_V q1810 q1812 qs90 q172 q1813) rfl yok_X9_tell rfl (Nat.le_of_ble_eq_true rfl) ci9 T_oc (by decide) rfl dX9_tellStair_52 rfl ?_
        refine P.aload_n 1 (pc' := 56) dX9_tellStair_55 rfl rfl rfl ?_
        refine P.iconst (v := 4) (pc' := 57) dX9_tellStair_56 rfl (by decide) ?_
        obtain ⟨q14, h15, hf⟩ := ob hf
        refine P.callV (pc' := 60) (As := [.int 4]) 1 (ok_X9_isWord F 4 tw μ q12 h15) (Nat.le_of_ble_eq_true rfl) (lw_V q1854 q1856 qs101 q172 q1857) rfl yok_X9_isWord rfl (Nat.le_of_ble_eq_true rfl) ci9 T_oc (by decide) rfl dX9_tellStair_57 rfl ?_
        refine P.if_eq (tgt := 72) (pc' := 63) dX9_tellStair_60 (by decide) rfl (fun y16 => ?_) (fun y16 => ?_)
        · have hf := (if_pos y16).symm.trans hf
          refine P.aload_n 1 (pc' := 73) dX9_tellStair_72 rfl rfl rfl ?_
          refine P.get (v := .int (q12.1 7)) (pc' := 76) ci9 7 (by decide) (T_gf rfl) q1562 (Or.inl rfl) dX9_tellStair_73 rfl ?_
          obtain ⟨x17, e18, hf⟩ := nm_i hf
          refine P.nmi e18 ?_
          refine P.istore_n (pc' := 77) (lv' := [(2, .int x17), (1, .int q1.1), (0, .ref tw)]) dX9_tellStair_76 rfl rfl (Nat.le_of_ble_eq_true rfl) rfl ?_
          refine P.aload_n 2 (pc' := 78) dX9_tellStair_77 rfl rfl rfl ?_
          refine P.iconst (v := 0) (pc' := 79) dX9_tellStair_78 rfl (by decide) ?_
          obtain ⟨q19, h20, hf⟩ := ob hf
          refine P.callV (pc' := 82) (As := [.int 0]) 1 (ok_X9_takesName F 0 tw μ q12 h20) (Nat.le_of_ble_eq_true rfl) (lw_V q1846 q1848 qs99 q172 q1849) rfl yok_X9_takesName rfl (Nat.le_of_ble_eq_true rfl) ci9 T_oc (by decide) rfl dX9_tellStair_79 rfl ?_
          refine P.if_ne (tgt := 87) (pc' := 85) dX9_tellStair_82 (by decide) rfl (fun y21 => ?_) (fun y21 => ?_)
          · have hf := (if_neg y21).symm.trans hf
            refine P.aload_n 2 (pc' := 88) dX9_tellStair_87 rfl rfl rfl ?_
            refine P.get (v := .int (q19.2.1 29)) (pc' := 91) ci9 29 (by decide) (T_gf rfl) q1584 (Or.inl rfl) dX9_tellStair_88 rfl ?_
            refine P.if_lt (tgt := 112) (pc' := 94) dX9_tellStair_91 (by decide) rfl (fun y22 => ?_) (fun y22 => ?_)
            · have hf := (if_pos y22).symm.trans hf
              exact PW.sub [2, 1] rfl (ok_t_X9_tellStair_j112 F tw μ q1.1 q19.2 hf)
            · have hf := (if_neg y22).symm.trans hf
              refine P.aload_n 2 (pc' := 95) dX9_tellStair_94 rfl rfl rfl ?_
              refine P.get (v := .int (q19.2.1 29)) (pc' := 98) ci9 29 (by decide) (T_gf rfl) q1584 (Or.inl rfl) dX9_tellStair_95 rfl ?_
              refine P.aload_n 2 (pc' := 99) dX9_tellStair_98 rfl rfl rfl ?_
              refine P.iload_n 1 (pc' := 100) dX9_tellStair_99 rfl rfl rfl ?_
              obtain ⟨q23, h24, hf⟩ := ob hf
              refine P.callV (pc' := 103) (As := [.int q1.1]) 1 (ok_X9_told F q1.1 tw μ q19.2 h24) (Nat.le_of_ble_eq_true rfl) (lw_V q1802 q1804 qs88 q172 q1805) rfl yok_X9_told rfl (Nat.le_of_ble_eq_true rfl) ci9 T_oc (Nat.le_of_ble_eq_true rfl) rfl dX9_tellStair_100 rfl ?_
              refine P.icmp_ne (tgt := 112) (pc' := 106) dX9_tellStair_103 (by decide) rfl (fun y25 => ?_) (fun y25 => ?_)
              · have hf := (if_neg y25).symm.trans hf
                exact PW.sub [2, 1] rfl (ok_t_X9_tellStair_j112 F tw μ q1.1 q19.2 hf)
              · have hf := (if_pos y25).symm.trans hf
                refine P.aload_n 2 (pc' := 107) dX9_tellStair_106 rfl rfl rfl ?_
                refine P.iconst (v := 5) (pc' := 108) dX9_tellStair_107 rfl (by decide) ?_
                refine P.iload_n 0 (pc' := 109) dX9_tellStair_108 rfl rfl rfl ?_
                obtain ⟨q26, h27, hf⟩ := ob hf
                refine P.callV (pc' := 112) (As := [.int 5, .int x17]) 2 (ok_X9_tells F 5 x17 tw μ q19.2 h27) (Nat.le_of_ble_eq_true rfl) (lw_V q1830 q1832 qs95 q172 q1833) rfl yok_X9_tells rfl (Nat.le_of_ble_eq_true rfl) ci9 T_oc (by decide) rfl dX9_tellStair_109 rfl ?_
                exact PW.sub [2, 1] rfl (ok_t_X9_tellStair_j112 F tw μ q1.1 q26 hf)
          · have hf := (if_pos y21).symm.trans hf
            refine P.iconst (v := 0) (pc' := 86) dX9_tellStair_85 rfl (by decide) ?_
            cases hf; exact P.zret rfl (Or.inl rfl) dX9_tellStair_86
        · have hf := (if_neg y16).symm.trans hf
          refine P.aload_n 1 (pc' := 64) dX9_tellStair_63 rfl rfl rfl ?_
          obtain ⟨q28, h29, hf⟩ := ob hf
          refine P.callV (pc' := 67) (As := []) 0 (ok_X9_pass F tw μ q12 h29) (Nat.le_of_ble_eq_true rfl) (lw_V q1818 q1820 qs92 q172 q1821) rfl yok_X9_pass rfl (Nat.le_of_ble_eq_true rfl) ci9 T_oc (by decide) rfl dX9_tellStair_64 rfl ?_
          refine P.if_ne (tgt := 123) (pc' := 70) dX9_tellStair_67 (by decide) rfl (fun y30 => ?_) (fun y30 => ?_)
          · have hf := (if_neg y30).symm.trans hf
            exact PW.sub [1, 0] rfl (ok_t_X9_tellStair_j123 F tw μ q1.1 q28.2 hf)
          · have hf := (if_pos y30).symm.trans hf
            refine P.iconst (v := 0) (pc' := 71) dX9_tellStair_70 rfl (by decide) ?_
            cases hf; exact P.zret rfl (Or.inl rfl) dX9_tellStair_71
      · have hf := (if_pos y9).symm.trans hf
        refine P.iconst (v := 0) (pc' := 37) dX9_tellStair_36 rfl (by decide) ?_
        cases hf; exact P.zret rfl (Or.inl rfl) dX9_tellStair_37
  · have hf := (if_neg y3).symm.trans hf
    refine P.aload_n 1 (pc' := 16) dX9_tellStair_15 rfl rfl rfl ?_
    refine P.iconst (v := 2) (pc' := 17) dX9_tellStair_16 rfl (by decide) ?_
    obtain ⟨q31, h32, hf⟩ := ob hf
    refine P.callV (pc' := 20) (As := [.int 2]) 1 (ok_X9_wrong F 2 tw μ q1.2 h32) (Nat.le_of_ble_eq_true rfl) (lw_V q1814 q1816 qs91 q172 q1817) rfl yok_X9_wrong rfl (Nat.le_of_ble_eq_true rfl) ci9 T_oc (by decide) rfl dX9_tellStair_17 rfl ?_
    by_cases y33 : q31.1 = 0 ∨ q31.1 = 1
    · have hf := (if_pos y33).symm.trans hf
      cases hf; exact P.zret rfl y33 dX9_tellStair_20
    · have hf := (if_neg y33).symm.trans hf
      cases hf
abbrev mX9_tellIn : Ym := (RX9, cX9_tellIn, 2, (some Jvm.ClassFile.FieldType.boolean), false, [])
noncomputable def t_X9_tellIn (F : Nat) (τ : Tw) : Option (Int32 × Tw) :=
  Option.bind (t_X9_next F 2 12 90 2 τ) fun q1 =>
  if 0 ≤ q1.1 then
    Option.bind (t_X9_pass F q1.2) fun q4 =>
    if q4.1 = 0 then
      some (0, q4.2)
    else
      Option.bind (t_X9_takesName F 0 q4.2) fun q7 =>
      if q7.1 = 0 then
        some (0, q7.2)
      else
        Option.bind (t_X9_tell F q1.1 (q7.2.1 29) q7.2) fun q10 =>
        Option.bind (t_X9_takesName F 1 q10) fun q12 =>
        if q12.1 = 0 then
          some (0, q12.2)
        else
          Option.bind (t_X9_tell F (q1.1 + 1) (q12.2.1 29) q12.2) fun q15 =>
          some (1, q15)
  else
    Option.bind (t_X9_wrong F 2 q1.2) fun q17 =>
    if q17.1 = 0 ∨ q17.1 = 1 then
      some (q17.1, q17.2)
    else
      none
set_option maxHeartbeats 4000000 in
theorem ok_X9_tellIn {g : Gx} (F : Nat) (tw : Nat) (μ : Sw) (τ : Tw) {rv : Int32} {τF : Tw} (hf : t_X9_tellIn F τ = some (rv, τF)) : Cl g 5 yX9_tellIn cX9_tellIn 2 (some Jvm.ClassFile.FieldType.boolean) [.ref tw] (mT tw τ μ) (some (.int rv)) (mT tw τF μ) := by
  unfold t_X9_tellIn at hf
  refine Cl.of (own := RX9) (ini := false) (by decide +kernel) rfl (by decide) (Nat.le_of_ble_eq_true rfl) ?_
  show PW g mX9_tellIn 5 (mT tw τ μ) (mT tw τF μ) (QN g (some (.int rv)) (mT tw τ μ) (mT tw τF μ)) 0 [(0, .ref tw)] [] (mT tw τ μ)
  refine P.aload_n 0 (pc' := 1) dX9_tellIn_0 rfl rfl rfl ?_
  refine P.iconst (v := 2) (pc' := 2) dX9_tellIn_1 rfl (by decide) ?_
  refine P.bipush (v := 12) (pc' := 4) dX9_tellIn_2 rfl (by decide) ?_
  refine P.bipush (v := 90) (pc' := 6) dX9_tellIn_4 rfl (by decide) ?_
  refine P.iconst (v := 2) (pc' := 7) dX9_tellIn_6 rfl (by decide) ?_
  obtain ⟨q1, h2, hf⟩ := ob hf
  refine P.callV (pc' := 10) (As := [.int 2, .int 12, .int 90, .int 2]) 4 (ok_X9_next F 2 12 90 2 tw μ τ h2) (Nat.le_of_ble_eq_true rfl) (lw_V q1806 q1808 qs89 q172 q1809) rfl yok_X9_next rfl (Nat.le_of_ble_eq_true rfl) ci9 T_oc (by decide) rfl dX9_tellIn_7 rfl ?_
  refine P.istore_n (pc' := 11) (lv' := [(1, .int q1.1), (0, .ref tw)]) dX9_tellIn_10 rfl rfl (Nat.le_of_ble_eq_true rfl) rfl ?_
  refine P.iload_n 0 (pc' := 12) dX9_tellIn_11 rfl rfl rfl ?_
  refine P.if_ge (tgt := 21) (pc' := 15) dX9_tellIn_12 (by decide) rfl (fun y3 => ?_) (fun y3 => ?_)
  · have hf := (if_pos y3).symm.trans hf
    refine P.aload_n 1 (pc' := 22) dX9_tellIn_21 rfl rfl rfl ?_
    obtain ⟨q4, h5, hf⟩ := ob hf
    refine P.callV (pc' := 25) (As := []) 0 (ok_X9_pass F tw μ q1.2 h5) (Nat.le_of_ble_eq_true rfl) (lw_V q1818 q1820 qs92 q172 q1821) rfl yok_X9_pass rfl (Nat.le_of_ble_eq_true rfl) ci9 T_oc (by decide) rfl dX9_tellIn_22 rfl ?_
    refine P.if_eq (tgt := 36) (pc' := 28) dX9_tellIn_25 (by decide) rfl (fun y6 => ?_) (fun y6 => ?_)
    · have hf := (if_pos y6).symm.trans hf
      refine P.iconst (v := 0) (pc' := 37) dX9_tellIn_36 rfl (by decide) ?_
      cases hf; exact P.zret rfl (Or.inl rfl) dX9_tellIn_37
    · have hf := (if_neg y6).symm.trans hf
      refine P.aload_n 1 (pc' := 29) dX9_tellIn_28 rfl rfl rfl ?_
      refine P.iconst (v := 0) (pc' := 30) dX9_tellIn_29 rfl (by decide) ?_
      obtain ⟨q7, h8, hf⟩ := ob hf
      refine P.callV (pc' := 33) (As := [.int 0]) 1 (ok_X9_takesName F 0 tw μ q4.2 h8) (Nat.le_of_ble_eq_true rfl) (lw_V q1846 q1848 qs99 q172 q1849) rfl yok_X9_takesName rfl (Nat.le_of_ble_eq_true rfl) ci9 T_oc (by decide) rfl dX9_tellIn_30 rfl ?_
      refine P.if_ne (tgt := 38) (pc' := 36) dX9_tellIn_33 (by decide) rfl (fun y9 => ?_) (fun y9 => ?_)
      · have hf := (if_neg y9).symm.trans hf
        refine P.aload_n 1 (pc' := 39) dX9_tellIn_38 rfl rfl rfl ?_
        refine P.iload_n 0 (pc' := 40) dX9_tellIn_39 rfl rfl rfl ?_
        refine P.aload_n 1 (pc' := 41) dX9_tellIn_40 rfl rfl rfl ?_
        refine P.get (v := .int (q7.2.1 29)) (pc' := 44) ci9 29 (by decide) (T_gf rfl) q1584 (Or.inl rfl) dX9_tellIn_41 rfl ?_
        obtain ⟨q10, h11, hf⟩ := ob hf
        refine P.callV (pc' := 47) (As := [.int q1.1, .int (q7.2.1 29)]) 2 (ok_X9_tell F q1.1 (q7.2.1 29) tw μ q7.2 h11) (Nat.le_of_ble_eq_true rfl) (lw_V q1810 q1812 qs90 q172 q1813) rfl yok_X9_tell rfl (Nat.le_of_ble_eq_true rfl) ci9 T_oc (by decide) rfl dX9_tellIn_44 rfl ?_
        refine P.aload_n 1 (pc' := 48) dX9_tellIn_47 rfl rfl rfl ?_
        refine P.iconst (v := 1) (pc' := 49) dX9_tellIn_48 rfl (by decide) ?_
        obtain ⟨q12, h13, hf⟩ := ob hf
        refine P.callV (pc' := 52) (As := [.int 1]) 1 (ok_X9_takesName F 1 tw μ q10 h13) (Nat.le_of_ble_eq_true rfl) (lw_V q1846 q1848 qs99 q172 q1849) rfl yok_X9_takesName rfl (Nat.le_of_ble_eq_true rfl) ci9 T_oc (by decide) rfl dX9_tellIn_49 rfl ?_
        refine P.if_ne (tgt := 57) (pc' := 55) dX9_tellIn_52 (by decide) rfl (fun y14 => ?_) (fun y14 => ?_)
        · have hf := (if_neg y14).symm.trans hf
          refine P.aload_n 1 (pc' := 58) dX9_tellIn_57 rfl rfl rfl ?_
          refine P.iload_n 0 (pc' := 59) dX9_tellIn_58 rfl rfl rfl ?_
          refine P.iconst (v := 1) (pc' := 60) dX9_tellIn_59 rfl (by decide) ?_
          refine P.iadd (pc' := 61) dX9_tellIn_60 rfl ?_
          refine P.aload_n 1 (pc' := 62) dX9_tellIn_61 rfl rfl rfl ?_
          refine P.get (v := .int (q12.2.1 29)) (pc' := 65) ci9 29 (by decide) (T_gf rfl) q1584 (Or.inl rfl) dX9_tellIn_62 rfl ?_
          obtain ⟨q15, h16, hf⟩ := ob hf
          refine P.callV (pc' := 68) (As := [.int (q1.1 + 1), .int (q12.2.1 29)]) 2 (ok_X9_tell F (q1.1 + 1) (q12.2.1 29) tw μ q12.2 h16) (Nat.le_of_ble_eq_true rfl) (lw_V q1810 q1812 qs90 q172 q1813) rfl yok_X9_tell rfl (Nat.le_of_ble_eq_true rfl) ci9 T_oc (by decide) rfl dX9_tellIn_65 rfl ?_
          refine P.iconst (v := 1) (pc' := 69) dX9_tellIn_68 rfl (by decide) ?_
          cases hf; exact P.zret rfl (Or.inr rfl) dX9_tellIn_69
        · have hf := (if_pos y14).symm.trans hf
          refine P.iconst (v := 0) (pc' := 56) dX9_tellIn_55 rfl (by decide) ?_
          cases hf; exact P.zret rfl (Or.inl rfl) dX9_tellIn_56
      · have hf := (if_pos y9).symm.trans hf
        refine P.iconst (v := 0) (pc' := 37) dX9_tellIn_36 rfl (by decide) ?_
        cases hf; exact P.zret rfl (Or.inl rfl) dX9_tellIn_37
  · have hf := (if_neg y3).symm.trans hf
    refine P.aload_n 1 (pc' := 16) dX9_tellIn_15 rfl rfl rfl ?_
    refine P.iconst (v := 2) (pc' := 17) dX9_tellIn_16 rfl (by decide) ?_
    obtain ⟨q17, h18, hf⟩ := ob hf
    refine P.callV (pc' := 20) (As := [.int 2]) 1 (ok_X9_wrong F 2 tw μ q1.2 h18) (Nat.le_of_ble_eq_true rfl) (lw_V q1814 q1816 qs91 q172 q1817) rfl yok_X9_wrong rfl (Nat.le_of_ble_eq_true rfl) ci9 T_oc (by decide) rfl dX9_tellIn_17 rfl ?_
    by_cases y19 : q17.1 = 0 ∨ q17.1 = 1
    · have hf := (if_pos y19).symm.trans hf
      cases hf; exact P.zret rfl y19 dX9_tellIn_20
    · have hf := (if_neg y19).symm.trans hf
      cases hf
