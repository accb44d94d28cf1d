set_option maxRecDepth 100000
/-! the law: one case after the other -/
abbrev mL : Ym := ("StiltTownLaw", code, 4, (some .boolean), false, [(0, 0, 0, 0)])
section LAW
variable {g : Gx} {d0 : Nat} {μ0 μF : Sw} {Qk : List Frame → Array Value → State → State → Prop}
set_option maxHeartbeats 4000000 in
theorem L_case0 {cw tw b : Nat} {i r x1 x2 x3 x4 x5 : Int32} {M M1 M2 : Sw} {u1 u2 : Unit} (e1 : aI M 10 b (i + 1) = some x1) (g1 : aI M1 10 b (i + 1) = some x1) (e2 : aI M 10 b (i + 2) = some x2) (g2 : aI M1 10 b (i + 2) = some x2) (e3 : aI M 10 b (i + 3) = some x3) (g3 : aI M1 10 b (i + 3) = some x3) (e4 : aI M 10 b (i + 4) = some x4) (g4 : aI M1 10 b (i + 4) = some x4) (e5 : aI M 10 b (i + 5) = some x5) (g5 : aI M1 10 b (i + 5) = some x5) (hc : oc M cw 0 = some u1) (ht : oc M1 tw 9 = some u2) (hC : Cl g 3 yX0_feed cX0_feed 6 (some Jvm.ClassFile.FieldType.int) [.ref cw, .int x1, .int x2, .int x3, .int x4, .int x5] M (some (.int r)) M1) (hT : Cl g 2 yX9_feed cX9_feed 6 (some Jvm.ClassFile.FieldType.int) [.ref tw, .int x1, .int x2, .int x3, .int x4, .int x5] M1 (some (.int r)) M2) (kk : PW g mL 1562 μ0 μF Qk 1533 [(3, .int i), (2, .ref tw), (1, .ref cw), (0, .ref b)] [] M2) : PW g mL 1562 μ0 μF Qk 220 [(3, .int i), (2, .ref tw), (1, .ref cw), (0, .ref b)] [] M := by
  refine P.aload_n 2 (pc' := 221) dL_law_220 rfl rfl rfl ?_
  refine P.aload_n 3 (pc' := 222) dL_law_221 rfl rfl rfl ?_
  refine P.iload_n 0 (pc' := 223) dL_law_222 rfl rfl rfl ?_
  refine P.iconst (v := 1) (pc' := 224) dL_law_223 rfl rfl ?_
  refine P.iadd (pc' := 225) dL_law_224 rfl ?_
  refine P.iald (t := 10) (pc' := 226) rfl e1 dL_law_225 rfl ?_
  refine P.aload_n 3 (pc' := 227) dL_law_226 rfl rfl rfl ?_
  refine P.iload_n 0 (pc' := 228) dL_law_227 rfl rfl rfl ?_
  refine P.iconst (v := 2) (pc' := 229) dL_law_228 rfl rfl ?_
  refine P.iadd (pc' := 230) dL_law_229 rfl ?_
  refine P.iald (t := 10) (pc' := 231) rfl e2 dL_law_230 rfl ?_
  refine P.aload_n 3 (pc' := 232) dL_law_231 rfl rfl rfl ?_
  refine P.iload_n 0 (pc' := 233) dL_law_232 rfl rfl rfl ?_
  refine P.iconst (v := 3) (pc' := 234) dL_law_233 rfl rfl ?_
  refine P.iadd (pc' := 235) dL_law_234 rfl ?_
  refine P.iald (t := 10) (pc' := 236) rfl e3 dL_law_235 rfl ?_
  refine P.aload_n 3 (pc' := 237) dL_law_236 rfl rfl rfl ?_
  refine P.iload_n 0 (pc' := 238) dL_law_237 rfl rfl rfl ?_
  refine P.iconst (v := 4) (pc' := 239) dL_law_238 rfl rfl ?_
  refine P.iadd (pc' := 240) dL_law_239 rfl ?_
  refine P.iald (t := 10) (pc' := 241) rfl e4 dL_law_240 rfl ?_
  refine P.aload_n 3 (pc' := 242) dL_law_241 rfl rfl rfl ?_
  refine P.iload_n 0 (pc' := 243) dL_law_242 rfl rfl rfl ?_
  refine P.iconst (v := 5) (pc' := 244) dL_law_243 rfl rfl ?_
  refine P.iadd (pc' := 245) dL_law_244 rfl ?_
  refine P.iald (t := 10) (pc' := 246) rfl e5 dL_law_245 rfl ?_
  refine P.callV (pc' := 249) (As := [.int x1, .int x2, .int x3, .int x4, .int x5]) (rest := []) 5 hC (Nat.le_of_ble_eq_true rfl) (lw_V q536 q537 q538 q159 q539) rfl ⟨by decide +kernel, by decide +kernel, by decide +kernel⟩ rfl (Nat.le_of_ble_eq_true rfl) ci0 hc (Nat.le_of_ble_eq_true rfl) rfl dL_law_246 rfl ?_
  refine P.aload_n 1 (pc' := 250) dL_law_249 rfl rfl rfl ?_
  refine P.aload_n 3 (pc' := 251) dL_law_250 rfl rfl rfl ?_
  refine P.iload_n 0 (pc' := 252) dL_law_251 rfl rfl rfl ?_
  refine P.iconst (v := 1) (pc' := 253) dL_law_252 rfl rfl ?_
  refine P.iadd (pc' := 254) dL_law_253 rfl ?_
  refine P.iald (t := 10) (pc' := 255) rfl g1 dL_law_254 rfl ?_
  refine P.aload_n 3 (pc' := 256) dL_law_255 rfl rfl rfl ?_
  refine P.iload_n 0 (pc' := 257) dL_law_256 rfl rfl rfl ?_
  refine P.iconst (v := 2) (pc' := 258) dL_law_257 rfl rfl ?_
  refine P.iadd (pc' := 259) dL_law_258 rfl ?_
  refine P.iald (t := 10) (pc' := 260) rfl g2 dL_law_259 rfl ?_
  refine P.aload_n 3 (pc' := 261) dL_law_260 rfl rfl rfl ?_
  refine P.iload_n 0 (pc' := 262) dL_law_261 rfl rfl rfl ?_
  refine P.iconst (v := 3) (pc' := 263) dL_law_262 rfl rfl ?_
  refine P.iadd (pc' := 264) dL_law_263 rfl ?_
  refine P.iald (t := 10) (pc' := 265) rfl g3 dL_law_264 rfl ?_
  refine P.aload_n 3 (pc' := 266) dL_law_265 rfl rfl rfl ?_
  refine P.iload_n 0 (pc' := 267) dL_law_266 rfl rfl rfl ?_
  refine P.iconst (v := 4) (pc' := 268) dL_law_267 rfl rfl ?_
  refine P.iadd (pc' := 269) dL_law_268 rfl ?_
  refine P.iald (t := 10) (pc' := 270) rfl g4 dL_law_269 rfl ?_
  refine P.aload_n 3 (pc' := 271) dL_law_270 rfl rfl rfl ?_
  refine P.iload_n 0 (pc' := 272) dL_law_271 rfl rfl rfl ?_
  refine P.iconst (v := 5) (pc' := 273) dL_law_272 rfl rfl ?_
  refine P.iadd (pc' := 274) dL_law_273 rfl ?_
  refine P.iald (t := 10) (pc' := 275) rfl g5 dL_law_274 rfl ?_
  refine P.callV (pc' := 278) (As := [.int x1, .int x2, .int x3, .int x4, .int x5]) (rest := [.int r]) 5 hT (Nat.le_of_ble_eq_true rfl) (lw_V q1715 q1716 q1717 q172 q1718) rfl ⟨by decide +kernel, by decide +kernel, by decide +kernel⟩ rfl (Nat.le_of_ble_eq_true rfl) ci9 ht (Nat.le_of_ble_eq_true rfl) rfl dL_law_275 rfl ?_
  refine P.icmp_eq (tgt := 1533) (pc' := 281) dL_law_278 (by decide) rfl (fun _ => kk) (fun z => absurd rfl z)
set_option maxHeartbeats 4000000 in
theorem L_case1 {cw tw b : Nat} {i r x1 : Int32} {M M1 M2 : Sw} {u1 u2 : Unit} (e1 : aI M 10 b (i + 1) = some x1) (g1 : aI M1 10 b (i + 1) = some x1) (hc : oc M cw 0 = some u1) (ht : oc M1 tw 9 = some u2) (hC : Cl g 3 yX0_back cX0_back 2 (some Jvm.ClassFile.FieldType.int) [.ref cw, .int x1] M (some (.int r)) M1) (hT : Cl g 1 yX9_back cX9_back 2 (some Jvm.ClassFile.FieldType.int) [.ref tw, .int x1] M1 (some (.int r)) M2) (kk : PW g mL 1562 μ0 μF Qk 1533 [(3, .int i), (2, .ref tw), (1, .ref cw), (0, .ref b)] [] M2) : PW g mL 1562 μ0 μF Qk 283 [(3, .int i), (2, .ref tw), (1, .ref cw), (0, .ref b)] [] M := by
  refine P.aload_n 2 (pc' := 284) dL_law_283 rfl rfl rfl ?_
  refine P.aload_n 3 (pc' := 285) dL_law_284 rfl rfl rfl ?_
  refine P.iload_n 0 (pc' := 286) dL_law_285 rfl rfl rfl ?_
  refine P.iconst (v := 1) (pc' := 287) dL_law_286 rfl rfl ?_
  refine P.iadd (pc' := 288) dL_law_287 rfl ?_
  refine P.iald (t := 10) (pc' := 289) rfl e1 dL_law_288 rfl ?_
  refine P.callV (pc' := 292) (As := [.int x1]) (rest := []) 1 hC (Nat.le_of_ble_eq_true rfl) (lw_V q548 q549 q550 q159 q551) rfl ⟨by decide +kernel, by decide +kernel, by decide +kernel⟩ rfl (Nat.le_of_ble_eq_true rfl) ci0 hc (Nat.le_of_ble_eq_true rfl) rfl dL_law_289 rfl ?_
  refine P.aload_n 1 (pc' := 293) dL_law_292 rfl rfl rfl ?_
  refine P.aload_n 3 (pc' := 294) dL_law_293 rfl rfl rfl ?_
  refine P.iload_n 0 (pc' := 295) dL_law_294 rfl rfl rfl ?_
  refine P.iconst (v := 1) (pc' := 296) dL_law_295 rfl rfl ?_
  refine P.iadd (pc' := 297) dL_law_296 rfl ?_
  refine P.iald (t := 10) (pc' := 298) rfl g1 dL_law_297 rfl ?_
  refine P.callV (pc' := 301) (As := [.int x1]) (rest := [.int r]) 1 hT (Nat.le_of_ble_eq_true rfl) (lw_V q1723 q1724 q1725 q172 q1726) rfl ⟨by decide +kernel, by decide +kernel, by decide +kernel⟩ rfl (Nat.le_of_ble_eq_true rfl) ci9 ht (Nat.le_of_ble_eq_true rfl) rfl dL_law_298 rfl ?_
  refine P.icmp_eq (tgt := 1533) (pc' := 304) dL_law_301 (by decide) rfl (fun _ => kk) (fun z => absurd rfl z)
set_option maxHeartbeats 4000000 in
theorem L_case2 {cw tw b : Nat} {i r : Int32} {M M1 M2 : Sw} {u1 u2 : Unit} (hc : oc M cw 0 = some u1) (ht : oc M1 tw 9 = some u2) (hC : ClW g 48 yX0_read cX0_read 3 (some Jvm.ClassFile.FieldType.int) [(12, 23, 26, 121)] [.ref cw] M (some (.int r)) M1) (hT : Cl g 8 yX9_read cX9_read 1 (some Jvm.ClassFile.FieldType.int) [.ref tw] M1 (some (.int r)) M2) (kk : PW g mL 1562 μ0 μF Qk 1533 [(3, .int i), (2, .ref tw), (1, .ref cw), (0, .ref b)] [] M2) : PW g mL 1562 μ0 μF Qk 306 [(3, .int i), (2, .ref tw), (1, .ref cw), (0, .ref b)] [] M := by
  refine P.aload_n 2 (pc' := 307) dL_law_306 rfl rfl rfl ?_
  refine P.callVW (pc' := 310) (As := []) (rest := []) 0 hC (Nat.le_of_ble_eq_true rfl) (lw_VW q559 q560 q561 q159 q562) rfl ⟨by decide +kernel, by decide +kernel, by decide +kernel⟩ rfl (Nat.le_of_ble_eq_true rfl) ci0 hc (Nat.le_of_ble_eq_true rfl) rfl dL_law_307 rfl ?_
  refine P.aload_n 1 (pc' := 311) dL_law_310 rfl rfl rfl ?_
  refine P.callV (pc' := 314) (As := []) (rest := [.int r]) 0 hT (Nat.le_of_ble_eq_true rfl) (lw_V q1727 q1728 q1729 q172 q1730) rfl ⟨by decide +kernel, by decide +kernel, by decide +kernel⟩ rfl (Nat.le_of_ble_eq_true rfl) ci9 ht (Nat.le_of_ble_eq_true rfl) rfl dL_law_311 rfl ?_
  refine P.icmp_eq (tgt := 1533) (pc' := 317) dL_law_314 (by decide) rfl (fun _ => kk) (fun z => absurd rfl z)
set_option maxHeartbeats 4000000 in
theorem L_case3 {cw tw b : Nat} {i r : Int32} {M M1 M2 : Sw} {u1 u2 : Unit} (hc : oc M cw 0 = some u1) (ht : oc M1 tw 9 = some u2) (hC : Cl g 1 yX0_place cX0_place 1 (some Jvm.ClassFile.FieldType.int) [.ref cw] M (some (.int r)) M1) (hT : Cl g 1 yX9_place cX9_place 1 (some Jvm.ClassFile.FieldType.int) [.ref tw] M1 (some (.int r)) M2) (kk : PW g mL 1562 μ0 μF Qk 1533 [(3, .int i), (2, .ref tw), (1, .ref cw), (0, .ref b)] [] M2) : PW g mL 1562 μ0 μF Qk 319 [(3, .int i), (2, .ref tw), (1, .ref cw), (0, .ref b)] [] M := by
  refine P.aload_n 2 (pc' := 320) dL_law_319 rfl rfl rfl ?_
  refine P.callV (pc' := 323) (As := []) (rest := []) 0 hC (Nat.le_of_ble_eq_true rfl) (lw_V q1022 q1023 q1024 q159 q1025) rfl ⟨by decide +kernel, by decide +kernel, by decide +kernel⟩ rfl (Nat.le_of_ble_eq_true rfl) ci0 hc (Nat.le_of_ble_eq_true rfl) rfl dL_law_320 rfl ?_
  refine P.aload_n 1 (pc' := 324) dL_law_323 rfl rfl rfl ?_
  refine P.callV (pc' := 327) (As := []) (rest := [.int r]) 0 hT (Nat.le_of_ble_eq_true rfl) (lw_V q1912 q1913 q1914 q172 q1915) rfl ⟨by decide +kernel, by decide +kernel, by decide +kernel⟩ rfl (Nat.le_of_ble_eq_true rfl) ci9 ht (Nat.le_of_ble_eq_true rfl) rfl dL_law_324 rfl ?_
  refine P.icmp_eq (tgt := 1533) (pc' := 330) dL_law_327 (by decide) rfl (fun _ => kk) (fun z => absurd rfl z)
set_option maxHeartbeats 4000000 in
theorem L_case4 {cw tw b : Nat} {i r x1 x2 : Int32} {M M1 M2 : Sw} {u1 u2 : Unit} (e1 : aI M 10 b (i + 1) = some x1) (g1 : aI M1 10 b (i + 1) = some x1) (e2 : aI M 10 b (i + 2) = some x2) (g2 : aI M1 10 b (i + 2) = some x2) (hc : oc M cw 0 = some u1) (ht : oc M1 tw 9 = some u2) (hC : Cl g 413 yX0_house cX0_house 3 (some Jvm.ClassFile.FieldType.int) [.ref cw, .int x1, .int x2] M (some (.int r)) M1) (hT : Cl g 4 yX9_house cX9_house 3 (some Jvm.ClassFile.FieldType.int) [.ref tw, .int x1, .int x2] M1 (some (.int r)) M2) (kk : PW g mL 1562 μ0 μF Qk 1533 [(3, .int i), (2, .ref tw), (1, .ref cw), (0, .ref b)] [] M2) : PW g mL 1562 μ0 μF Qk 332 [(3, .int i), (2, .ref tw), (1, .ref cw), (0, .ref b)] [] M := by
  refine P.aload_n 2 (pc' := 333) dL_law_332 rfl rfl rfl ?_
  refine P.aload_n 3 (pc' := 334) dL_law_333 rfl rfl rfl ?_
  refine P.iload_n 0 (pc' := 335) dL_law_334 rfl rfl rfl ?_
  refine P.iconst (v := 1) (pc' := 336) dL_law_335 rfl rfl ?_
  refine P.iadd (pc' := 337) dL_law_336 rfl ?_
  refine P.iald (t := 10) (pc' := 338) rfl e1 dL_law_337 rfl ?_
  refine P.aload_n 3 (pc' := 339) dL_law_338 rfl rfl rfl ?_
  refine P.iload_n 0 (pc' := 340) dL_law_339 rfl rfl rfl ?_
  refine P.iconst (v := 2) (pc' := 341) dL_law_340 rfl rfl ?_
  refine P.iadd (pc' := 342) dL_law_341 rfl ?_
  refine P.iald (t := 10) (pc' := 343) rfl e2 dL_law_342 rfl ?_
  refine P.callV (pc' := 346) (As := [.int x1, .int x2]) (rest := []) 2 hC (Nat.le_of_ble_eq_true rfl) (lw_V q1026 q1027 q1028 q159 q1029) rfl ⟨by decide +kernel, by decide +kernel, by decide +kernel⟩ rfl (Nat.le_of_ble_eq_true rfl) ci0 hc (Nat.le_of_ble_eq_true rfl) rfl dL_law_343 rfl ?_
  refine P.aload_n 1 (pc' := 347) dL_law_346 rfl rfl rfl ?_
  refine P.aload_n 3 (pc' := 348) dL_law_347 rfl rfl rfl ?_
  refine P.iload_n 0 (pc' := 349) dL_law_348 rfl rfl rfl ?_
  refine P.iconst (v := 1) (pc' := 350) dL_law_349 rfl rfl ?_
  refine P.iadd (pc' := 351) dL_law_350 rfl ?_
  refine P.iald (t := 10) (pc' := 352) rfl g1 dL_law_351 rfl ?_
  refine P.aload_n 3 (pc' := 353) dL_law_352 rfl rfl rfl ?_
  refine P.iload_n 0 (pc' := 354) dL_law_353 rfl rfl rfl ?_
  refine P.iconst (v := 2) (pc' := 355) dL_law_354 rfl rfl ?_
  refine P.iadd (pc' := 356) dL_law_355 rfl ?_
  refine P.iald (t := 10) (pc' := 357) rfl g2 dL_law_356 rfl ?_
  refine P.callV (pc' := 360) (As := [.int x1, .int x2]) (rest := [.int r]) 2 hT (Nat.le_of_ble_eq_true rfl) (lw_V q1916 q1917 q1918 q172 q1919) rfl ⟨by decide +kernel, by decide +kernel, by decide +kernel⟩ rfl (Nat.le_of_ble_eq_true rfl) ci9 ht (Nat.le_of_ble_eq_true rfl) rfl dL_law_357 rfl ?_
  refine P.icmp_eq (tgt := 1533) (pc' := 363) dL_law_360 (by decide) rfl (fun _ => kk) (fun z => absurd rfl z)
set_option maxHeartbeats 4000000 in
theorem L_case5 {cw tw b : Nat} {i r x1 x2 : Int32} {M M1 M2 : Sw} {u1 u2 : Unit} (e1 : aI M 10 b (i + 1) = some x1) (g1 : aI M1 10 b (i + 1) = some x1) (e2 : aI M 10 b (i + 2) = some x2) (g2 : aI M1 10 b (i + 2) = some x2) (hc : oc M cw 0 = some u1) (ht : oc M1 tw 9 = some u2) (hC : Cl g 4 yX0_give cX0_give 3 (some Jvm.ClassFile.FieldType.boolean) [.ref cw, .int x1, .int x2] M (some (.int r)) M1) (hT : Cl g 3 yX9_give cX9_give 3 (some Jvm.ClassFile.FieldType.boolean) [.ref tw, .int x1, .int x2] M1 (some (.int r)) M2) (kk : PW g mL 1562 μ0 μF Qk 1533 [(3, .int i), (2, .ref tw), (1, .ref cw), (0, .ref b)] [] M2) : PW g mL 1562 μ0 μF Qk 365 [(3, .int i), (2, .ref tw), (1, .ref cw), (0, .ref b)] [] M := by
  refine P.aload_n 2 (pc' := 366) dL_law_365 rfl rfl rfl ?_
  refine P.aload_n 3 (pc' := 367) dL_law_366 rfl rfl rfl ?_
  refine P.iload_n 0 (pc' := 368) dL_law_367 rfl rfl rfl ?_
  refine P.iconst (v := 1) (pc' := 369) dL_law_368 rfl rfl ?_
  refine P.iadd (pc' := 370) dL_law_369 rfl ?_
  refine P.iald (t := 10) (pc' := 371) rfl e1 dL_law_370 rfl ?_
  refine P.aload_n 3 (pc' := 372) dL_law_371 rfl rfl rfl ?_
  refine P.iload_n 0 (pc' := 373) dL_law_372 rfl rfl rfl ?_
  refine P.iconst (v := 2) (pc' := 374) dL_law_373 rfl rfl ?_
  refine P.iadd (pc' := 375) dL_law_374 rfl ?_
  refine P.iald (t := 10) (pc' := 376) rfl e2 dL_law_375 rfl ?_
  refine P.callV (pc' := 379) (As := [.int x1, .int x2]) (rest := []) 2 hC (Nat.le_of_ble_eq_true rfl) (lw_V q1088 q1089 q1090 q159 q1091) rfl ⟨by decide +kernel, by decide +kernel, by decide +kernel⟩ rfl (Nat.le_of_ble_eq_true rfl) ci0 hc (Nat.le_of_ble_eq_true rfl) rfl dL_law_376 rfl ?_
  refine P.aload_n 1 (pc' := 380) dL_law_379 rfl rfl rfl ?_
  refine P.aload_n 3 (pc' := 381) dL_law_380 rfl rfl rfl ?_
  refine P.iload_n 0 (pc' := 382) dL_law_381 rfl rfl rfl ?_
  refine P.iconst (v := 1) (pc' := 383) dL_law_382 rfl rfl ?_
  refine P.iadd (pc' := 384) dL_law_383 rfl ?_
  refine P.iald (t := 10) (pc' := 385) rfl g1 dL_law_384 rfl ?_
  refine P.aload_n 3 (pc' := 386) dL_law_385 rfl rfl rfl ?_
  refine P.iload_n 0 (pc' := 387) dL_law_386 rfl rfl rfl ?_
  refine P.iconst (v := 2) (pc' := 388) dL_law_387 rfl rfl ?_
  refine P.iadd (pc' := 389) dL_law_388 rfl ?_
  refine P.iald (t := 10) (pc' := 390) rfl g2 dL_law_389 rfl ?_
  refine P.callV (pc' := 393) (As := [.int x1, .int x2]) (rest := [.int r]) 2 hT (Nat.le_of_ble_eq_true rfl) (lw_V q1955 q1956 q1957 q172 q1958) rfl ⟨by decide +kernel, by decide +kernel, by decide +kernel⟩ rfl (Nat.le_of_ble_eq_true rfl) ci9 ht (Nat.le_of_ble_eq_true rfl) rfl dL_law_390 rfl ?_
  refine P.icmp_eq (tgt := 1533) (pc' := 396) dL_law_393 (by decide) rfl (fun _ => kk) (fun z => absurd rfl z)
set_option maxHeartbeats 4000000 in
theorem L_case6 {cw tw b : Nat} {i r x1 : Int32} {M M1 M2 : Sw} {u1 u2 : Unit} (e1 : aI M 10 b (i + 1) = some x1) (g1 : aI M1 10 b (i + 1) = some x1) (hc : oc M cw 0 = some u1) (ht : oc M1 tw 9 = some u2) (hC : Cl g 4 yX0_holder cX0_holder 2 (some Jvm.ClassFile.FieldType.int) [.ref cw, .int x1] M (some (.int r)) M1) (hT : Cl g 2 yX9_holder cX9_holder 2 (some Jvm.ClassFile.FieldType.int) [.ref tw, .int x1] M1 (some (.int r)) M2) (kk : PW g mL 1562 μ0 μF Qk 1533 [(3, .int i), (2, .ref tw), (1, .ref cw), (0, .ref b)] [] M2) : PW g mL 1562 μ0 μF Qk 398 [(3, .int i), (2, .ref tw), (1, .ref cw), (0, .ref b)] [] M := by
  refine P.aload_n 2 (pc' := 399) dL_law_398 rfl rfl rfl ?_
  refine P.aload_n 3 (pc' := 400) dL_law_399 rfl rfl rfl ?_
  refine P.iload_n 0 (pc' := 401) dL_law_400 rfl rfl rfl ?_
  refine P.iconst (v := 1) (pc' := 402) dL_law_401 rfl rfl ?_
  refine P.iadd (pc' := 403) dL_law_402 rfl ?_
  refine P.iald (t := 10) (pc' := 404) rfl e1 dL_law_403 rfl ?_
  refine P.callV (pc' := 407) (As := [.int x1]) (rest := []) 1 hC (Nat.le_of_ble_eq_true rfl) (lw_V q1097 q1098 q1099 q159 q1100) rfl ⟨by decide +kernel, by decide +kernel, by decide +kernel⟩ rfl (Nat.le_of_ble_eq_true rfl) ci0 hc (Nat.le_of_ble_eq_true rfl) rfl dL_law_404 rfl ?_
  refine P.aload_n 1 (pc' := 408) dL_law_407 rfl rfl rfl ?_
  refine P.aload_n 3 (pc' := 409) dL_law_408 rfl rfl rfl ?_
  refine P.iload_n 0 (pc' := 410) dL_law_409 rfl rfl rfl ?_
  refine P.iconst (v := 1) (pc' := 411) dL_law_410 rfl rfl ?_
  refine P.iadd (pc' := 412) dL_law_411 rfl ?_
  refine P.iald (t := 10) (pc' := 413) rfl g1 dL_law_412 rfl ?_
  refine P.callV (pc' := 416) (As := [.int x1]) (rest := [.int r]) 1 hT (Nat.le_of_ble_eq_true rfl) (lw_V q1963 q1964 q1965 q172 q1966) rfl ⟨by decide +kernel, by decide +kernel, by decide +kernel⟩ rfl (Nat.le_of_ble_eq_true rfl) ci9 ht (Nat.le_of_ble_eq_true rfl) rfl dL_law_413 rfl ?_
  refine P.icmp_eq (tgt := 1533) (pc' := 419) dL_law_416 (by decide) rfl (fun _ => kk) (fun z => absurd rfl z)
set_option maxHeartbeats 4000000 in
theorem L_case7 {cw tw b : Nat} {i r x1 : Int32} {M M1 M2 : Sw} {u1 u2 : Unit} (e1 : aI M 10 b (i + 1) = some x1) (g1 : aI M1 10 b (i + 1) = some x1) (hc : oc M cw 0 = some u1) (ht : oc M1 tw 9 = some u2) (hC : Cl g 2 yX0_months cX0_months 2 (some Jvm.ClassFile.FieldType.int) [.ref cw, .int x1] M (some (.int r)) M1) (hT : Cl g 2 yX9_months cX9_months 2 (some Jvm.ClassFile.FieldType.int) [.ref tw, .int x1] M1 (some (.int r)) M2) (kk : PW g mL 1562 μ0 μF Qk 1533 [(3, .int i), (2, .ref tw), (1, .ref cw), (0, .ref b)] [] M2) : PW g mL 1562 μ0 μF Qk 421 [(3, .int i), (2, .ref tw), (1, .ref cw), (0, .ref b)] [] M := by
  refine P.aload_n 2 (pc' := 422) dL_law_421 rfl rfl rfl ?_
  refine P.aload_n 3 (pc' := 423) dL_law_422 rfl rfl rfl ?_
  refine P.iload_n 0 (pc' := 424) dL_law_423 rfl rfl rfl ?_
  refine P.iconst (v := 1) (pc' := 425) dL_law_424 rfl rfl ?_
  refine P.iadd (pc' := 426) dL_law_425 rfl ?_
  refine P.iald (t := 10) (pc' := 427) rfl e1 dL_law_426 rfl ?_
  refine P.callV (pc' := 430) (As := [.int x1]) (rest := []) 1 hC (Nat.le_of_ble_eq_true rfl) (lw_V q1105 q1106 q1107 q159 q1108) rfl ⟨by decide +kernel, by decide +kernel, by decide +kernel⟩ rfl (Nat.le_of_ble_eq_true rfl) ci0 hc (Nat.le_of_ble_eq_true rfl) rfl dL_law_427 rfl ?_
  refine P.aload_n 1 (pc' := 431) dL_law_430 rfl rfl rfl ?_
  refine P.aload_n 3 (pc' := 432) dL_law_431 rfl rfl rfl ?_
  refine P.iload_n 0 (pc' := 433) dL_law_432 rfl rfl rfl ?_
  refine P.iconst (v := 1) (pc' := 434) dL_law_433 rfl rfl ?_
  refine P.iadd (pc' := 435) dL_law_434 rfl ?_
  refine P.iald (t := 10) (pc' := 436) rfl g1 dL_law_435 rfl ?_
  refine P.callV (pc' := 439) (As := [.int x1]) (rest := [.int r]) 1 hT (Nat.le_of_ble_eq_true rfl) (lw_V q1967 q1968 q1969 q172 q1970) rfl ⟨by decide +kernel, by decide +kernel, by decide +kernel⟩ rfl (Nat.le_of_ble_eq_true rfl) ci9 ht (Nat.le_of_ble_eq_true rfl) rfl dL_law_436 rfl ?_
  refine P.icmp_eq (tgt := 1533) (pc' := 442) dL_law_439 (by decide) rfl (fun _ => kk) (fun z => absurd rfl z)
set_option maxHeartbeats 4000000 in
theorem L_case8 {cw tw b : Nat} {i r x1 : Int32} {M M1 M2 : Sw} {u1 u2 : Unit} (e1 : aI M 10 b (i + 1) = some x1) (g1 : aI M1 10 b (i + 1) = some x1) (hc : oc M cw 0 = some u1) (ht : oc M1 tw 9 = some u2) (hC : Cl g 413 yX0_tide cX0_tide 2 (some Jvm.ClassFile.FieldType.int) [.ref cw, .int x1] M (some (.int r)) M1) (hT : Cl g 4 yX9_tide cX9_tide 2 (some Jvm.ClassFile.FieldType.int) [.ref tw, .int x1] M1 (some (.int r)) M2) (kk : PW g mL 1562 μ0 μF Qk 1533 [(3, .int i), (2, .ref tw), (1, .ref cw), (0, .ref b)] [] M2) : PW g mL 1562 μ0 μF Qk 444 [(3, .int i), (2, .ref tw), (1, .ref cw), (0, .ref b)] [] M := by
  refine P.aload_n 2 (pc' := 445) dL_law_444 rfl rfl rfl ?_
  refine P.aload_n 3 (pc' := 446) dL_law_445 rfl rfl rfl ?_
  refine P.iload_n 0 (pc' := 447) dL_law_446 rfl rfl rfl ?_
  refine P.iconst (v := 1) (pc' := 448) dL_law_447 rfl rfl ?_
  refine P.iadd (pc' := 449) dL_law_448 rfl ?_
  refine P.iald (t := 10) (pc' := 450) rfl e1 dL_law_449 rfl ?_
  refine P.callV (pc' := 453) (As := [.int x1]) (rest := []) 1 hC (Nat.le_of_ble_eq_true rfl) (lw_V q1109 q1110 q1111 q159 q1112) rfl ⟨by decide +kernel, by decide +kernel, by decide +kernel⟩ rfl (Nat.le_of_ble_eq_true rfl) ci0 hc (Nat.le_of_ble_eq_true rfl) rfl dL_law_450 rfl ?_
  refine P.aload_n 1 (pc' := 454) dL_law_453 rfl rfl rfl ?_
  refine P.aload_n 3 (pc' := 455) dL_law_454 rfl rfl rfl ?_
  refine P.iload_n 0 (pc' := 456) dL_law_455 rfl rfl rfl ?_
  refine P.iconst (v := 1) (pc' := 457) dL_law_456 rfl rfl ?_
  refine P.iadd (pc' := 458) dL_law_457 rfl ?_
  refine P.iald (t := 10) (pc' := 459) rfl g1 dL_law_458 rfl ?_
  refine P.callV (pc' := 462) (As := [.int x1]) (rest := [.int r]) 1 hT (Nat.le_of_ble_eq_true rfl) (lw_V q1974 q1975 q1976 q172 q1977) rfl ⟨by decide +kernel, by decide +kernel, by decide +kernel⟩ rfl (Nat.le_of_ble_eq_true rfl) ci9 ht (Nat.le_of_ble_eq_true rfl) rfl dL_law_459 rfl ?_
  refine P.icmp_eq (tgt := 1533) (pc' := 465) dL_law_462 (by decide) rfl (fun _ => kk) (fun z => absurd rfl z)
set_option maxHeartbeats 4000000 in
theorem L_case9 {cw tw b : Nat} {i r x1 : Int32} {M M1 M2 : Sw} {u1 u2 : Unit} (e1 : aI M 10 b (i + 1) = some x1) (g1 : aI M1 10 b (i + 1) = some x1) (hc : oc M cw 0 = some u1) (ht : oc M1 tw 9 = some u2) (hC : Cl g 413 yX0_wet cX0_wet 2 (some Jvm.ClassFile.FieldType.int) [.ref cw, .int x1] M (some (.int r)) M1) (hT : Cl g 4 yX9_wet cX9_wet 5 (some Jvm.ClassFile.FieldType.int) [.ref tw, .int x1] M1 (some (.int r)) M2) (kk : PW g mL 1562 μ0 μF Qk 1533 [(3, .int i), (2, .ref tw), (1, .ref cw), (0, .ref b)] [] M2) : PW g mL 1562 μ0 μF Qk 467 [(3, .int i), (2, .ref tw), (1, .ref cw), (0, .ref b)] [] M := by
  refine P.aload_n 2 (pc' := 468) dL_law_467 rfl rfl rfl ?_
  refine P.aload_n 3 (pc' := 469) dL_law_468 rfl rfl rfl ?_
  refine P.iload_n 0 (pc' := 470) dL_law_469 rfl rfl rfl ?_
  refine P.iconst (v := 1) (pc' := 471) dL_law_470 rfl rfl ?_
  refine P.iadd (pc' := 472) dL_law_471 rfl ?_
  refine P.iald (t := 10) (pc' := 473) rfl e1 dL_law_472 rfl ?_
  refine P.callV (pc' := 476) (As := [.int x1]) (rest := []) 1 hC (Nat.le_of_ble_eq_true rfl) (lw_V q1120 q1121 q1122 q159 q1123) rfl ⟨by decide +kernel, by decide +kernel, by decide +kernel⟩ rfl (Nat.le_of_ble_eq_true rfl) ci0 hc (Nat.le_of_ble_eq_true rfl) rfl dL_law_473 rfl ?_
  refine P.aload_n 1 (pc' := 477) dL_law_476 rfl rfl rfl ?_
  refine P.aload_n 3 (pc' := 478) dL_law_477 rfl rfl rfl ?_
  refine P.iload_n 0 (pc' := 479) dL_law_478 rfl rfl rfl ?_
  refine P.iconst (v := 1) (pc' := 480) dL_law_479 rfl rfl ?_
  refine P.iadd (pc' := 481) dL_law_480 rfl ?_
  refine P.iald (t := 10) (pc' := 482) rfl g1 dL_law_481 rfl ?_
  refine P.callV (pc' := 485) (As := [.int x1]) (rest := [.int r]) 1 hT (Nat.le_of_ble_eq_true rfl) (lw_V q1985 q1986 q1987 q172 q1988) rfl ⟨by decide +kernel, by decide +kernel, by decide +kernel⟩ rfl (Nat.le_of_ble_eq_true rfl) ci9 ht (Nat.le_of_ble_eq_true rfl) rfl dL_law_482 rfl ?_
  refine P.icmp_eq (tgt := 1533) (pc' := 488) dL_law_485 (by decide) rfl (fun _ => kk) (fun z => absurd rfl z)
set_option maxHeartbeats 4000000 in
theorem L_case10 {cw tw b : Nat} {i r x1 : Int32} {M M1 M2 : Sw} {u1 u2 : Unit} (e1 : aI M 10 b (i + 1) = some x1) (g1 : aI M1 10 b (i + 1) = some x1) (hc : oc M cw 0 = some u1) (ht : oc M1 tw 9 = some u2) (hC : Cl g 414 yX0_reached cX0_reached 2 (some Jvm.ClassFile.FieldType.int) [.ref cw, .int x1] M (some (.int r)) M1) (hT : Cl g 5 yX9_reached cX9_reached 2 (some Jvm.ClassFile.FieldType.int) [.ref tw, .int x1] M1 (some (.int r)) M2) (kk : PW g mL 1562 μ0 μF Qk 1533 [(3, .int i), (2, .ref tw), (1, .ref cw), (0, .ref b)] [] M2) : PW g mL 1562 μ0 μF Qk 490 [(3, .int i), (2, .ref tw), (1, .ref cw), (0, .ref b)] [] M := by
  refine P.aload_n 2 (pc' := 491) dL_law_490 rfl rfl rfl ?_
  refine P.aload_n 3 (pc' := 492) dL_law_491 rfl rfl rfl ?_
  refine P.iload_n 0 (pc' := 493) dL_law_492 rfl rfl rfl ?_
  refine P.iconst (v := 1) (pc' := 494) dL_law_493 rfl rfl ?_
  refine P.iadd (pc' := 495) dL_law_494 rfl ?_
  refine P.iald (t := 10) (pc' := 496) rfl e1 dL_law_495 rfl ?_
  refine P.callV (pc' := 499) (As := [.int x1]) (rest := []) 1 hC (Nat.le_of_ble_eq_true rfl) (lw_V q1140 q1141 q1142 q159 q1143) rfl ⟨by decide +kernel, by decide +kernel, by decide +kernel⟩ rfl (Nat.le_of_ble_eq_true rfl) ci0 hc (Nat.le_of_ble_eq_true rfl) rfl dL_law_496 rfl ?_
  refine P.aload_n 1 (pc' := 500) dL_law_499 rfl rfl rfl ?_
  refine P.aload_n 3 (pc' := 501) dL_law_500 rfl rfl rfl ?_
  refine P.iload_n 0 (pc' := 502) dL_law_501 rfl rfl rfl ?_
  refine P.iconst (v := 1) (pc' := 503) dL_law_502 rfl rfl ?_
  refine P.iadd (pc' := 504) dL_law_503 rfl ?_
  refine P.iald (t := 10) (pc' := 505) rfl g1 dL_law_504 rfl ?_
  refine P.callV (pc' := 508) (As := [.int x1]) (rest := [.int r]) 1 hT (Nat.le_of_ble_eq_true rfl) (lw_V q1989 q1990 q1991 q172 q1992) rfl ⟨by decide +kernel, by decide +kernel, by decide +kernel⟩ rfl (Nat.le_of_ble_eq_true rfl) ci9 ht (Nat.le_of_ble_eq_true rfl) rfl dL_law_505 rfl ?_
  refine P.icmp_eq (tgt := 1533) (pc' := 511) dL_law_508 (by decide) rfl (fun _ => kk) (fun z => absurd rfl z)
set_option maxHeartbeats 4000000 in
theorem L_case11 {cw tw b : Nat} {i r x1 : Int32} {M M1 M2 : Sw} {u1 u2 : Unit} (e1 : aI M 10 b (i + 1) = some x1) (g1 : aI M1 10 b (i + 1) = some x1) (hc : oc M cw 0 = some u1) (ht : oc M1 tw 9 = some u2) (hC : Cl g 414 yX0_hours cX0_hours 4 (some Jvm.ClassFile.FieldType.int) [.ref cw, .int x1] M (some (.int r)) M1) (hT : Cl g 5 yX9_hours cX9_hours 4 (some Jvm.ClassFile.FieldType.int) [.ref tw, .int x1] M1 (some (.int r)) M2) (kk : PW g mL 1562 μ0 μF Qk 1533 [(3, .int i), (2, .ref tw), (1, .ref cw), (0, .ref b)] [] M2) : PW g mL 1562 μ0 μF Qk 513 [(3, .int i), (2, .ref tw), (1, .ref cw), (0, .ref b)] [] M := by
  refine P.aload_n 2 (pc' := 514) dL_law_513 rfl rfl rfl ?_
  refine P.aload_n 3 (pc' := 515) dL_law_514 rfl rfl rfl ?_
  refine P.iload_n 0 (pc' := 516) dL_law_515 rfl rfl rfl ?_
  refine P.iconst (v := 1) (pc' := 517) dL_law_516 rfl rfl ?_
  refine P.iadd (pc' := 518) dL_law_517 rfl ?_
  refine P.iald (t := 10) (pc' := 519) rfl e1 dL_law_518 rfl ?_
  refine P.callV (pc' := 522) (As := [.int x1]) (rest := []) 1 hC (Nat.le_of_ble_eq_true rfl) (lw_V q1156 q1157 q1158 q159 q1159) rfl ⟨by decide +kernel, by decide +kernel, by decide +kernel⟩ rfl (Nat.le_of_ble_eq_true rfl) ci0 hc (Nat.le_of_ble_eq_true rfl) rfl dL_law_519 rfl ?_
  refine P.aload_n 1 (pc' := 523) dL_law_522 rfl rfl rfl ?_
  refine P.aload_n 3 (pc' := 524) dL_law_523 rfl rfl rfl ?_
  refine P.iload_n 0 (pc' := 525) dL_law_524 rfl rfl rfl ?_
  refine P.iconst (v := 1) (pc' := 526) dL_law_525 rfl rfl ?_
  refine P.iadd (pc' := 527) dL_law_526 rfl ?_
  refine P.iald (t := 10) (pc' := 528) rfl g1 dL_law_527 rfl ?_
  refine P.callV (pc' := 531) (As := [.int x1]) (rest := [.int r]) 1 hT (Nat.le_of_ble_eq_true rfl) (lw_V q2001 q2002 q2003 q172 q2004) rfl ⟨by decide +kernel, by decide +kernel, by decide +kernel⟩ rfl (Nat.le_of_ble_eq_true rfl) ci9 ht (Nat.le_of_ble_eq_true rfl) rfl dL_law_528 rfl ?_
  refine P.icmp_eq (tgt := 1533) (pc' := 534) dL_law_531 (by decide) rfl (fun _ => kk) (fun z => absurd rfl z)
set_option maxHeartbeats 4000000 in
theorem L_case12 {cw tw b : Nat} {i r x1 : Int32} {M M1 M2 : Sw} {u1 u2 : Unit} (e1 : aI M 10 b (i + 1) = some x1) (g1 : aI M1 10 b (i + 1) = some x1) (hc : oc M cw 0 = some u1) (ht : oc M1 tw 9 = some u2) (hC : Cl g 4 yX0_meets cX0_meets 2 (some Jvm.ClassFile.FieldType.int) [.ref cw, .int x1] M (some (.int r)) M1) (hT : Cl g 3 yX9_meets cX9_meets 2 (some Jvm.ClassFile.FieldType.int) [.ref tw, .int x1] M1 (some (.int r)) M2) (kk : PW g mL 1562 μ0 μF Qk 1533 [(3, .int i), (2, .ref tw), (1, .ref cw), (0, .ref b)] [] M2) : PW g mL 1562 μ0 μF Qk 536 [(3, .int i), (2, .ref tw), (1, .ref cw), (0, .ref b)] [] M := by
  refine P.aload_n 2 (pc' := 537) dL_law_536 rfl rfl rfl ?_
  refine P.aload_n 3 (pc' := 538) dL_law_537 rfl rfl rfl ?_
  refine P.iload_n 0 (pc' := 539) dL_law_538 rfl rfl rfl ?_
  refine P.iconst (v := 1) (pc' := 540) dL_law_539 rfl rfl ?_
  refine P.iadd (pc' := 541) dL_law_540 rfl ?_
  refine P.iald (t := 10) (pc' := 542) rfl e1 dL_law_541 rfl ?_
  refine P.callV (pc' := 545) (As := [.int x1]) (rest := []) 1 hC (Nat.le_of_ble_eq_true rfl) (lw_V q1128 q1129 q1130 q159 q1131) rfl ⟨by decide +kernel, by decide +kernel, by decide +kernel⟩ rfl (Nat.le_of_ble_eq_true rfl) ci0 hc (Nat.le_of_ble_eq_true rfl) rfl dL_law_542 rfl ?_
  refine P.aload_n 1 (pc' := 546) dL_law_545 rfl rfl rfl ?_
  refine P.aload_n 3 (pc' := 547) dL_law_546 rfl rfl rfl ?_
  refine P.iload_n 0 (pc' := 548) dL_law_547 rfl rfl rfl ?_
  refine P.iconst (v := 1) (pc' := 549) dL_law_548 rfl rfl ?_
  refine P.iadd (pc' := 550) dL_law_549 rfl ?_
  refine P.iald (t := 10) (pc' := 551) rfl g1 dL_law_550 rfl ?_
  refine P.callV (pc' := 554) (As := [.int x1]) (rest := [.int r]) 1 hT (Nat.le_of_ble_eq_true rfl) (lw_V q2005 q2006 q2007 q172 q2008) rfl ⟨by decide +kernel, by decide +kernel, by decide +kernel⟩ rfl (Nat.le_of_ble_eq_true rfl) ci9 ht (Nat.le_of_ble_eq_true rfl) rfl dL_law_551 rfl ?_
  refine P.icmp_eq (tgt := 1533) (pc' := 557) dL_law_554 (by decide) rfl (fun _ => kk) (fun z => absurd rfl z)
set_option maxHeartbeats 4000000 in
theorem L_case13 {cw tw b : Nat} {i r x1 x2 x3 : Int32} {M M1 M2 : Sw} {u1 u2 : Unit} (e1 : aI M 10 b (i + 1) = some x1) (g1 : aI M1 10 b (i + 1) = some x1) (e2 : aI M 10 b (i + 2) = some x2) (g2 : aI M1 10 b (i + 2) = some x2) (e3 : aI M 10 b (i + 3) = some x3) (g3 : aI M1 10 b (i + 3) = some x3) (hc : oc M cw 0 = some u1) (ht : oc M1 tw 9 = some u2) (hC : Cl g 413 yX0_cut cX0_cut 4 (some Jvm.ClassFile.FieldType.int) [.ref cw, .int x1, .int (if x2 = 0 then 0 else 1), .int x3] M (some (.int r)) M1) (hT : Cl g 6 yX9_cut cX9_cut 4 (some Jvm.ClassFile.FieldType.int) [.ref tw, .int x1, .int (if x2 = 0 then 0 else 1), .int x3] M1 (some (.int r)) M2) (kk : PW g mL 1562 μ0 μF Qk 1533 [(3, .int i), (2, .ref tw), (1, .ref cw), (0, .ref b)] [] M2) : PW g mL 1562 μ0 μF Qk 559 [(3, .int i), (2, .ref tw), (1, .ref cw), (0, .ref b)] [] M := by
  by_cases z2 : x2 = 0
  · rw [if_pos z2] at hC hT
    refine P.aload_n 2 (pc' := 560) dL_law_559 rfl rfl rfl ?_
    refine P.aload_n 3 (pc' := 561) dL_law_560 rfl rfl rfl ?_
    refine P.iload_n 0 (pc' := 562) dL_law_561 rfl rfl rfl ?_
    refine P.iconst (v := 1) (pc' := 563) dL_law_562 rfl rfl ?_
    refine P.iadd (pc' := 564) dL_law_563 rfl ?_
    refine P.iald (t := 10) (pc' := 565) rfl e1 dL_law_564 rfl ?_
    refine P.aload_n 3 (pc' := 566) dL_law_565 rfl rfl rfl ?_
    refine P.iload_n 0 (pc' := 567) dL_law_566 rfl rfl rfl ?_
    refine P.iconst (v := 2) (pc' := 568) dL_law_567 rfl rfl ?_
    refine P.iadd (pc' := 569) dL_law_568 rfl ?_
    refine P.iald (t := 10) (pc' := 570) rfl e2 dL_law_569 rfl ?_
    refine P.if_eq (tgt := 577) (pc' := 573) dL_law_570 (by decide) rfl (fun _ => ?_) (fun z => absurd z2 z)
    refine P.iconst (v := 0) (pc' := 578) dL_law_577 rfl rfl ?_
    refine P.aload_n 3 (pc' := 579) dL_law_578 rfl rfl rfl ?_
    refine P.iload_n 0 (pc' := 580) dL_law_579 rfl rfl rfl ?_
    refine P.iconst (v := 3) (pc' := 581) dL_law_580 rfl rfl ?_
    refine P.iadd (pc' := 582) dL_law_581 rfl ?_
    refine P.iald (t := 10) (pc' := 583) rfl e3 dL_law_582 rfl ?_
    refine P.callV (pc' := 586) (As := [.int x1, .int 0, .int x3]) (rest := []) 3 hC (Nat.le_of_ble_eq_true rfl) (lw_V q1160 q1161 q1162 q159 q1163) rfl ⟨by decide +kernel, by decide +kernel, by decide +kernel⟩ rfl (Nat.le_of_ble_eq_true rfl) ci0 hc (Nat.le_of_ble_eq_true rfl) rfl dL_law_583 rfl ?_
    refine P.aload_n 1 (pc' := 587) dL_law_586 rfl rfl rfl ?_
    refine P.aload_n 3 (pc' := 588) dL_law_587 rfl rfl rfl ?_
    refine P.iload_n 0 (pc' := 589) dL_law_588 rfl rfl rfl ?_
    refine P.iconst (v := 1) (pc' := 590) dL_law_589 rfl rfl ?_
    refine P.iadd (pc' := 591) dL_law_590 rfl ?_
    refine P.iald (t := 10) (pc' := 592) rfl g1 dL_law_591 rfl ?_
    refine P.aload_n 3 (pc' := 593) dL_law_592 rfl rfl rfl ?_
    refine P.iload_n 0 (pc' := 594) dL_law_593 rfl rfl rfl ?_
    refine P.iconst (v := 2) (pc' := 595) dL_law_594 rfl rfl ?_
    refine P.iadd (pc' := 596) dL_law_595 rfl ?_
    refine P.iald (t := 10) (pc' := 597) rfl g2 dL_law_596 rfl ?_
    refine P.if_eq (tgt := 604) (pc' := 600) dL_law_597 (by decide) rfl (fun _ => ?_) (fun z => absurd z2 z)
    refine P.iconst (v := 0) (pc' := 605) dL_law_604 rfl rfl ?_
    refine P.aload_n 3 (pc' := 606) dL_law_605 rfl rfl rfl ?_
    refine P.iload_n 0 (pc' := 607) dL_law_606 rfl rfl rfl ?_
    refine P.iconst (v := 3) (pc' := 608) dL_law_607 rfl rfl ?_
    refine P.iadd (pc' := 609) dL_law_608 rfl ?_
    refine P.iald (t := 10) (pc' := 610) rfl g3 dL_law_609 rfl ?_
    refine P.callV (pc' := 613) (As := [.int x1, .int 0, .int x3]) (rest := [.int r]) 3 hT (Nat.le_of_ble_eq_true rfl) (lw_V q2009 q2010 q2011 q172 q2012) rfl ⟨by decide +kernel, by decide +kernel, by decide +kernel⟩ rfl (Nat.le_of_ble_eq_true rfl) ci9 ht (Nat.le_of_ble_eq_true rfl) rfl dL_law_610 rfl ?_
    refine P.icmp_eq (tgt := 1533) (pc' := 616) dL_law_613 (by decide) rfl (fun _ => kk) (fun z => absurd rfl z)
  · rw [if_neg z2] at hC hT
    refine P.aload_n 2 (pc' := 560) dL_law_559 rfl rfl rfl ?_
    refine P.aload_n 3 (pc' := 561) dL_law_560 rfl rfl rfl ?_
    refine P.iload_n 0 (pc' := 562) dL_law_561 rfl rfl rfl ?_
    refine P.iconst (v := 1) (pc' := 563) dL_law_562 rfl rfl ?_
    refine P.iadd (pc' := 564) dL_law_563 rfl ?_
    refine P.iald (t := 10) (pc' := 565) rfl e1 dL_law_564 rfl ?_
    refine P.aload_n 3 (pc' := 566) dL_law_565 rfl rfl rfl ?_
    refine P.iload_n 0 (pc' := 567) dL_law_566 rfl rfl rfl ?_
    refine P.iconst (v := 2) (pc' := 568) dL_law_567 rfl rfl ?_
    refine P.iadd (pc' := 569) dL_law_568 rfl ?_
    refine P.iald (t := 10) (pc' := 570) rfl e2 dL_law_569 rfl ?_
    refine P.if_eq (tgt := 577) (pc' := 573) dL_law_570 (by decide) rfl (fun z => absurd z z2) (fun _ => ?_)
    refine P.iconst (v := 1) (pc' := 574) dL_law_573 rfl rfl ?_
    refine P.goto (tgt := 578) dL_law_574 (by decide) ?_
    refine P.aload_n 3 (pc' := 579) dL_law_578 rfl rfl rfl ?_
    refine P.iload_n 0 (pc' := 580) dL_law_579 rfl rfl rfl ?_
    refine P.iconst (v := 3) (pc' := 581) dL_law_580 rfl rfl ?_
    refine P.iadd (pc' := 582) dL_law_581 rfl ?_
    refine P.iald (t := 10) (pc' := 583) rfl e3 dL_law_582 rfl ?_
    refine P.callV (pc' := 586) (As := [.int x1, .int 1, .int x3]) (rest := []) 3 hC (Nat.le_of_ble_eq_true rfl) (lw_V q1160 q1161 q1162 q159 q1163) rfl ⟨by decide +kernel, by decide +kernel, by decide +kernel⟩ rfl (Nat.le_of_ble_eq_true rfl) ci0 hc (Nat.le_of_ble_eq_true rfl) rfl dL_law_583 rfl ?_
    refine P.aload_n 1 (pc' := 587) dL_law_586 rfl rfl rfl ?_
    refine P.aload_n 3 (pc' := 588) dL_law_587 rfl rfl rfl ?_
    refine P.iload_n 0 (pc' := 589) dL_law_588 rfl rfl rfl ?_
    refine P.iconst (v := 1) (pc' := 590) dL_law_589 rfl rfl ?_
    refine P.iadd (pc' := 591) dL_law_590 rfl ?_
    refine P.iald (t := 10) (pc' := 592) rfl g1 dL_law_591 rfl ?_
    refine P.aload_n 3 (pc' := 593) dL_law_592 rfl rfl rfl ?_
    refine P.iload_n 0 (pc' := 594) dL_law_593 rfl rfl rfl ?_
    refine P.iconst (v := 2) (pc' := 595) dL_law_594 rfl rfl ?_
    refine P.iadd (pc' := 596) dL_law_595 rfl ?_
    refine P.iald (t := 10) (pc' := 597) rfl g2 dL_law_596 rfl ?_
    refine P.if_eq (tgt := 604) (pc' := 600) dL_law_597 (by decide) rfl (fun z => absurd z z2) (fun _ => ?_)
    refine P.iconst (v := 1) (pc' := 601) dL_law_600 rfl rfl ?_
    refine P.goto (tgt := 605) dL_law_601 (by decide) ?_
    refine P.aload_n 3 (pc' := 606) dL_law_605 rfl rfl rfl ?_
    refine P.iload_n 0 (pc' := 607) dL_law_606 rfl rfl rfl ?_
    refine P.iconst (v := 3) (pc' := 608) dL_law_607 rfl rfl ?_
    refine P.iadd (pc' := 609) dL_law_608 rfl ?_
    refine P.iald (t := 10) (pc' := 610) rfl g3 dL_law_609 rfl ?_
    refine P.callV (pc' := 613) (As := [.int x1, .int 1, .int x3]) (rest := [.int r]) 3 hT (Nat.le_of_ble_eq_true rfl) (lw_V q2009 q2010 q2011 q172 q2012) rfl ⟨by decide +kernel, by decide +kernel, by decide +kernel⟩ rfl (Nat.le_of_ble_eq_true rfl) ci9 ht (Nat.le_of_ble_eq_true rfl) rfl dL_law_610 rfl ?_
    refine P.icmp_eq (tgt := 1533) (pc' := 616) dL_law_613 (by decide) rfl (fun _ => kk) (fun z => absurd rfl z)
set_option maxHeartbeats 4000000 in
theorem L_case14 {cw tw b : Nat} {i r x1 x2 : Int32} {M M1 M2 : Sw} {u1 u2 : Unit} (e1 : aI M 10 b (i + 1) = some x1) (g1 : aI M1 10 b (i + 1) = some x1) (e2 : aI M 10 b (i + 2) = some x2) (g2 : aI M1 10 b (i + 2) = some x2) (hc : oc M cw 0 = some u1) (ht : oc M1 tw 9 = some u2) (hC : Cl g 413 yX0_worst cX0_worst 8 (some Jvm.ClassFile.FieldType.int) [.ref cw, .int (if x1 = 0 then 0 else 1), .int x2] M (some (.int r)) M1) (hT : Cl g 6 yX9_worst cX9_worst 7 (some Jvm.ClassFile.FieldType.int) [.ref tw, .int (if x1 = 0 then 0 else 1), .int x2] M1 (some (.int r)) M2) (kk : PW g mL 1562 μ0 μF Qk 1533 [(3, .int i), (2, .ref tw), (1, .ref cw), (0, .ref b)] [] M2) : PW g mL 1562 μ0 μF Qk 618 [(3, .int i), (2, .ref tw), (1, .ref cw), (0, .ref b)] [] M := by
  by_cases z1 : x1 = 0
  · rw [if_pos z1] at hC hT
    refine P.aload_n 2 (pc' := 619) dL_law_618 rfl rfl rfl ?_
    refine P.aload_n 3 (pc' := 620) dL_law_619 rfl rfl rfl ?_
    refine P.iload_n 0 (pc' := 621) dL_law_620 rfl rfl rfl ?_
    refine P.iconst (v := 1) (pc' := 622) dL_law_621 rfl rfl ?_
    refine P.iadd (pc' := 623) dL_law_622 rfl ?_
    refine P.iald (t := 10) (pc' := 624) rfl e1 dL_law_623 rfl ?_
    refine P.if_eq (tgt := 631) (pc' := 627) dL_law_624 (by decide) rfl (fun _ => ?_) (fun z => absurd z1 z)
    refine P.iconst (v := 0) (pc' := 632) dL_law_631 rfl rfl ?_
    refine P.aload_n 3 (pc' := 633) dL_law_632 rfl rfl rfl ?_
    refine P.iload_n 0 (pc' := 634) dL_law_633 rfl rfl rfl ?_
    refine P.iconst (v := 2) (pc' := 635) dL_law_634 rfl rfl ?_
    refine P.iadd (pc' := 636) dL_law_635 rfl ?_
    refine P.iald (t := 10) (pc' := 637) rfl e2 dL_law_636 rfl ?_
    refine P.callV (pc' := 640) (As := [.int 0, .int x2]) (rest := []) 2 hC (Nat.le_of_ble_eq_true rfl) (lw_V q1174 q1175 q1176 q159 q1177) rfl ⟨by decide +kernel, by decide +kernel, by decide +kernel⟩ rfl (Nat.le_of_ble_eq_true rfl) ci0 hc (Nat.le_of_ble_eq_true rfl) rfl dL_law_637 rfl ?_
    refine P.aload_n 1 (pc' := 641) dL_law_640 rfl rfl rfl ?_
    refine P.aload_n 3 (pc' := 642) dL_law_641 rfl rfl rfl ?_
    refine P.iload_n 0 (pc' := 643) dL_law_642 rfl rfl rfl ?_
    refine P.iconst (v := 1) (pc' := 644) dL_law_643 rfl rfl ?_
    refine P.iadd (pc' := 645) dL_law_644 rfl ?_
    refine P.iald (t := 10) (pc' := 646) rfl g1 dL_law_645 rfl ?_
    refine P.if_eq (tgt := 653) (pc' := 649) dL_law_646 (by decide) rfl (fun _ => ?_) (fun z => absurd z1 z)
    refine P.iconst (v := 0) (pc' := 654) dL_law_653 rfl rfl ?_
    refine P.aload_n 3 (pc' := 655) dL_law_654 rfl rfl rfl ?_
    refine P.iload_n 0 (pc' := 656) dL_law_655 rfl rfl rfl ?_
    refine P.iconst (v := 2) (pc' := 657) dL_law_656 rfl rfl ?_
    refine P.iadd (pc' := 658) dL_law_657 rfl ?_
    refine P.iald (t := 10) (pc' := 659) rfl g2 dL_law_658 rfl ?_
    refine P.callV (pc' := 662) (As := [.int 0, .int x2]) (rest := [.int r]) 2 hT (Nat.le_of_ble_eq_true rfl) (lw_V q2024 q2025 q2026 q172 q2027) rfl ⟨by decide +kernel, by decide +kernel, by decide +kernel⟩ rfl (Nat.le_of_ble_eq_true rfl) ci9 ht (Nat.le_of_ble_eq_true rfl) rfl dL_law_659 rfl ?_
    refine P.icmp_eq (tgt := 1533) (pc' := 665) dL_law_662 (by decide) rfl (fun _ => kk) (fun z => absurd rfl z)
  · rw [if_neg z1] at hC hT
    refine P.aload_n 2 (pc' := 619) dL_law_618 rfl rfl rfl ?_
    refine P.aload_n 3 (pc' := 620) dL_law_619 rfl rfl rfl ?_
    refine P.iload_n 0 (pc' := 621) dL_law_620 rfl rfl rfl ?_
    refine P.iconst (v := 1) (pc' := 622) dL_law_621 rfl rfl ?_
    refine P.iadd (pc' := 623) dL_law_622 rfl ?_
    refine P.iald (t := 10) (pc' := 624) rfl e1 dL_law_623 rfl ?_
    refine P.if_eq (tgt := 631) (pc' := 627) dL_law_624 (by decide) rfl (fun z => absurd z z1) (fun _ => ?_)
    refine P.iconst (v := 1) (pc' := 628) dL_law_627 rfl rfl ?_
    refine P.goto (tgt := 632) dL_law_628 (by decide) ?_
    refine P.aload_n 3 (pc' := 633) dL_law_632 rfl rfl rfl ?_
    refine P.iload_n 0 (pc' := 634) dL_law_633 rfl rfl rfl ?_
    refine P.iconst (v := 2) (pc' := 635) dL_law_634 rfl rfl ?_
    refine P.iadd (pc' := 636) dL_law_635 rfl ?_
    refine P.iald (t := 10) (pc' := 637) rfl e2 dL_law_636 rfl ?_
    refine P.callV (pc' := 640) (As := [.int 1, .int x2]) (rest := []) 2 hC (Nat.le_of_ble_eq_true rfl) (lw_V q1174 q1175 q1176 q159 q1177) rfl ⟨by decide +kernel, by decide +kernel, by decide +kernel⟩ rfl (Nat.le_of_ble_eq_true rfl) ci0 hc (Nat.le_of_ble_eq_true rfl) rfl dL_law_637 rfl ?_
    refine P.aload_n 1 (pc' := 641) dL_law_640 rfl rfl rfl ?_
    refine P.aload_n 3 (pc' := 642) dL_law_641 rfl rfl rfl ?_
    refine P.iload_n 0 (pc' := 643) dL_law_642 rfl rfl rfl ?_
    refine P.iconst (v := 1) (pc' := 644) dL_law_643 rfl rfl ?_
    refine P.iadd (pc' := 645) dL_law_644 rfl ?_
    refine P.iald (t := 10) (pc' := 646) rfl g1 dL_law_645 rfl ?_
    refine P.if_eq (tgt := 653) (pc' := 649) dL_law_646 (by decide) rfl (fun z => absurd z z1) (fun _ => ?_)
    refine P.iconst (v := 1) (pc' := 650) dL_law_649 rfl rfl ?_
    refine P.goto (tgt := 654) dL_law_650 (by decide) ?_
    refine P.aload_n 3 (pc' := 655) dL_law_654 rfl rfl rfl ?_
    refine P.iload_n 0 (pc' := 656) dL_law_655 rfl rfl rfl ?_
    refine P.iconst (v := 2) (pc' := 657) dL_law_656 rfl rfl ?_
    refine P.iadd (pc' := 658) dL_law_657 rfl ?_
    refine P.iald (t := 10) (pc' := 659) rfl g2 dL_law_658 rfl ?_
    refine P.callV (pc' := 662) (As := [.int 1, .int x2]) (rest := [.int r]) 2 hT (Nat.le_of_ble_eq_true rfl) (lw_V q2024 q2025 q2026 q172 q2027) rfl ⟨by decide +kernel, by decide +kernel, by decide +kernel⟩ rfl (Nat.le_of_ble_eq_true rfl) ci9 ht (Nat.le_of_ble_eq_true rfl) rfl dL_law_659 rfl ?_
    refine P.icmp_eq (tgt := 1533) (pc' := 665) dL_law_662 (by decide) rfl (fun _ => kk) (fun z => absurd rfl z)
set_option maxHeartbeats 4000000 in
theorem L_case15 {cw tw b : Nat} {i r x1 : Int32} {M M1 M2 : Sw} {u1 u2 : Unit} (e1 : aI M 10 b (i + 1) = some x1) (g1 : aI M1 10 b (i + 1) = some x1) (hc : oc M cw 0 = some u1) (ht : oc M1 tw 9 = some u2) (hC : Cl g 423 yX0_law cX0_law 2 (some Jvm.ClassFile.FieldType.int) [.ref cw, .int x1] M (some (.int r)) M1) (hT : Cl g 6 yX9_law cX9_law 4 (some Jvm.ClassFile.FieldType.int) [.ref tw, .int x1] M1 (some (.int r)) M2) (kk : PW g mL 1562 μ0 μF Qk 1533 [(3, .int i), (2, .ref tw), (1, .ref cw), (0, .ref b)] [] M2) : PW g mL 1562 μ0 μF Qk 667 [(3, .int i), (2, .ref tw), (1, .ref cw), (0, .ref b)] [] M := by
  refine P.aload_n 2 (pc' := 668) dL_law_667 rfl rfl rfl ?_
  refine P.aload_n 3 (pc' := 669) dL_law_668 rfl rfl rfl ?_
  refine P.iload_n 0 (pc' := 670) dL_law_669 rfl rfl rfl ?_
  refine P.iconst (v := 1) (pc' := 671) dL_law_670 rfl rfl ?_
  refine P.iadd (pc' := 672) dL_law_671 rfl ?_
  refine P.iald (t := 10) (pc' := 673) rfl e1 dL_law_672 rfl ?_
  refine P.callV (pc' := 676) (As := [.int x1]) (rest := []) 1 hC (Nat.le_of_ble_eq_true rfl) (lw_V q1178 q1179 q1180 q159 q1181) rfl ⟨by decide +kernel, by decide +kernel, by decide +kernel⟩ rfl (Nat.le_of_ble_eq_true rfl) ci0 hc (Nat.le_of_ble_eq_true rfl) rfl dL_law_673 rfl ?_
  refine P.aload_n 1 (pc' := 677) dL_law_676 rfl rfl rfl ?_
  refine P.aload_n 3 (pc' := 678) dL_law_677 rfl rfl rfl ?_
  refine P.iload_n 0 (pc' := 679) dL_law_678 rfl rfl rfl ?_
  refine P.iconst (v := 1) (pc' := 680) dL_law_679 rfl rfl ?_
  refine P.iadd (pc' := 681) dL_law_680 rfl ?_
  refine P.iald (t := 10) (pc' := 682) rfl g1 dL_law_681 rfl ?_
  refine P.callV (pc' := 685) (As := [.int x1]) (rest := [.int r]) 1 hT (Nat.le_of_ble_eq_true rfl) (lw_V q2028 q2029 q2030 q172 q2031) rfl ⟨by decide +kernel, by decide +kernel, by decide +kernel⟩ rfl (Nat.le_of_ble_eq_true rfl) ci9 ht (Nat.le_of_ble_eq_true rfl) rfl dL_law_682 rfl ?_
  refine P.icmp_eq (tgt := 1533) (pc' := 688) dL_law_685 (by decide) rfl (fun _ => kk) (fun z => absurd rfl z)
set_option maxHeartbeats 4000000 in
theorem L_case16 {cw tw b : Nat} {i r x1 : Int32} {M M1 M2 : Sw} {u1 u2 : Unit} (e1 : aI M 10 b (i + 1) = some x1) (g1 : aI M1 10 b (i + 1) = some x1) (hc : oc M cw 0 = some u1) (ht : oc M1 tw 9 = some u2) (hC : Cl g 2 yX0_wood cX0_wood 2 (some Jvm.ClassFile.FieldType.int) [.ref cw, .int x1] M (some (.int r)) M1) (hT : Cl g 1 yX9_wood cX9_wood 2 (some Jvm.ClassFile.FieldType.int) [.ref tw, .int x1] M1 (some (.int r)) M2) (kk : PW g mL 1562 μ0 μF Qk 1533 [(3, .int i), (2, .ref tw), (1, .ref cw), (0, .ref b)] [] M2) : PW g mL 1562 μ0 μF Qk 690 [(3, .int i), (2, .ref tw), (1, .ref cw), (0, .ref b)] [] M := by
  refine P.aload_n 2 (pc' := 691) dL_law_690 rfl rfl rfl ?_
  refine P.aload_n 3 (pc' := 692) dL_law_691 rfl rfl rfl ?_
  refine P.iload_n 0 (pc' := 693) dL_law_692 rfl rfl rfl ?_
  refine P.iconst (v := 1) (pc' := 694) dL_law_693 rfl rfl ?_
  refine P.iadd (pc' := 695) dL_law_694 rfl ?_
  refine P.iald (t := 10) (pc' := 696) rfl e1 dL_law_695 rfl ?_
  refine P.callV (pc' := 699) (As := [.int x1]) (rest := []) 1 hC (Nat.le_of_ble_eq_true rfl) (lw_V q1234 q1235 q1236 q159 q1237) rfl ⟨by decide +kernel, by decide +kernel, by decide +kernel⟩ rfl (Nat.le_of_ble_eq_true rfl) ci0 hc (Nat.le_of_ble_eq_true rfl) rfl dL_law_696 rfl ?_
  refine P.aload_n 1 (pc' := 700) dL_law_699 rfl rfl rfl ?_
  refine P.aload_n 3 (pc' := 701) dL_law_700 rfl rfl rfl ?_
  refine P.iload_n 0 (pc' := 702) dL_law_701 rfl rfl rfl ?_
  refine P.iconst (v := 1) (pc' := 703) dL_law_702 rfl rfl ?_
  refine P.iadd (pc' := 704) dL_law_703 rfl ?_
  refine P.iald (t := 10) (pc' := 705) rfl g1 dL_law_704 rfl ?_
  refine P.callV (pc' := 708) (As := [.int x1]) (rest := [.int r]) 1 hT (Nat.le_of_ble_eq_true rfl) (lw_V q2064 q2065 q2066 q172 q2067) rfl ⟨by decide +kernel, by decide +kernel, by decide +kernel⟩ rfl (Nat.le_of_ble_eq_true rfl) ci9 ht (Nat.le_of_ble_eq_true rfl) rfl dL_law_705 rfl ?_
  refine P.icmp_eq (tgt := 1533) (pc' := 711) dL_law_708 (by decide) rfl (fun _ => kk) (fun z => absurd rfl z)
set_option maxHeartbeats 4000000 in
theorem L_case17 {cw tw b : Nat} {i r x1 x2 : Int32} {M M1 M2 : Sw} {u1 u2 : Unit} (e1 : aI M 10 b (i + 1) = some x1) (g1 : aI M1 10 b (i + 1) = some x1) (e2 : aI M 10 b (i + 2) = some x2) (g2 : aI M1 10 b (i + 2) = some x2) (hc : oc M cw 0 = some u1) (ht : oc M1 tw 9 = some u2) (hC : Cl g 5 yX0_jack cX0_jack 6 (some Jvm.ClassFile.FieldType.int) [.ref cw, .int x1, .int x2] M (some (.int r)) M1) (hT : Cl g 3 yX9_jack cX9_jack 4 (some Jvm.ClassFile.FieldType.int) [.ref tw, .int x1, .int x2] M1 (some (.int r)) M2) (kk : PW g mL 1562 μ0 μF Qk 1533 [(3, .int i), (2, .ref tw), (1, .ref cw), (0, .ref b)] [] M2) : PW g mL 1562 μ0 μF Qk 713 [(3, .int i), (2, .ref tw), (1, .ref cw), (0, .ref b)] [] M := by
  refine P.aload_n 2 (pc' := 714) dL_law_713 rfl rfl rfl ?_
  refine P.aload_n 3 (pc' := 715) dL_law_714 rfl rfl rfl ?_
  refine P.iload_n 0 (pc' := 716) dL_law_715 rfl rfl rfl ?_
  refine P.iconst (v := 1) (pc' := 717) dL_law_716 rfl rfl ?_
  refine P.iadd (pc' := 718) dL_law_717 rfl ?_
  refine P.iald (t := 10) (pc' := 719) rfl e1 dL_law_718 rfl ?_
  refine P.aload_n 3 (pc' := 720) dL_law_719 rfl rfl rfl ?_
  refine P.iload_n 0 (pc' := 721) dL_law_720 rfl rfl rfl ?_
  refine P.iconst (v := 2) (pc' := 722) dL_law_721 rfl rfl ?_
  refine P.iadd (pc' := 723) dL_law_722 rfl ?_
  refine P.iald (t := 10) (pc' := 724) rfl e2 dL_law_723 rfl ?_
  refine P.callV (pc' := 727) (As := [.int x1, .int x2]) (rest := []) 2 hC (Nat.le_of_ble_eq_true rfl) (lw_V q1238 q1239 q1240 q159 q1241) rfl ⟨by decide +kernel, by decide +kernel, by decide +kernel⟩ rfl (Nat.le_of_ble_eq_true rfl) ci0 hc (Nat.le_of_ble_eq_true rfl) rfl dL_law_724 rfl ?_
  refine P.aload_n 1 (pc' := 728) dL_law_727 rfl rfl rfl ?_
  refine P.aload_n 3 (pc' := 729) dL_law_728 rfl rfl rfl ?_
  refine P.iload_n 0 (pc' := 730) dL_law_729 rfl rfl rfl ?_
  refine P.iconst (v := 1) (pc' := 731) dL_law_730 rfl rfl ?_
  refine P.iadd (pc' := 732) dL_law_731 rfl ?_
  refine P.iald (t := 10) (pc' := 733) rfl g1 dL_law_732 rfl ?_
  refine P.aload_n 3 (pc' := 734) dL_law_733 rfl rfl rfl ?_
  refine P.iload_n 0 (pc' := 735) dL_law_734 rfl rfl rfl ?_
  refine P.iconst (v := 2) (pc' := 736) dL_law_735 rfl rfl ?_
  refine P.iadd (pc' := 737) dL_law_736 rfl ?_
  refine P.iald (t := 10) (pc' := 738) rfl g2 dL_law_737 rfl ?_
  refine P.callV (pc' := 741) (As := [.int x1, .int x2]) (rest := [.int r]) 2 hT (Nat.le_of_ble_eq_true rfl) (lw_V q2068 q2069 q2070 q172 q2071) rfl ⟨by decide +kernel, by decide +kernel, by decide +kernel⟩ rfl (Nat.le_of_ble_eq_true rfl) ci9 ht (Nat.le_of_ble_eq_true rfl) rfl dL_law_738 rfl ?_
  refine P.icmp_eq (tgt := 1533) (pc' := 744) dL_law_741 (by decide) rfl (fun _ => kk) (fun z => absurd rfl z)
set_option maxHeartbeats 4000000 in
theorem L_case18 {cw tw b : Nat} {i r x1 x2 x3 : Int32} {M M1 M2 : Sw} {u1 u2 : Unit} (e1 : aI M 10 b (i + 1) = some x1) (g1 : aI M1 10 b (i + 1) = some x1) (e2 : aI M 10 b (i + 2) = some x2) (g2 : aI M1 10 b (i + 2) = some x2) (e3 : aI M 10 b (i + 3) = some x3) (g3 : aI M1 10 b (i + 3) = some x3) (hc : oc M cw 0 = some u1) (ht : oc M1 tw 9 = some u2) (hC : Cl g 8 yX0_work cX0_work 4 (some Jvm.ClassFile.FieldType.int) [.ref cw, .int x1, .int x2, .int x3] M (some (.int r)) M1) (hT : Cl g 2 yX9_work cX9_work 5 (some Jvm.ClassFile.FieldType.int) [.ref tw, .int x1, .int x2, .int x3] M1 (some (.int r)) M2) (kk : PW g mL 1562 μ0 μF Qk 1533 [(3, .int i), (2, .ref tw), (1, .ref cw), (0, .ref b)] [] M2) : PW g mL 1562 μ0 μF Qk 746 [(3, .int i), (2, .ref tw), (1, .ref cw), (0, .ref b)] [] M := by
  refine P.aload_n 2 (pc' := 747) dL_law_746 rfl rfl rfl ?_
  refine P.aload_n 3 (pc' := 748) dL_law_747 rfl rfl rfl ?_
  refine P.iload_n 0 (pc' := 749) dL_law_748 rfl rfl rfl ?_
  refine P.iconst (v := 1) (pc' := 750) dL_law_749 rfl rfl ?_
  refine P.iadd (pc' := 751) dL_law_750 rfl ?_
  refine P.iald (t := 10) (pc' := 752) rfl e1 dL_law_751 rfl ?_
  refine P.aload_n 3 (pc' := 753) dL_law_752 rfl rfl rfl ?_
  refine P.iload_n 0 (pc' := 754) dL_law_753 rfl rfl rfl ?_
  refine P.iconst (v := 2) (pc' := 755) dL_law_754 rfl rfl ?_
  refine P.iadd (pc' := 756) dL_law_755 rfl ?_
  refine P.iald (t := 10) (pc' := 757) rfl e2 dL_law_756 rfl ?_
  refine P.aload_n 3 (pc' := 758) dL_law_757 rfl rfl rfl ?_
  refine P.iload_n 0 (pc' := 759) dL_law_758 rfl rfl rfl ?_
  refine P.iconst (v := 3) (pc' := 760) dL_law_759 rfl rfl ?_
  refine P.iadd (pc' := 761) dL_law_760 rfl ?_
  refine P.iald (t := 10) (pc' := 762) rfl e3 dL_law_761 rfl ?_
  refine P.callV (pc' := 765) (As := [.int x1, .int x2, .int x3]) (rest := []) 3 hC (Nat.le_of_ble_eq_true rfl) (lw_V q1251 q1252 q1253 q159 q1254) rfl ⟨by decide +kernel, by decide +kernel, by decide +kernel⟩ rfl (Nat.le_of_ble_eq_true rfl) ci0 hc (Nat.le_of_ble_eq_true rfl) rfl dL_law_762 rfl ?_
  refine P.aload_n 1 (pc' := 766) dL_law_765 rfl rfl rfl ?_
  refine P.aload_n 3 (pc' := 767) dL_law_766 rfl rfl rfl ?_
  refine P.iload_n 0 (pc' := 768) dL_law_767 rfl rfl rfl ?_
  refine P.iconst (v := 1) (pc' := 769) dL_law_768 rfl rfl ?_
  refine P.iadd (pc' := 770) dL_law_769 rfl ?_
  refine P.iald (t := 10) (pc' := 771) rfl g1 dL_law_770 rfl ?_
  refine P.aload_n 3 (pc' := 772) dL_law_771 rfl rfl rfl ?_
  refine P.iload_n 0 (pc' := 773) dL_law_772 rfl rfl rfl ?_
  refine P.iconst (v := 2) (pc' := 774) dL_law_773 rfl rfl ?_
  refine P.iadd (pc' := 775) dL_law_774 rfl ?_
  refine P.iald (t := 10) (pc' := 776) rfl g2 dL_law_775 rfl ?_
  refine P.aload_n 3 (pc' := 777) dL_law_776 rfl rfl rfl ?_
  refine P.iload_n 0 (pc' := 778) dL_law_777 rfl rfl rfl ?_
  refine P.iconst (v := 3) (pc' := 779) dL_law_778 rfl rfl ?_
  refine P.iadd (pc' := 780) dL_law_779 rfl ?_
  refine P.iald (t := 10) (pc' := 781) rfl g3 dL_law_780 rfl ?_
  refine P.callV (pc' := 784) (As := [.int x1, .int x2, .int x3]) (rest := [.int r]) 3 hT (Nat.le_of_ble_eq_true rfl) (lw_V q2080 q2081 q2082 q172 q2083) rfl ⟨by decide +kernel, by decide +kernel, by decide +kernel⟩ rfl (Nat.le_of_ble_eq_true rfl) ci9 ht (Nat.le_of_ble_eq_true rfl) rfl dL_law_781 rfl ?_
  refine P.icmp_eq (tgt := 1533) (pc' := 787) dL_law_784 (by decide) rfl (fun _ => kk) (fun z => absurd rfl z)
set_option maxHeartbeats 4000000 in
theorem L_case19 {cw tw b : Nat} {i r : Int32} {M M1 M2 : Sw} {u1 u2 : Unit} (hc : oc M cw 0 = some u1) (ht : oc M1 tw 9 = some u2) (hC : Cl g 2 yX0_forget cX0_forget 2 (some Jvm.ClassFile.FieldType.int) [.ref cw] M (some (.int r)) M1) (hT : Cl g 1 yX9_forget cX9_forget 2 (some Jvm.ClassFile.FieldType.int) [.ref tw] M1 (some (.int r)) M2) (kk : PW g mL 1562 μ0 μF Qk 1533 [(3, .int i), (2, .ref tw), (1, .ref cw), (0, .ref b)] [] M2) : PW g mL 1562 μ0 μF Qk 789 [(3, .int i), (2, .ref tw), (1, .ref cw), (0, .ref b)] [] M := by
  refine P.aload_n 2 (pc' := 790) dL_law_789 rfl rfl rfl ?_
  refine P.callV (pc' := 793) (As := []) (rest := []) 0 hC (Nat.le_of_ble_eq_true rfl) (lw_V q1275 q1276 q1277 q159 q1278) rfl ⟨by decide +kernel, by decide +kernel, by decide +kernel⟩ rfl (Nat.le_of_ble_eq_true rfl) ci0 hc (Nat.le_of_ble_eq_true rfl) rfl dL_law_790 rfl ?_
  refine P.aload_n 1 (pc' := 794) dL_law_793 rfl rfl rfl ?_
  refine P.callV (pc' := 797) (As := []) (rest := [.int r]) 0 hT (Nat.le_of_ble_eq_true rfl) (lw_V q2084 q2085 q2086 q172 q2087) rfl ⟨by decide +kernel, by decide +kernel, by decide +kernel⟩ rfl (Nat.le_of_ble_eq_true rfl) ci9 ht (Nat.le_of_ble_eq_true rfl) rfl dL_law_794 rfl ?_
  refine P.icmp_eq (tgt := 1533) (pc' := 800) dL_law_797 (by decide) rfl (fun _ => kk) (fun z => absurd rfl z)
set_option maxHeartbeats 4000000 in
theorem L_case20 {cw tw b : Nat} {i r : Int32} {M M1 M2 : Sw} {u1 u2 : Unit} (hc : oc M cw 0 = some u1) (ht : oc M1 tw 9 = some u2) (hC : Cl g 415 yX0_judge cX0_judge 2 (some Jvm.ClassFile.FieldType.int) [.ref cw] M (some (.int r)) M1) (hT : Cl g 6 yX9_judge cX9_judge 2 (some Jvm.ClassFile.FieldType.int) [.ref tw] M1 (some (.int r)) M2) (kk : PW g mL 1562 μ0 μF Qk 1533 [(3, .int i), (2, .ref tw), (1, .ref cw), (0, .ref b)] [] M2) : PW g mL 1562 μ0 μF Qk 802 [(3, .int i), (2, .ref tw), (1, .ref cw), (0, .ref b)] [] M := by
  refine P.aload_n 2 (pc' := 803) dL_law_802 rfl rfl rfl ?_
  refine P.callV (pc' := 806) (As := []) (rest := []) 0 hC (Nat.le_of_ble_eq_true rfl) (lw_V q1283 q1284 q1285 q159 q1286) rfl ⟨by decide +kernel, by decide +kernel, by decide +kernel⟩ rfl (Nat.le_of_ble_eq_true rfl) ci0 hc (Nat.le_of_ble_eq_true rfl) rfl dL_law_803 rfl ?_
  refine P.aload_n 1 (pc' := 807) dL_law_806 rfl rfl rfl ?_
  refine P.callV (pc' := 810) (As := []) (rest := [.int r]) 0 hT (Nat.le_of_ble_eq_true rfl) (lw_V q2088 q2089 q2090 q172 q2091) rfl ⟨by decide +kernel, by decide +kernel, by decide +kernel⟩ rfl (Nat.le_of_ble_eq_true rfl) ci9 ht (Nat.le_of_ble_eq_true rfl) rfl dL_law_807 rfl ?_
  refine P.icmp_eq (tgt := 1533) (pc' := 813) dL_law_810 (by decide) rfl (fun _ => kk) (fun z => absurd rfl z)
set_option maxHeartbeats 4000000 in
theorem L_case21 {cw tw b : Nat} {i r : Int32} {M M1 M2 : Sw} {u1 u2 : Unit} (hc : oc M cw 0 = some u1) (ht : oc M1 tw 9 = some u2) (hC : Cl g 415 yX0_done cX0_done 2 (some Jvm.ClassFile.FieldType.int) [.ref cw] M (some (.int r)) M1) (hT : Cl g 6 yX9_done cX9_done 2 (some Jvm.ClassFile.FieldType.int) [.ref tw] M1 (some (.int r)) M2) (kk : PW g mL 1562 μ0 μF Qk 1533 [(3, .int i), (2, .ref tw), (1, .ref cw), (0, .ref b)] [] M2) : PW g mL 1562 μ0 μF Qk 815 [(3, .int i), (2, .ref tw), (1, .ref cw), (0, .ref b)] [] M := by
  refine P.aload_n 2 (pc' := 816) dL_law_815 rfl rfl rfl ?_
  refine P.callV (pc' := 819) (As := []) (rest := []) 0 hC (Nat.le_of_ble_eq_true rfl) (lw_V q1308 q1309 q1310 q159 q1311) rfl ⟨by decide +kernel, by decide +kernel, by decide +kernel⟩ rfl (Nat.le_of_ble_eq_true rfl) ci0 hc (Nat.le_of_ble_eq_true rfl) rfl dL_law_816 rfl ?_
  refine P.aload_n 1 (pc' := 820) dL_law_819 rfl rfl rfl ?_
  refine P.callV (pc' := 823) (As := []) (rest := [.int r]) 0 hT (Nat.le_of_ble_eq_true rfl) (lw_V q2108 q2109 q2110 q172 q2111) rfl ⟨by decide +kernel, by decide +kernel, by decide +kernel⟩ rfl (Nat.le_of_ble_eq_true rfl) ci9 ht (Nat.le_of_ble_eq_true rfl) rfl dL_law_820 rfl ?_
  refine P.icmp_eq (tgt := 1533) (pc' := 826) dL_law_823 (by decide) rfl (fun _ => kk) (fun z => absurd rfl z)
set_option maxHeartbeats 4000000 in
theorem L_case22 {cw tw b : Nat} {i r : Int32} {M M1 M2 : Sw} {u1 u2 : Unit} (hc : oc M cw 0 = some u1) (ht : oc M1 tw 9 = some u2) (hC : Cl g 3 yX0_undo cX0_undo 1 (some Jvm.ClassFile.FieldType.boolean) [.ref cw] M (some (.int r)) M1) (hT : Cl g 2 yX9_undo cX9_undo 1 (some Jvm.ClassFile.FieldType.boolean) [.ref tw] M1 (some (.int r)) M2) (kk : PW g mL 1562 μ0 μF Qk 1533 [(3, .int i), (2, .ref tw), (1, .ref cw), (0, .ref b)] [] M2) : PW g mL 1562 μ0 μF Qk 828 [(3, .int i), (2, .ref tw), (1, .ref cw), (0, .ref b)] [] M := by
  refine P.aload_n 2 (pc' := 829) dL_law_828 rfl rfl rfl ?_
  refine P.callV (pc' := 832) (As := []) (rest := []) 0 hC (Nat.le_of_ble_eq_true rfl) (lw_V q1316 q1317 q1318 q159 q1319) rfl ⟨by decide +kernel, by decide +kernel, by decide +kernel⟩ rfl (Nat.le_of_ble_eq_true rfl) ci0 hc (Nat.le_of_ble_eq_true rfl) rfl dL_law_829 rfl ?_
  refine P.aload_n 1 (pc' := 833) dL_law_832 rfl rfl rfl ?_
  refine P.callV (pc' := 836) (As := []) (rest := [.int r]) 0 hT (Nat.le_of_ble_eq_true rfl) (lw_V q2112 q2113 q2114 q172 q2115) rfl ⟨by decide +kernel, by decide +kernel, by decide +kernel⟩ rfl (Nat.le_of_ble_eq_true rfl) ci9 ht (Nat.le_of_ble_eq_true rfl) rfl dL_law_833 rfl ?_
  refine P.icmp_eq (tgt := 1533) (pc' := 839) dL_law_836 (by decide) rfl (fun _ => kk) (fun z => absurd rfl z)
set_option maxHeartbeats 4000000 in
theorem L_case23 {cw tw b : Nat} {i r x1 : Int32} {M M1 M2 : Sw} {u1 u2 : Unit} (e1 : aI M 10 b (i + 1) = some x1) (g1 : aI M1 10 b (i + 1) = some x1) (hc : oc M cw 0 = some u1) (ht : oc M1 tw 9 = some u2) (hC : Cl g 415 yX0_nights cX0_nights 7 (some Jvm.ClassFile.FieldType.int) [.ref cw, .int x1] M (some (.int r)) M1) (hT : Cl g 6 yX9_nights cX9_nights 4 (some Jvm.ClassFile.FieldType.int) [.ref tw, .int x1] M1 (some (.int r)) M2) (kk : PW g mL 1562 μ0 μF Qk 1533 [(3, .int i), (2, .ref tw), (1, .ref cw), (0, .ref b)] [] M2) : PW g mL 1562 μ0 μF Qk 841 [(3, .int i), (2, .ref tw), (1, .ref cw), (0, .ref b)] [] M := by
  refine P.aload_n 2 (pc' := 842) dL_law_841 rfl rfl rfl ?_
  refine P.aload_n 3 (pc' := 843) dL_law_842 rfl rfl rfl ?_
  refine P.iload_n 0 (pc' := 844) dL_law_843 rfl rfl rfl ?_
  refine P.iconst (v := 1) (pc' := 845) dL_law_844 rfl rfl ?_
  refine P.iadd (pc' := 846) dL_law_845 rfl ?_
  refine P.iald (t := 10) (pc' := 847) rfl e1 dL_law_846 rfl ?_
  refine P.callV (pc' := 850) (As := [.int x1]) (rest := []) 1 hC (Nat.le_of_ble_eq_true rfl) (lw_V q1320 q1321 q1322 q159 q1323) rfl ⟨by decide +kernel, by decide +kernel, by decide +kernel⟩ rfl (Nat.le_of_ble_eq_true rfl) ci0 hc (Nat.le_of_ble_eq_true rfl) rfl dL_law_847 rfl ?_
  refine P.aload_n 1 (pc' := 851) dL_law_850 rfl rfl rfl ?_
  refine P.aload_n 3 (pc' := 852) dL_law_851 rfl rfl rfl ?_
  refine P.iload_n 0 (pc' := 853) dL_law_852 rfl rfl rfl ?_
  refine P.iconst (v := 1) (pc' := 854) dL_law_853 rfl rfl ?_
  refine P.iadd (pc' := 855) dL_law_854 rfl ?_
  refine P.iald (t := 10) (pc' := 856) rfl g1 dL_law_855 rfl ?_
  refine P.callV (pc' := 859) (As := [.int x1]) (rest := [.int r]) 1 hT (Nat.le_of_ble_eq_true rfl) (lw_V q2116 q2117 q2118 q172 q2119) rfl ⟨by decide +kernel, by decide +kernel, by decide +kernel⟩ rfl (Nat.le_of_ble_eq_true rfl) ci9 ht (Nat.le_of_ble_eq_true rfl) rfl dL_law_856 rfl ?_
  refine P.icmp_eq (tgt := 1533) (pc' := 862) dL_law_859 (by decide) rfl (fun _ => kk) (fun z => absurd rfl z)
set_option maxHeartbeats 4000000 in
theorem L_case24 {cw tw b : Nat} {i r x1 x2 : Int32} {M M1 M2 : Sw} {u1 u2 : Unit} (e1 : aI M 10 b (i + 1) = some x1) (g1 : aI M1 10 b (i + 1) = some x1) (e2 : aI M 10 b (i + 2) = some x2) (g2 : aI M1 10 b (i + 2) = some x2) (hc : oc M cw 0 = some u1) (ht : oc M1 tw 9 = some u2) (hC : Cl g 6 yX0_looks cX0_looks 3 (some Jvm.ClassFile.FieldType.int) [.ref cw, .int x1, .int x2] M (some (.int r)) M1) (hT : Cl g 3 yX9_looks cX9_looks 4 (some Jvm.ClassFile.FieldType.int) [.ref tw, .int x1, .int x2] M1 (some (.int r)) M2) (kk : PW g mL 1562 μ0 μF Qk 1533 [(3, .int i), (2, .ref tw), (1, .ref cw), (0, .ref b)] [] M2) : PW g mL 1562 μ0 μF Qk 864 [(3, .int i), (2, .ref tw), (1, .ref cw), (0, .ref b)] [] M := by
  refine P.aload_n 2 (pc' := 865) dL_law_864 rfl rfl rfl ?_
  refine P.aload_n 3 (pc' := 866) dL_law_865 rfl rfl rfl ?_
  refine P.iload_n 0 (pc' := 867) dL_law_866 rfl rfl rfl ?_
  refine P.iconst (v := 1) (pc' := 868) dL_law_867 rfl rfl ?_
  refine P.iadd (pc' := 869) dL_law_868 rfl ?_
  refine P.iald (t := 10) (pc' := 870) rfl e1 dL_law_869 rfl ?_
  refine P.aload_n 3 (pc' := 871) dL_law_870 rfl rfl rfl ?_
  refine P.iload_n 0 (pc' := 872) dL_law_871 rfl rfl rfl ?_
  refine P.iconst (v := 2) (pc' := 873) dL_law_872 rfl rfl ?_
  refine P.iadd (pc' := 874) dL_law_873 rfl ?_
  refine P.iald (t := 10) (pc' := 875) rfl e2 dL_law_874 rfl ?_
  refine P.callV (pc' := 878) (As := [.int x1, .int x2]) (rest := []) 2 hC (Nat.le_of_ble_eq_true rfl) (lw_V q1332 q1333 q1334 q159 q1335) rfl ⟨by decide +kernel, by decide +kernel, by decide +kernel⟩ rfl (Nat.le_of_ble_eq_true rfl) ci0 hc (Nat.le_of_ble_eq_true rfl) rfl dL_law_875 rfl ?_
  refine P.aload_n 1 (pc' := 879) dL_law_878 rfl rfl rfl ?_
  refine P.aload_n 3 (pc' := 880) dL_law_879 rfl rfl rfl ?_
  refine P.iload_n 0 (pc' := 881) dL_law_880 rfl rfl rfl ?_
  refine P.iconst (v := 1) (pc' := 882) dL_law_881 rfl rfl ?_
  refine P.iadd (pc' := 883) dL_law_882 rfl ?_
  refine P.iald (t := 10) (pc' := 884) rfl g1 dL_law_883 rfl ?_
  refine P.aload_n 3 (pc' := 885) dL_law_884 rfl rfl rfl ?_
  refine P.iload_n 0 (pc' := 886) dL_law_885 rfl rfl rfl ?_
  refine P.iconst (v := 2) (pc' := 887) dL_law_886 rfl rfl ?_
  refine P.iadd (pc' := 888) dL_law_887 rfl ?_
  refine P.iald (t := 10) (pc' := 889) rfl g2 dL_law_888 rfl ?_
  refine P.callV (pc' := 892) (As := [.int x1, .int x2]) (rest := [.int r]) 2 hT (Nat.le_of_ble_eq_true rfl) (lw_V q2132 q2133 q2134 q172 q2135) rfl ⟨by decide +kernel, by decide +kernel, by decide +kernel⟩ rfl (Nat.le_of_ble_eq_true rfl) ci9 ht (Nat.le_of_ble_eq_true rfl) rfl dL_law_889 rfl ?_
  refine P.icmp_eq (tgt := 1533) (pc' := 895) dL_law_892 (by decide) rfl (fun _ => kk) (fun z => absurd rfl z)
set_option maxHeartbeats 4000000 in
theorem L_case25 {cw tw b : Nat} {i r x1 : Int32} {M M1 M2 : Sw} {u1 u2 : Unit} (e1 : aI M 10 b (i + 1) = some x1) (g1 : aI M1 10 b (i + 1) = some x1) (hc : oc M cw 0 = some u1) (ht : oc M1 tw 9 = some u2) (hC : Cl g 5 yX0_light cX0_light 5 (some Jvm.ClassFile.FieldType.int) [.ref cw, .int x1] M (some (.int r)) M1) (hT : Cl g 2 yX9_light cX9_light 7 (some Jvm.ClassFile.FieldType.int) [.ref tw, .int x1] M1 (some (.int r)) M2) (kk : PW g mL 1562 μ0 μF Qk 1533 [(3, .int i), (2, .ref tw), (1, .ref cw), (0, .ref b)] [] M2) : PW g mL 1562 μ0 μF Qk 897 [(3, .int i), (2, .ref tw), (1, .ref cw), (0, .ref b)] [] M := by
  refine P.aload_n 2 (pc' := 898) dL_law_897 rfl rfl rfl ?_
  refine P.aload_n 3 (pc' := 899) dL_law_898 rfl rfl rfl ?_
  refine P.iload_n 0 (pc' := 900) dL_law_899 rfl rfl rfl ?_
  refine P.iconst (v := 1) (pc' := 901) dL_law_900 rfl rfl ?_
  refine P.iadd (pc' := 902) dL_law_901 rfl ?_
  refine P.iald (t := 10) (pc' := 903) rfl e1 dL_law_902 rfl ?_
  refine P.callV (pc' := 906) (As := [.int x1]) (rest := []) 1 hC (Nat.le_of_ble_eq_true rfl) (lw_V q1344 q1345 q1346 q159 q1347) rfl ⟨by decide +kernel, by decide +kernel, by decide +kernel⟩ rfl (Nat.le_of_ble_eq_true rfl) ci0 hc (Nat.le_of_ble_eq_true rfl) rfl dL_law_903 rfl ?_
  refine P.aload_n 1 (pc' := 907) dL_law_906 rfl rfl rfl ?_
  refine P.aload_n 3 (pc' := 908) dL_law_907 rfl rfl rfl ?_
  refine P.iload_n 0 (pc' := 909) dL_law_908 rfl rfl rfl ?_
  refine P.iconst (v := 1) (pc' := 910) dL_law_909 rfl rfl ?_
  refine P.iadd (pc' := 911) dL_law_910 rfl ?_
  refine P.iald (t := 10) (pc' := 912) rfl g1 dL_law_911 rfl ?_
  refine P.callV (pc' := 915) (As := [.int x1]) (rest := [.int r]) 1 hT (Nat.le_of_ble_eq_true rfl) (lw_V q2144 q2145 q2146 q172 q2147) rfl ⟨by decide +kernel, by decide +kernel, by decide +kernel⟩ rfl (Nat.le_of_ble_eq_true rfl) ci9 ht (Nat.le_of_ble_eq_true rfl) rfl dL_law_912 rfl ?_
  refine P.icmp_eq (tgt := 1533) (pc' := 918) dL_law_915 (by decide) rfl (fun _ => kk) (fun z => absurd rfl z)
set_option maxHeartbeats 4000000 in
theorem L_case26 {cw tw b : Nat} {i r x1 x2 : Int32} {M M1 M2 : Sw} {u1 u2 : Unit} (e1 : aI M 10 b (i + 1) = some x1) (g1 : aI M1 10 b (i + 1) = some x1) (e2 : aI M 10 b (i + 2) = some x2) (g2 : aI M1 10 b (i + 2) = some x2) (hc : oc M cw 0 = some u1) (ht : oc M1 tw 9 = some u2) (hC : Cl g 413 yX0_sway cX0_sway 3 (some Jvm.ClassFile.FieldType.int) [.ref cw, .int x1, .int x2] M (some (.int r)) M1) (hT : Cl g 4 yX9_sway cX9_sway 3 (some Jvm.ClassFile.FieldType.int) [.ref tw, .int x1, .int x2] M1 (some (.int r)) M2) (kk : PW g mL 1562 μ0 μF Qk 1533 [(3, .int i), (2, .ref tw), (1, .ref cw), (0, .ref b)] [] M2) : PW g mL 1562 μ0 μF Qk 920 [(3, .int i), (2, .ref tw), (1, .ref cw), (0, .ref b)] [] M := by
  refine P.aload_n 2 (pc' := 921) dL_law_920 rfl rfl rfl ?_
  refine P.aload_n 3 (pc' := 922) dL_law_921 rfl rfl rfl ?_
  refine P.iload_n 0 (pc' := 923) dL_law_922 rfl rfl rfl ?_
  refine P.iconst (v := 1) (pc' := 924) dL_law_923 rfl rfl ?_
  refine P.iadd (pc' := 925) dL_law_924 rfl ?_
  refine P.iald (t := 10) (pc' := 926) rfl e1 dL_law_925 rfl ?_
  refine P.aload_n 3 (pc' := 927) dL_law_926 rfl rfl rfl ?_
  refine P.iload_n 0 (pc' := 928) dL_law_927 rfl rfl rfl ?_
  refine P.iconst (v := 2) (pc' := 929) dL_law_928 rfl rfl ?_
  refine P.iadd (pc' := 930) dL_law_929 rfl ?_
  refine P.iald (t := 10) (pc' := 931) rfl e2 dL_law_930 rfl ?_
  refine P.callV (pc' := 934) (As := [.int x1, .int x2]) (rest := []) 2 hC (Nat.le_of_ble_eq_true rfl) (lw_V q1348 q1349 q1350 q159 q1351) rfl ⟨by decide +kernel, by decide +kernel, by decide +kernel⟩ rfl (Nat.le_of_ble_eq_true rfl) ci0 hc (Nat.le_of_ble_eq_true rfl) rfl dL_law_931 rfl ?_
  refine P.aload_n 1 (pc' := 935) dL_law_934 rfl rfl rfl ?_
  refine P.aload_n 3 (pc' := 936) dL_law_935 rfl rfl rfl ?_
  refine P.iload_n 0 (pc' := 937) dL_law_936 rfl rfl rfl ?_
  refine P.iconst (v := 1) (pc' := 938) dL_law_937 rfl rfl ?_
  refine P.iadd (pc' := 939) dL_law_938 rfl ?_
  refine P.iald (t := 10) (pc' := 940) rfl g1 dL_law_939 rfl ?_
  refine P.aload_n 3 (pc' := 941) dL_law_940 rfl rfl rfl ?_
  refine P.iload_n 0 (pc' := 942) dL_law_941 rfl rfl rfl ?_
  refine P.iconst (v := 2) (pc' := 943) dL_law_942 rfl rfl ?_
  refine P.iadd (pc' := 944) dL_law_943 rfl ?_
  refine P.iald (t := 10) (pc' := 945) rfl g2 dL_law_944 rfl ?_
  refine P.callV (pc' := 948) (As := [.int x1, .int x2]) (rest := [.int r]) 2 hT (Nat.le_of_ble_eq_true rfl) (lw_V q2148 q2149 q2150 q172 q2151) rfl ⟨by decide +kernel, by decide +kernel, by decide +kernel⟩ rfl (Nat.le_of_ble_eq_true rfl) ci9 ht (Nat.le_of_ble_eq_true rfl) rfl dL_law_945 rfl ?_
  refine P.icmp_eq (tgt := 1533) (pc' := 951) dL_law_948 (by decide) rfl (fun _ => kk) (fun z => absurd rfl z)
set_option maxHeartbeats 4000000 in
theorem L_case27 {cw tw b : Nat} {i r x1 x2 x3 : Int32} {M M1 M2 : Sw} {u1 u2 : Unit} (e1 : aI M 10 b (i + 1) = some x1) (g1 : aI M1 10 b (i + 1) = some x1) (e2 : aI M 10 b (i + 2) = some x2) (g2 : aI M1 10 b (i + 2) = some x2) (e3 : aI M 10 b (i + 3) = some x3) (g3 : aI M1 10 b (i + 3) = some x3) (hc : oc M cw 0 = some u1) (ht : oc M1 tw 9 = some u2) (hC : Cl g 423 yX0_chain cX0_chain 7 (some Jvm.ClassFile.FieldType.int) [.ref cw, .int x1, .int x2, .int x3] M (some (.int r)) M1) (hT : Cl g 7 yX9_chain cX9_chain 4 (some Jvm.ClassFile.FieldType.int) [.ref tw, .int x1, .int x2, .int x3] M1 (some (.int r)) M2) (kk : PW g mL 1562 μ0 μF Qk 1533 [(3, .int i), (2, .ref tw), (1, .ref cw), (0, .ref b)] [] M2) : PW g mL 1562 μ0 μF Qk 953 [(3, .int i), (2, .ref tw), (1, .ref cw), (0, .ref b)] [] M := by
  refine P.aload_n 2 (pc' := 954) dL_law_953 rfl rfl rfl ?_
  refine P.aload_n 3 (pc' := 955) dL_law_954 rfl rfl rfl ?_
  refine P.iload_n 0 (pc' := 956) dL_law_955 rfl rfl rfl ?_
  refine P.iconst (v := 1) (pc' := 957) dL_law_956 rfl rfl ?_
  refine P.iadd (pc' := 958) dL_law_957 rfl ?_
  refine P.iald (t := 10) (pc' := 959) rfl e1 dL_law_958 rfl ?_
  refine P.aload_n 3 (pc' := 960) dL_law_959 rfl rfl rfl ?_
  refine P.iload_n 0 (pc' := 961) dL_law_960 rfl rfl rfl ?_
  refine P.iconst (v := 2) (pc' := 962) dL_law_961 rfl rfl ?_
  refine P.iadd (pc' := 963) dL_law_962 rfl ?_
  refine P.iald (t := 10) (pc' := 964) rfl e2 dL_law_963 rfl ?_
  refine P.aload_n 3 (pc' := 965) dL_law_964 rfl rfl rfl ?_
  refine P.iload_n 0 (pc' := 966) dL_law_965 rfl rfl rfl ?_
  refine P.iconst (v := 3) (pc' := 967) dL_law_966 rfl rfl ?_
  refine P.iadd (pc' := 968) dL_law_967 rfl ?_
  refine P.iald (t := 10) (pc' := 969) rfl e3 dL_law_968 rfl ?_
  refine P.callV (pc' := 972) (As := [.int x1, .int x2, .int x3]) (rest := []) 3 hC (Nat.le_of_ble_eq_true rfl) (lw_V q1355 q1356 q1357 q159 q1358) rfl ⟨by decide +kernel, by decide +kernel, by decide +kernel⟩ rfl (Nat.le_of_ble_eq_true rfl) ci0 hc (Nat.le_of_ble_eq_true rfl) rfl dL_law_969 rfl ?_
  refine P.aload_n 1 (pc' := 973) dL_law_972 rfl rfl rfl ?_
  refine P.aload_n 3 (pc' := 974) dL_law_973 rfl rfl rfl ?_
  refine P.iload_n 0 (pc' := 975) dL_law_974 rfl rfl rfl ?_
  refine P.iconst (v := 1) (pc' := 976) dL_law_975 rfl rfl ?_
  refine P.iadd (pc' := 977) dL_law_976 rfl ?_
  refine P.iald (t := 10) (pc' := 978) rfl g1 dL_law_977 rfl ?_
  refine P.aload_n 3 (pc' := 979) dL_law_978 rfl rfl rfl ?_
  refine P.iload_n 0 (pc' := 980) dL_law_979 rfl rfl rfl ?_
  refine P.iconst (v := 2) (pc' := 981) dL_law_980 rfl rfl ?_
  refine P.iadd (pc' := 982) dL_law_981 rfl ?_
  refine P.iald (t := 10) (pc' := 983) rfl g2 dL_law_982 rfl ?_
  refine P.aload_n 3 (pc' := 984) dL_law_983 rfl rfl rfl ?_
  refine P.iload_n 0 (pc' := 985) dL_law_984 rfl rfl rfl ?_
  refine P.iconst (v := 3) (pc' := 986) dL_law_985 rfl rfl ?_
  refine P.iadd (pc' := 987) dL_law_986 rfl ?_
  refine P.iald (t := 10) (pc' := 988) rfl g3 dL_law_987 rfl ?_
  refine P.callV (pc' := 991) (As := [.int x1, .int x2, .int x3]) (rest := [.int r]) 3 hT (Nat.le_of_ble_eq_true rfl) (lw_V q2155 q2156 q2157 q172 q2158) rfl ⟨by decide +kernel, by decide +kernel, by decide +kernel⟩ rfl (Nat.le_of_ble_eq_true rfl) ci9 ht (Nat.le_of_ble_eq_true rfl) rfl dL_law_988 rfl ?_
  refine P.icmp_eq (tgt := 1533) (pc' := 994) dL_law_991 (by decide) rfl (fun _ => kk) (fun z => absurd rfl z)
set_option maxHeartbeats 4000000 in
theorem L_case28 {cw tw b : Nat} {i r x1 : Int32} {M M1 M2 : Sw} {u1 u2 : Unit} (e1 : aI M 10 b (i + 1) = some x1) (g1 : aI M1 10 b (i + 1) = some x1) (hc : oc M cw 0 = some u1) (ht : oc M1 tw 9 = some u2) (hC : Cl g 423 yX0_dread cX0_dread 6 (some Jvm.ClassFile.FieldType.int) [.ref cw, .int x1] M (some (.int r)) M1) (hT : Cl g 7 yX9_dread cX9_dread 5 (some Jvm.ClassFile.FieldType.int) [.ref tw, .int x1] M1 (some (.int r)) M2) (kk : PW g mL 1562 μ0 μF Qk 1533 [(3, .int i), (2, .ref tw), (1, .ref cw), (0, .ref b)] [] M2) : PW g mL 1562 μ0 μF Qk 996 [(3, .int i), (2, .ref tw), (1, .ref cw), (0, .ref b)] [] M := by
  refine P.aload_n 2 (pc' := 997) dL_law_996 rfl rfl rfl ?_
  refine P.aload_n 3 (pc' := 998) dL_law_997 rfl rfl rfl ?_
  refine P.iload_n 0 (pc' := 999) dL_law_998 rfl rfl rfl ?_
  refine P.iconst (v := 1) (pc' := 1000) dL_law_999 rfl rfl ?_
  refine P.iadd (pc' := 1001) dL_law_1000 rfl ?_
  refine P.iald (t := 10) (pc' := 1002) rfl e1 dL_law_1001 rfl ?_
  refine P.callV (pc' := 1005) (As := [.int x1]) (rest := []) 1 hC (Nat.le_of_ble_eq_true rfl) (lw_V q1379 q1380 q1381 q159 q1382) rfl ⟨by decide +kernel, by decide +kernel, by decide +kernel⟩ rfl (Nat.le_of_ble_eq_true rfl) ci0 hc (Nat.le_of_ble_eq_true rfl) rfl dL_law_1002 rfl ?_
  refine P.aload_n 1 (pc' := 1006) dL_law_1005 rfl rfl rfl ?_
  refine P.aload_n 3 (pc' := 1007) dL_law_1006 rfl rfl rfl ?_
  refine P.iload_n 0 (pc' := 1008) dL_law_1007 rfl rfl rfl ?_
  refine P.iconst (v := 1) (pc' := 1009) dL_law_1008 rfl rfl ?_
  refine P.iadd (pc' := 1010) dL_law_1009 rfl ?_
  refine P.iald (t := 10) (pc' := 1011) rfl g1 dL_law_1010 rfl ?_
  refine P.callV (pc' := 1014) (As := [.int x1]) (rest := [.int r]) 1 hT (Nat.le_of_ble_eq_true rfl) (lw_V q2171 q2172 q2173 q172 q2174) rfl ⟨by decide +kernel, by decide +kernel, by decide +kernel⟩ rfl (Nat.le_of_ble_eq_true rfl) ci9 ht (Nat.le_of_ble_eq_true rfl) rfl dL_law_1011 rfl ?_
  refine P.icmp_eq (tgt := 1533) (pc' := 1017) dL_law_1014 (by decide) rfl (fun _ => kk) (fun z => absurd rfl z)
set_option maxHeartbeats 4000000 in
theorem L_case29 {cw tw b : Nat} {i r x1 : Int32} {M M1 M2 : Sw} {u1 u2 : Unit} (e1 : aI M 10 b (i + 1) = some x1) (g1 : aI M1 10 b (i + 1) = some x1) (hc : oc M cw 0 = some u1) (ht : oc M1 tw 9 = some u2) (hC : Cl g 2 yX0_year cX0_year 2 (some Jvm.ClassFile.FieldType.int) [.ref cw, .int x1] M (some (.int r)) M1) (hT : Cl g 2 yX9_year cX9_year 2 (some Jvm.ClassFile.FieldType.int) [.ref tw, .int x1] M1 (some (.int r)) M2) (kk : PW g mL 1562 μ0 μF Qk 1533 [(3, .int i), (2, .ref tw), (1, .ref cw), (0, .ref b)] [] M2) : PW g mL 1562 μ0 μF Qk 1019 [(3, .int i), (2, .ref tw), (1, .ref cw), (0, .ref b)] [] M := by
  refine P.aload_n 2 (pc' := 1020) dL_law_1019 rfl rfl rfl ?_
  refine P.aload_n 3 (pc' := 1021) dL_law_1020 rfl rfl rfl ?_
  refine P.iload_n 0 (pc' := 1022) dL_law_1021 rfl rfl rfl ?_
  refine P.iconst (v := 1) (pc' := 1023) dL_law_1022 rfl rfl ?_
  refine P.iadd (pc' := 1024) dL_law_1023 rfl ?_
  refine P.iald (t := 10) (pc' := 1025) rfl e1 dL_law_1024 rfl ?_
  refine P.callV (pc' := 1028) (As := [.int x1]) (rest := []) 1 hC (Nat.le_of_ble_eq_true rfl) (lw_V q1383 q1384 q1385 q159 q1386) rfl ⟨by decide +kernel, by decide +kernel, by decide +kernel⟩ rfl (Nat.le_of_ble_eq_true rfl) ci0 hc (Nat.le_of_ble_eq_true rfl) rfl dL_law_1025 rfl ?_
  refine P.aload_n 1 (pc' := 1029) dL_law_1028 rfl rfl rfl ?_
  refine P.aload_n 3 (pc' := 1030) dL_law_1029 rfl rfl rfl ?_
  refine P.iload_n 0 (pc' := 1031) dL_law_1030 rfl rfl rfl ?_
  refine P.iconst (v := 1) (pc' := 1032) dL_law_1031 rfl rfl ?_
  refine P.iadd (pc' := 1033) dL_law_1032 rfl ?_
  refine P.iald (t := 10) (pc' := 1034) rfl g1 dL_law_1033 rfl ?_
  refine P.callV (pc' := 1037) (As := [.int x1]) (rest := [.int r]) 1 hT (Nat.le_of_ble_eq_true rfl) (lw_V q2175 q2176 q2177 q172 q2178) rfl ⟨by decide +kernel, by decide +kernel, by decide +kernel⟩ rfl (Nat.le_of_ble_eq_true rfl) ci9 ht (Nat.le_of_ble_eq_true rfl) rfl dL_law_1034 rfl ?_
  refine P.icmp_eq (tgt := 1533) (pc' := 1040) dL_law_1037 (by decide) rfl (fun _ => kk) (fun z => absurd rfl z)
set_option maxHeartbeats 4000000 in
theorem L_case30 {cw tw b : Nat} {i r : Int32} {M M1 M2 : Sw} {u1 u2 : Unit} (hc : oc M cw 0 = some u1) (ht : oc M1 tw 9 = some u2) (hC : Cl g 1 yX0_clear cX0_clear 2 (some Jvm.ClassFile.FieldType.int) [.ref cw] M (some (.int r)) M1) (hT : Cl g 1 yX9_clear cX9_clear 2 (some Jvm.ClassFile.FieldType.int) [.ref tw] M1 (some (.int r)) M2) (kk : PW g mL 1562 μ0 μF Qk 1533 [(3, .int i), (2, .ref tw), (1, .ref cw), (0, .ref b)] [] M2) : PW g mL 1562 μ0 μF Qk 1042 [(3, .int i), (2, .ref tw), (1, .ref cw), (0, .ref b)] [] M := by
  refine P.aload_n 2 (pc' := 1043) dL_law_1042 rfl rfl rfl ?_
  refine P.callV (pc' := 1046) (As := []) (rest := []) 0 hC (Nat.le_of_ble_eq_true rfl) (lw_V q1387 q1388 q1389 q159 q1390) rfl ⟨by decide +kernel, by decide +kernel, by decide +kernel⟩ rfl (Nat.le_of_ble_eq_true rfl) ci0 hc (Nat.le_of_ble_eq_true rfl) rfl dL_law_1043 rfl ?_
  refine P.aload_n 1 (pc' := 1047) dL_law_1046 rfl rfl rfl ?_
  refine P.callV (pc' := 1050) (As := []) (rest := [.int r]) 0 hT (Nat.le_of_ble_eq_true rfl) (lw_V q2179 q2180 q2181 q172 q2182) rfl ⟨by decide +kernel, by decide +kernel, by decide +kernel⟩ rfl (Nat.le_of_ble_eq_true rfl) ci9 ht (Nat.le_of_ble_eq_true rfl) rfl dL_law_1047 rfl ?_
  refine P.icmp_eq (tgt := 1533) (pc' := 1053) dL_law_1050 (by decide) rfl (fun _ => kk) (fun z => absurd rfl z)
set_option maxHeartbeats 4000000 in
theorem L_case31 {cw tw b : Nat} {i r x1 x2 x3 x4 x5 : Int32} {M M1 M2 : Sw} {u1 u2 : Unit} (e1 : aI M 10 b (i + 1) = some x1) (g1 : aI M1 10 b (i + 1) = some x1) (e2 : aI M 10 b (i + 2) = some x2) (g2 : aI M1 10 b (i + 2) = some x2) (e3 : aI M 10 b (i + 3) = some x3) (g3 : aI M1 10 b (i + 3) = some x3) (e4 : aI M 10 b (i + 4) = some x4) (g4 : aI M1 10 b (i + 4) = some x4) (e5 : aI M 10 b (i + 5) = some x5) (g5 : aI M1 10 b (i + 5) = some x5) (hc : oc M cw 0 = some u1) (ht : oc M1 tw 9 = some u2) (hC : Cl g 3 yX0_posts cX0_posts 6 (some Jvm.ClassFile.FieldType.int) [.ref cw, .int x1, .int x2, .int x3, .int x4, .int x5] M (some (.int r)) M1) (hT : Cl g 4 yX9_posts cX9_posts 6 (some Jvm.ClassFile.FieldType.int) [.ref tw, .int x1, .int x2, .int x3, .int x4, .int x5] M1 (some (.int r)) M2) (kk : PW g mL 1562 μ0 μF Qk 1533 [(3, .int i), (2, .ref tw), (1, .ref cw), (0, .ref b)] [] M2) : PW g mL 1562 μ0 μF Qk 1055 [(3, .int i), (2, .ref tw), (1, .ref cw), (0, .ref b)] [] M := by
  refine P.aload_n 2 (pc' := 1056) dL_law_1055 rfl rfl rfl ?_
  refine P.aload_n 3 (pc' := 1057) dL_law_1056 rfl rfl rfl ?_
  refine P.iload_n 0 (pc' := 1058) dL_law_1057 rfl rfl rfl ?_
  refine P.iconst (v := 1) (pc' := 1059) dL_law_1058 rfl rfl ?_
  refine P.iadd (pc' := 1060) dL_law_1059 rfl ?_
  refine P.iald (t := 10) (pc' := 1061) rfl e1 dL_law_1060 rfl ?_
  refine P.aload_n 3 (pc' := 1062) dL_law_1061 rfl rfl rfl ?_
  refine P.iload_n 0 (pc' := 1063) dL_law_1062 rfl rfl rfl ?_
  refine P.iconst (v := 2) (pc' := 1064) dL_law_1063 rfl rfl ?_
  refine P.iadd (pc' := 1065) dL_law_1064 rfl ?_
  refine P.iald (t := 10) (pc' := 1066) rfl e2 dL_law_1065 rfl ?_
  refine P.aload_n 3 (pc' := 1067) dL_law_1066 rfl rfl rfl ?_
  refine P.iload_n 0 (pc' := 1068) dL_law_1067 rfl rfl rfl ?_
  refine P.iconst (v := 3) (pc' := 1069) dL_law_1068 rfl rfl ?_
  refine P.iadd (pc' := 1070) dL_law_1069 rfl ?_
  refine P.iald (t := 10) (pc' := 1071) rfl e3 dL_law_1070 rfl ?_
  refine P.aload_n 3 (pc' := 1072) dL_law_1071 rfl rfl rfl ?_
  refine P.iload_n 0 (pc' := 1073) dL_law_1072 rfl rfl rfl ?_
  refine P.iconst (v := 4) (pc' := 1074) dL_law_1073 rfl rfl ?_
  refine P.iadd (pc' := 1075) dL_law_1074 rfl ?_
  refine P.iald (t := 10) (pc' := 1076) rfl e4 dL_law_1075 rfl ?_
  refine P.aload_n 3 (pc' := 1077) dL_law_1076 rfl rfl rfl ?_
  refine P.iload_n 0 (pc' := 1078) dL_law_1077 rfl rfl rfl ?_
  refine P.iconst (v := 5) (pc' := 1079) dL_law_1078 rfl rfl ?_
  refine P.iadd (pc' := 1080) dL_law_1079 rfl ?_
  refine P.iald (t := 10) (pc' := 1081) rfl e5 dL_law_1080 rfl ?_
  refine P.callV (pc' := 1084) (As := [.int x1, .int x2, .int x3, .int x4, .int x5]) (rest := []) 5 hC (Nat.le_of_ble_eq_true rfl) (lw_V q1391 q1392 q1393 q159 q1394) rfl ⟨by decide +kernel, by decide +kernel, by decide +kernel⟩ rfl (Nat.le_of_ble_eq_true rfl) ci0 hc (Nat.le_of_ble_eq_true rfl) rfl dL_law_1081 rfl ?_
  refine P.aload_n 1 (pc' := 1085) dL_law_1084 rfl rfl rfl ?_
  refine P.aload_n 3 (pc' := 1086) dL_law_1085 rfl rfl rfl ?_
  refine P.iload_n 0 (pc' := 1087) dL_law_1086 rfl rfl rfl ?_
  refine P.iconst (v := 1) (pc' := 1088) dL_law_1087 rfl rfl ?_
  refine P.iadd (pc' := 1089) dL_law_1088 rfl ?_
  refine P.iald (t := 10) (pc' := 1090) rfl g1 dL_law_1089 rfl ?_
  refine P.aload_n 3 (pc' := 1091) dL_law_1090 rfl rfl rfl ?_
  refine P.iload_n 0 (pc' := 1092) dL_law_1091 rfl rfl rfl ?_
  refine P.iconst (v := 2) (pc' := 1093) dL_law_1092 rfl rfl ?_
  refine P.iadd (pc' := 1094) dL_law_1093 rfl ?_
  refine P.iald (t := 10) (pc' := 1095) rfl g2 dL_law_1094 rfl ?_
  refine P.aload_n 3 (pc' := 1096) dL_law_1095 rfl rfl rfl ?_
  refine P.iload_n 0 (pc' := 1097) dL_law_1096 rfl rfl rfl ?_
  refine P.iconst (v := 3) (pc' := 1098) dL_law_1097 rfl rfl ?_
  refine P.iadd (pc' := 1099) dL_law_1098 rfl ?_
  refine P.iald (t := 10) (pc' := 1100) rfl g3 dL_law_1099 rfl ?_
  refine P.aload_n 3 (pc' := 1101) dL_law_1100 rfl rfl rfl ?_
  refine P.iload_n 0 (pc' := 1102) dL_law_1101 rfl rfl rfl ?_
  refine P.iconst (v := 4) (pc' := 1103) dL_law_1102 rfl rfl ?_
  refine P.iadd (pc' := 1104) dL_law_1103 rfl ?_
  refine P.iald (t := 10) (pc' := 1105) rfl g4 dL_law_1104 rfl ?_
  refine P.aload_n 3 (pc' := 1106) dL_law_1105 rfl rfl rfl ?_
  refine P.iload_n 0 (pc' := 1107) dL_law_1106 rfl rfl rfl ?_
  refine P.iconst (v := 5) (pc' := 1108) dL_law_1107 rfl rfl ?_
  refine P.iadd (pc' := 1109) dL_law_1108 rfl ?_
  refine P.iald (t := 10) (pc' := 1110) rfl g5 dL_law_1109 rfl ?_
  refine P.callV (pc' := 1113) (As := [.int x1, .int x2, .int x3, .int x4, .int x5]) (rest := [.int r]) 5 hT (Nat.le_of_ble_eq_true rfl) (lw_V q2183 q2184 q2185 q172 q2186) rfl ⟨by decide +kernel, by decide +kernel, by decide +kernel⟩ rfl (Nat.le_of_ble_eq_true rfl) ci9 ht (Nat.le_of_ble_eq_true rfl) rfl dL_law_1110 rfl ?_
  refine P.icmp_eq (tgt := 1533) (pc' := 1116) dL_law_1113 (by decide) rfl (fun _ => kk) (fun z => absurd rfl z)
set_option maxHeartbeats 4000000 in
theorem L_case32 {cw tw b : Nat} {i r x1 x2 x3 x4 x5 x6 : Int32} {M M1 M2 : Sw} {u1 u2 : Unit} (e1 : aI M 10 b (i + 1) = some x1) (g1 : aI M1 10 b (i + 1) = some x1) (e2 : aI M 10 b (i + 2) = some x2) (g2 : aI M1 10 b (i + 2) = some x2) (e3 : aI M 10 b (i + 3) = some x3) (g3 : aI M1 10 b (i + 3) = some x3) (e4 : aI M 10 b (i + 4) = some x4) (g4 : aI M1 10 b (i + 4) = some x4) (e5 : aI M 10 b (i + 5) = some x5) (g5 : aI M1 10 b (i + 5) = some x5) (e6 : aI M 10 b (i + 6) = some x6) (g6 : aI M1 10 b (i + 6) = some x6) (hc : oc M cw 0 = some u1) (ht : oc M1 tw 9 = some u2) (hC : Cl g 3 yX0_postAt cX0_postAt 10 (some Jvm.ClassFile.FieldType.int) [.ref cw, .int x1, .int x2, .int x3, .int x4, .int x5, .int x6] M (some (.int r)) M1) (hT : Cl g 4 yX9_postAt cX9_postAt 10 (some Jvm.ClassFile.FieldType.int) [.ref tw, .int x1, .int x2, .int x3, .int x4, .int x5, .int x6] M1 (some (.int r)) M2) (kk : PW g mL 1562 μ0 μF Qk 1533 [(3, .int i), (2, .ref tw), (1, .ref cw), (0, .ref b)] [] M2) : PW g mL 1562 μ0 μF Qk 1118 [(3, .int i), (2, .ref tw), (1, .ref cw), (0, .ref b)] [] M := by
  refine P.aload_n 2 (pc' := 1119) dL_law_1118 rfl rfl rfl ?_
  refine P.aload_n 3 (pc' := 1120) dL_law_1119 rfl rfl rfl ?_
  refine P.iload_n 0 (pc' := 1121) dL_law_1120 rfl rfl rfl ?_
  refine P.iconst (v := 1) (pc' := 1122) dL_law_1121 rfl rfl ?_
  refine P.iadd (pc' := 1123) dL_law_1122 rfl ?_
  refine P.iald (t := 10) (pc' := 1124) rfl e1 dL_law_1123 rfl ?_
  refine P.aload_n 3 (pc' := 1125) dL_law_1124 rfl rfl rfl ?_
  refine P.iload_n 0 (pc' := 1126) dL_law_1125 rfl rfl rfl ?_
  refine P.iconst (v := 2) (pc' := 1127) dL_law_1126 rfl rfl ?_
  refine P.iadd (pc' := 1128) dL_law_1127 rfl ?_
  refine P.iald (t := 10) (pc' := 1129) rfl e2 dL_law_1128 rfl ?_
  refine P.aload_n 3 (pc' := 1130) dL_law_1129 rfl rfl rfl ?_
  refine P.iload_n 0 (pc' := 1131) dL_law_1130 rfl rfl rfl ?_
  refine P.iconst (v := 3) (pc' := 1132) dL_law_1131 rfl rfl ?_
  refine P.iadd (pc' := 1133) dL_law_1132 rfl ?_
  refine P.iald (t := 10) (pc' := 1134) rfl e3 dL_law_1133 rfl ?_
  refine P.aload_n 3 (pc' := 1135) dL_law_1134 rfl rfl rfl ?_
  refine P.iload_n 0 (pc' := 1136) dL_law_1135 rfl rfl rfl ?_
  refine P.iconst (v := 4) (pc' := 1137) dL_law_1136 rfl rfl ?_
  refine P.iadd (pc' := 1138) dL_law_1137 rfl ?_
  refine P.iald (t := 10) (pc' := 1139) rfl e4 dL_law_1138 rfl ?_
  refine P.aload_n 3 (pc' := 1140) dL_law_1139 rfl rfl rfl ?_
  refine P.iload_n 0 (pc' := 1141) dL_law_1140 rfl rfl rfl ?_
  refine P.iconst (v := 5) (pc' := 1142) dL_law_1141 rfl rfl ?_
  refine P.iadd (pc' := 1143) dL_law_1142 rfl ?_
  refine P.iald (t := 10) (pc' := 1144) rfl e5 dL_law_1143 rfl ?_
  refine P.aload_n 3 (pc' := 1145) dL_law_1144 rfl rfl rfl ?_
  refine P.iload_n 0 (pc' := 1146) dL_law_1145 rfl rfl rfl ?_
  refine P.bipush (v := 6) (pc' := 1148) dL_law_1146 rfl rfl ?_
  refine P.iadd (pc' := 1149) dL_law_1148 rfl ?_
  refine P.iald (t := 10) (pc' := 1150) rfl e6 dL_law_1149 rfl ?_
  refine P.callV (pc' := 1153) (As := [.int x1, .int x2, .int x3, .int x4, .int x5, .int x6]) (rest := []) 6 hC (Nat.le_of_ble_eq_true rfl) (lw_V q1405 q1406 q1407 q159 q1408) rfl ⟨by decide +kernel, by decide +kernel, by decide +kernel⟩ rfl (Nat.le_of_ble_eq_true rfl) ci0 hc (Nat.le_of_ble_eq_true rfl) rfl dL_law_1150 rfl ?_
  refine P.aload_n 1 (pc' := 1154) dL_law_1153 rfl rfl rfl ?_
  refine P.aload_n 3 (pc' := 1155) dL_law_1154 rfl rfl rfl ?_
  refine P.iload_n 0 (pc' := 1156) dL_law_1155 rfl rfl rfl ?_
  refine P.iconst (v := 1) (pc' := 1157) dL_law_1156 rfl rfl ?_
  refine P.iadd (pc' := 1158) dL_law_1157 rfl ?_
  refine P.iald (t := 10) (pc' := 1159) rfl g1 dL_law_1158 rfl ?_
  refine P.aload_n 3 (pc' := 1160) dL_law_1159 rfl rfl rfl ?_
  refine P.iload_n 0 (pc' := 1161) dL_law_1160 rfl rfl rfl ?_
  refine P.iconst (v := 2) (pc' := 1162) dL_law_1161 rfl rfl ?_
  refine P.iadd (pc' := 1163) dL_law_1162 rfl ?_
  refine P.iald (t := 10) (pc' := 1164) rfl g2 dL_law_1163 rfl ?_
  refine P.aload_n 3 (pc' := 1165) dL_law_1164 rfl rfl rfl ?_
  refine P.iload_n 0 (pc' := 1166) dL_law_1165 rfl rfl rfl ?_
  refine P.iconst (v := 3) (pc' := 1167) dL_law_1166 rfl rfl ?_
  refine P.iadd (pc' := 1168) dL_law_1167 rfl ?_
  refine P.iald (t := 10) (pc' := 1169) rfl g3 dL_law_1168 rfl ?_
  refine P.aload_n 3 (pc' := 1170) dL_law_1169 rfl rfl rfl ?_
  refine P.iload_n 0 (pc' := 1171) dL_law_1170 rfl rfl rfl ?_
  refine P.iconst (v := 4) (pc' := 1172) dL_law_1171 rfl rfl ?_
  refine P.iadd (pc' := 1173) dL_law_1172 rfl ?_
  refine P.iald (t := 10) (pc' := 1174) rfl g4 dL_law_1173 rfl ?_
  refine P.aload_n 3 (pc' := 1175) dL_law_1174 rfl rfl rfl ?_
  refine P.iload_n 0 (pc' := 1176) dL_law_1175 rfl rfl rfl ?_
  refine P.iconst (v := 5) (pc' := 1177) dL_law_1176 rfl rfl ?_
  refine P.iadd (pc' := 1178) dL_law_1177 rfl ?_
  refine P.iald (t := 10) (pc' := 1179) rfl g5 dL_law_1178 rfl ?_
  refine P.aload_n 3 (pc' := 1180) dL_law_1179 rfl rfl rfl ?_
  refine P.iload_n 0 (pc' := 1181) dL_law_1180 rfl rfl rfl ?_
  refine P.bipush (v := 6) (pc' := 1183) dL_law_1181 rfl rfl ?_
  refine P.iadd (pc' := 1184) dL_law_1183 rfl ?_
  refine P.iald (t := 10) (pc' := 1185) rfl g6 dL_law_1184 rfl ?_
  refine P.callV (pc' := 1188) (As := [.int x1, .int x2, .int x3, .int x4, .int x5, .int x6]) (rest := [.int r]) 6 hT (Nat.le_of_ble_eq_true rfl) (lw_V q2201 q2202 q2203 q172 q2204) rfl ⟨by decide +kernel, by decide +kernel, by decide +kernel⟩ rfl (Nat.le_of_ble_eq_true rfl) ci9 ht (Nat.le_of_ble_eq_true rfl) rfl dL_law_1185 rfl ?_
  refine P.icmp_eq (tgt := 1533) (pc' := 1191) dL_law_1188 (by decide) rfl (fun _ => kk) (fun z => absurd rfl z)
set_option maxHeartbeats 4000000 in
theorem L_case33 {cw tw b : Nat} {i r x1 x2 x3 : Int32} {M M1 M2 : Sw} {u1 u2 : Unit} (e1 : aI M 10 b (i + 1) = some x1) (g1 : aI M1 10 b (i + 1) = some x1) (e2 : aI M 10 b (i + 2) = some x2) (g2 : aI M1 10 b (i + 2) = some x2) (e3 : aI M 10 b (i + 3) = some x3) (g3 : aI M1 10 b (i + 3) = some x3) (hc : oc M cw 0 = some u1) (ht : oc M1 tw 9 = some u2) (hC : Cl g 9 yX0_vote cX0_vote 4 (some Jvm.ClassFile.FieldType.int) [.ref cw, .int x1, .int x2, .int x3] M (some (.int r)) M1) (hT : Cl g 2 yX9_vote cX9_vote 4 (some Jvm.ClassFile.FieldType.int) [.ref tw, .int x1, .int x2, .int x3] M1 (some (.int r)) M2) (kk : PW g mL 1562 μ0 μF Qk 1533 [(3, .int i), (2, .ref tw), (1, .ref cw), (0, .ref b)] [] M2) : PW g mL 1562 μ0 μF Qk 1193 [(3, .int i), (2, .ref tw), (1, .ref cw), (0, .ref b)] [] M := by
  refine P.aload_n 2 (pc' := 1194) dL_law_1193 rfl rfl rfl ?_
  refine P.aload_n 3 (pc' := 1195) dL_law_1194 rfl rfl rfl ?_
  refine P.iload_n 0 (pc' := 1196) dL_law_1195 rfl rfl rfl ?_
  refine P.iconst (v := 1) (pc' := 1197) dL_law_1196 rfl rfl ?_
  refine P.iadd (pc' := 1198) dL_law_1197 rfl ?_
  refine P.iald (t := 10) (pc' := 1199) rfl e1 dL_law_1198 rfl ?_
  refine P.aload_n 3 (pc' := 1200) dL_law_1199 rfl rfl rfl ?_
  refine P.iload_n 0 (pc' := 1201) dL_law_1200 rfl rfl rfl ?_
  refine P.iconst (v := 2) (pc' := 1202) dL_law_1201 rfl rfl ?_
  refine P.iadd (pc' := 1203) dL_law_1202 rfl ?_
  refine P.iald (t := 10) (pc' := 1204) rfl e2 dL_law_1203 rfl ?_
  refine P.aload_n 3 (pc' := 1205) dL_law_1204 rfl rfl rfl ?_
  refine P.iload_n 0 (pc' := 1206) dL_law_1205 rfl rfl rfl ?_
  refine P.iconst (v := 3) (pc' := 1207) dL_law_1206 rfl rfl ?_
  refine P.iadd (pc' := 1208) dL_law_1207 rfl ?_
  refine P.iald (t := 10) (pc' := 1209) rfl e3 dL_law_1208 rfl ?_
  refine P.callV (pc' := 1212) (As := [.int x1, .int x2, .int x3]) (rest := []) 3 hC (Nat.le_of_ble_eq_true rfl) (lw_V q1409 q1410 q1411 q159 q1412) rfl ⟨by decide +kernel, by decide +kernel, by decide +kernel⟩ rfl (Nat.le_of_ble_eq_true rfl) ci0 hc (Nat.le_of_ble_eq_true rfl) rfl dL_law_1209 rfl ?_
  refine P.aload_n 1 (pc' := 1213) dL_law_1212 rfl rfl rfl ?_
  refine P.aload_n 3 (pc' := 1214) dL_law_1213 rfl rfl rfl ?_
  refine P.iload_n 0 (pc' := 1215) dL_law_1214 rfl rfl rfl ?_
  refine P.iconst (v := 1) (pc' := 1216) dL_law_1215 rfl rfl ?_
  refine P.iadd (pc' := 1217) dL_law_1216 rfl ?_
  refine P.iald (t := 10) (pc' := 1218) rfl g1 dL_law_1217 rfl ?_
  refine P.aload_n 3 (pc' := 1219) dL_law_1218 rfl rfl rfl ?_
  refine P.iload_n 0 (pc' := 1220) dL_law_1219 rfl rfl rfl ?_
  refine P.iconst (v := 2) (pc' := 1221) dL_law_1220 rfl rfl ?_
  refine P.iadd (pc' := 1222) dL_law_1221 rfl ?_
  refine P.iald (t := 10) (pc' := 1223) rfl g2 dL_law_1222 rfl ?_
  refine P.aload_n 3 (pc' := 1224) dL_law_1223 rfl rfl rfl ?_
  refine P.iload_n 0 (pc' := 1225) dL_law_1224 rfl rfl rfl ?_
  refine P.iconst (v := 3) (pc' := 1226) dL_law_1225 rfl rfl ?_
  refine P.iadd (pc' := 1227) dL_law_1226 rfl ?_
  refine P.iald (t := 10) (pc' := 1228) rfl g3 dL_law_1227 rfl ?_
  refine P.callV (pc' := 1231) (As := [.int x1, .int x2, .int x3]) (rest := [.int r]) 3 hT (Nat.le_of_ble_eq_true rfl) (lw_V q2205 q2206 q2207 q172 q2208) rfl ⟨by decide +kernel, by decide +kernel, by decide +kernel⟩ rfl (Nat.le_of_ble_eq_true rfl) ci9 ht (Nat.le_of_ble_eq_true rfl) rfl dL_law_1228 rfl ?_
  refine P.icmp_eq (tgt := 1533) (pc' := 1234) dL_law_1231 (by decide) rfl (fun _ => kk) (fun z => absurd rfl z)
set_option maxHeartbeats 4000000 in
theorem L_case34 {cw tw b : Nat} {i r x1 x2 x3 : Int32} {M M1 M2 : Sw} {u1 u2 : Unit} (e1 : aI M 10 b (i + 1) = some x1) (g1 : aI M1 10 b (i + 1) = some x1) (e2 : aI M 10 b (i + 2) = some x2) (g2 : aI M1 10 b (i + 2) = some x2) (e3 : aI M 10 b (i + 3) = some x3) (g3 : aI M1 10 b (i + 3) = some x3) (hc : oc M cw 0 = some u1) (ht : oc M1 tw 9 = some u2) (hC : Cl g 9 yX0_mark cX0_mark 4 (some Jvm.ClassFile.FieldType.int) [.ref cw, .int x1, .int x2, .int x3] M (some (.int r)) M1) (hT : Cl g 2 yX9_mark cX9_mark 4 (some Jvm.ClassFile.FieldType.int) [.ref tw, .int x1, .int x2, .int x3] M1 (some (.int r)) M2) (kk : PW g mL 1562 μ0 μF Qk 1533 [(3, .int i), (2, .ref tw), (1, .ref cw), (0, .ref b)] [] M2) : PW g mL 1562 μ0 μF Qk 1236 [(3, .int i), (2, .ref tw), (1, .ref cw), (0, .ref b)] [] M := by
  refine P.aload_n 2 (pc' := 1237) dL_law_1236 rfl rfl rfl ?_
  refine P.aload_n 3 (pc' := 1238) dL_law_1237 rfl rfl rfl ?_
  refine P.iload_n 0 (pc' := 1239) dL_law_1238 rfl rfl rfl ?_
  refine P.iconst (v := 1) (pc' := 1240) dL_law_1239 rfl rfl ?_
  refine P.iadd (pc' := 1241) dL_law_1240 rfl ?_
  refine P.iald (t := 10) (pc' := 1242) rfl e1 dL_law_1241 rfl ?_
  refine P.aload_n 3 (pc' := 1243) dL_law_1242 rfl rfl rfl ?_
  refine P.iload_n 0 (pc' := 1244) dL_law_1243 rfl rfl rfl ?_
  refine P.iconst (v := 2) (pc' := 1245) dL_law_1244 rfl rfl ?_
  refine P.iadd (pc' := 1246) dL_law_1245 rfl ?_
  refine P.iald (t := 10) (pc' := 1247) rfl e2 dL_law_1246 rfl ?_
  refine P.aload_n 3 (pc' := 1248) dL_law_1247 rfl rfl rfl ?_
  refine P.iload_n 0 (pc' := 1249) dL_law_1248 rfl rfl rfl ?_
  refine P.iconst (v := 3) (pc' := 1250) dL_law_1249 rfl rfl ?_
  refine P.iadd (pc' := 1251) dL_law_1250 rfl ?_
  refine P.iald (t := 10) (pc' := 1252) rfl e3 dL_law_1251 rfl ?_
  refine P.callV (pc' := 1255) (As := [.int x1, .int x2, .int x3]) (rest := []) 3 hC (Nat.le_of_ble_eq_true rfl) (lw_V q1444 q1445 q1446 q159 q1447) rfl ⟨by decide +kernel, by decide +kernel, by decide +kernel⟩ rfl (Nat.le_of_ble_eq_true rfl) ci0 hc (Nat.le_of_ble_eq_true rfl) rfl dL_law_1252 rfl ?_
  refine P.aload_n 1 (pc' := 1256) dL_law_1255 rfl rfl rfl ?_
  refine P.aload_n 3 (pc' := 1257) dL_law_1256 rfl rfl rfl ?_
  refine P.iload_n 0 (pc' := 1258) dL_law_1257 rfl rfl rfl ?_
  refine P.iconst (v := 1) (pc' := 1259) dL_law_1258 rfl rfl ?_
  refine P.iadd (pc' := 1260) dL_law_1259 rfl ?_
  refine P.iald (t := 10) (pc' := 1261) rfl g1 dL_law_1260 rfl ?_
  refine P.aload_n 3 (pc' := 1262) dL_law_1261 rfl rfl rfl ?_
  refine P.iload_n 0 (pc' := 1263) dL_law_1262 rfl rfl rfl ?_
  refine P.iconst (v := 2) (pc' := 1264) dL_law_1263 rfl rfl ?_
  refine P.iadd (pc' := 1265) dL_law_1264 rfl ?_
  refine P.iald (t := 10) (pc' := 1266) rfl g2 dL_law_1265 rfl ?_
  refine P.aload_n 3 (pc' := 1267) dL_law_1266 rfl rfl rfl ?_
  refine P.iload_n 0 (pc' := 1268) dL_law_1267 rfl rfl rfl ?_
  refine P.iconst (v := 3) (pc' := 1269) dL_law_1268 rfl rfl ?_
  refine P.iadd (pc' := 1270) dL_law_1269 rfl ?_
  refine P.iald (t := 10) (pc' := 1271) rfl g3 dL_law_1270 rfl ?_
  refine P.callV (pc' := 1274) (As := [.int x1, .int x2, .int x3]) (rest := [.int r]) 3 hT (Nat.le_of_ble_eq_true rfl) (lw_V q2213 q2214 q2215 q172 q2216) rfl ⟨by decide +kernel, by decide +kernel, by decide +kernel⟩ rfl (Nat.le_of_ble_eq_true rfl) ci9 ht (Nat.le_of_ble_eq_true rfl) rfl dL_law_1271 rfl ?_
  refine P.icmp_eq (tgt := 1533) (pc' := 1277) dL_law_1274 (by decide) rfl (fun _ => kk) (fun z => absurd rfl z)
set_option maxHeartbeats 4000000 in
theorem L_case35 {cw tw b : Nat} {i r x1 : Int32} {M M1 M2 : Sw} {u1 u2 : Unit} (e1 : aI M 10 b (i + 1) = some x1) (g1 : aI M1 10 b (i + 1) = some x1) (hc : oc M cw 0 = some u1) (ht : oc M1 tw 9 = some u2) (hC : Cl g 9 yX0_annul cX0_annul 2 (some Jvm.ClassFile.FieldType.int) [.ref cw, .int x1] M (some (.int r)) M1) (hT : Cl g 2 yX9_annul cX9_annul 2 (some Jvm.ClassFile.FieldType.int) [.ref tw, .int x1] M1 (some (.int r)) M2) (kk : PW g mL 1562 μ0 μF Qk 1533 [(3, .int i), (2, .ref tw), (1, .ref cw), (0, .ref b)] [] M2) : PW g mL 1562 μ0 μF Qk 1279 [(3, .int i), (2, .ref tw), (1, .ref cw), (0, .ref b)] [] M := by
  refine P.aload_n 2 (pc' := 1280) dL_law_1279 rfl rfl rfl ?_
  refine P.aload_n 3 (pc' := 1281) dL_law_1280 rfl rfl rfl ?_
  refine P.iload_n 0 (pc' := 1282) dL_law_1281 rfl rfl rfl ?_
  refine P.iconst (v := 1) (pc' := 1283) dL_law_1282 rfl rfl ?_
  refine P.iadd (pc' := 1284) dL_law_1283 rfl ?_
  refine P.iald (t := 10) (pc' := 1285) rfl e1 dL_law_1284 rfl ?_
  refine P.callV (pc' := 1288) (As := [.int x1]) (rest := []) 1 hC (Nat.le_of_ble_eq_true rfl) (lw_V q1448 q1449 q1450 q159 q1451) rfl ⟨by decide +kernel, by decide +kernel, by decide +kernel⟩ rfl (Nat.le_of_ble_eq_true rfl) ci0 hc (Nat.le_of_ble_eq_true rfl) rfl dL_law_1285 rfl ?_
  refine P.aload_n 1 (pc' := 1289) dL_law_1288 rfl rfl rfl ?_
  refine P.aload_n 3 (pc' := 1290) dL_law_1289 rfl rfl rfl ?_
  refine P.iload_n 0 (pc' := 1291) dL_law_1290 rfl rfl rfl ?_
  refine P.iconst (v := 1) (pc' := 1292) dL_law_1291 rfl rfl ?_
  refine P.iadd (pc' := 1293) dL_law_1292 rfl ?_
  refine P.iald (t := 10) (pc' := 1294) rfl g1 dL_law_1293 rfl ?_
  refine P.callV (pc' := 1297) (As := [.int x1]) (rest := [.int r]) 1 hT (Nat.le_of_ble_eq_true rfl) (lw_V q2217 q2218 q2219 q172 q2220) rfl ⟨by decide +kernel, by decide +kernel, by decide +kernel⟩ rfl (Nat.le_of_ble_eq_true rfl) ci9 ht (Nat.le_of_ble_eq_true rfl) rfl dL_law_1294 rfl ?_
  refine P.icmp_eq (tgt := 1533) (pc' := 1300) dL_law_1297 (by decide) rfl (fun _ => kk) (fun z => absurd rfl z)
set_option maxHeartbeats 4000000 in
theorem L_case36 {cw tw b : Nat} {i r x1 x2 x3 : Int32} {M M1 M2 : Sw} {u1 u2 : Unit} (e1 : aI M 10 b (i + 1) = some x1) (g1 : aI M1 10 b (i + 1) = some x1) (e2 : aI M 10 b (i + 2) = some x2) (g2 : aI M1 10 b (i + 2) = some x2) (e3 : aI M 10 b (i + 3) = some x3) (g3 : aI M1 10 b (i + 3) = some x3) (hc : oc M cw 0 = some u1) (ht : oc M1 tw 9 = some u2) (hC : Cl g 7 yX0_votes cX0_votes 4 (some Jvm.ClassFile.FieldType.int) [.ref cw, .int x1, .int x2, .int x3] M (some (.int r)) M1) (hT : Cl g 4 yX9_votes cX9_votes 4 (some Jvm.ClassFile.FieldType.int) [.ref tw, .int x1, .int x2, .int x3] M1 (some (.int r)) M2) (kk : PW g mL 1562 μ0 μF Qk 1533 [(3, .int i), (2, .ref tw), (1, .ref cw), (0, .ref b)] [] M2) : PW g mL 1562 μ0 μF Qk 1302 [(3, .int i), (2, .ref tw), (1, .ref cw), (0, .ref b)] [] M := by
  refine P.aload_n 2 (pc' := 1303) dL_law_1302 rfl rfl rfl ?_
  refine P.aload_n 3 (pc' := 1304) dL_law_1303 rfl rfl rfl ?_
  refine P.iload_n 0 (pc' := 1305) dL_law_1304 rfl rfl rfl ?_
  refine P.iconst (v := 1) (pc' := 1306) dL_law_1305 rfl rfl ?_
  refine P.iadd (pc' := 1307) dL_law_1306 rfl ?_
  refine P.iald (t := 10) (pc' := 1308) rfl e1 dL_law_1307 rfl ?_
  refine P.aload_n 3 (pc' := 1309) dL_law_1308 rfl rfl rfl ?_
  refine P.iload_n 0 (pc' := 1310) dL_law_1309 rfl rfl rfl ?_
  refine P.iconst (v := 2) (pc' := 1311) dL_law_1310 rfl rfl ?_
  refine P.iadd (pc' := 1312) dL_law_1311 rfl ?_
  refine P.iald (t := 10) (pc' := 1313) rfl e2 dL_law_1312 rfl ?_
  refine P.aload_n 3 (pc' := 1314) dL_law_1313 rfl rfl rfl ?_
  refine P.iload_n 0 (pc' := 1315) dL_law_1314 rfl rfl rfl ?_
  refine P.iconst (v := 3) (pc' := 1316) dL_law_1315 rfl rfl ?_
  refine P.iadd (pc' := 1317) dL_law_1316 rfl ?_
  refine P.iald (t := 10) (pc' := 1318) rfl e3 dL_law_1317 rfl ?_
  refine P.callV (pc' := 1321) (As := [.int x1, .int x2, .int x3]) (rest := []) 3 hC (Nat.le_of_ble_eq_true rfl) (lw_V q1452 q1453 q1454 q159 q1455) rfl ⟨by decide +kernel, by decide +kernel, by decide +kernel⟩ rfl (Nat.le_of_ble_eq_true rfl) ci0 hc (Nat.le_of_ble_eq_true rfl) rfl dL_law_1318 rfl ?_
  refine P.aload_n 1 (pc' := 1322) dL_law_1321 rfl rfl rfl ?_
  refine P.aload_n 3 (pc' := 1323) dL_law_1322 rfl rfl rfl ?_
  refine P.iload_n 0 (pc' := 1324) dL_law_1323 rfl rfl rfl ?_
  refine P.iconst (v := 1) (pc' := 1325) dL_law_1324 rfl rfl ?_
  refine P.iadd (pc' := 1326) dL_law_1325 rfl ?_
  refine P.iald (t := 10) (pc' := 1327) rfl g1 dL_law_1326 rfl ?_
  refine P.aload_n 3 (pc' := 1328) dL_law_1327 rfl rfl rfl ?_
  refine P.iload_n 0 (pc' := 1329) dL_law_1328 rfl rfl rfl ?_
  refine P.iconst (v := 2) (pc' := 1330) dL_law_1329 rfl rfl ?_
  refine P.iadd (pc' := 1331) dL_law_1330 rfl ?_
  refine P.iald (t := 10) (pc' := 1332) rfl g2 dL_law_1331 rfl ?_
  refine P.aload_n 3 (pc' := 1333) dL_law_1332 rfl rfl rfl ?_
  refine P.iload_n 0 (pc' := 1334) dL_law_1333 rfl rfl rfl ?_
  refine P.iconst (v := 3) (pc' := 1335) dL_law_1334 rfl rfl ?_
  refine P.iadd (pc' := 1336) dL_law_1335 rfl ?_
  refine P.iald (t := 10) (pc' := 1337) rfl g3 dL_law_1336 rfl ?_
  refine P.callV (pc' := 1340) (As := [.int x1, .int x2, .int x3]) (rest := [.int r]) 3 hT (Nat.le_of_ble_eq_true rfl) (lw_V q2221 q2222 q2223 q172 q2224) rfl ⟨by decide +kernel, by decide +kernel, by decide +kernel⟩ rfl (Nat.le_of_ble_eq_true rfl) ci9 ht (Nat.le_of_ble_eq_true rfl) rfl dL_law_1337 rfl ?_
  refine P.icmp_eq (tgt := 1533) (pc' := 1343) dL_law_1340 (by decide) rfl (fun _ => kk) (fun z => absurd rfl z)
set_option maxHeartbeats 4000000 in
theorem L_case37 {cw tw b : Nat} {i r x1 x2 : Int32} {M M1 M2 : Sw} {u1 u2 : Unit} (e1 : aI M 10 b (i + 1) = some x1) (g1 : aI M1 10 b (i + 1) = some x1) (e2 : aI M 10 b (i + 2) = some x2) (g2 : aI M1 10 b (i + 2) = some x2) (hc : oc M cw 0 = some u1) (ht : oc M1 tw 9 = some u2) (hC : Cl g 7 yX0_winner cX0_winner 7 (some Jvm.ClassFile.FieldType.int) [.ref cw, .int x1, .int x2] M (some (.int r)) M1) (hT : Cl g 4 yX9_winner cX9_winner 7 (some Jvm.ClassFile.FieldType.int) [.ref tw, .int x1, .int x2] M1 (some (.int r)) M2) (kk : PW g mL 1562 μ0 μF Qk 1533 [(3, .int i), (2, .ref tw), (1, .ref cw), (0, .ref b)] [] M2) : PW g mL 1562 μ0 μF Qk 1345 [(3, .int i), (2, .ref tw), (1, .ref cw), (0, .ref b)] [] M := by
  refine P.aload_n 2 (pc' := 1346) dL_law_1345 rfl rfl rfl ?_
  refine P.aload_n 3 (pc' := 1347) dL_law_1346 rfl rfl rfl ?_
  refine P.iload_n 0 (pc' := 1348) dL_law_1347 rfl rfl rfl ?_
  refine P.iconst (v := 1) (pc' := 1349) dL_law_1348 rfl rfl ?_
  refine P.iadd (pc' := 1350) dL_law_1349 rfl ?_
  refine P.iald (t := 10) (pc' := 1351) rfl e1 dL_law_1350 rfl ?_
  refine P.aload_n 3 (pc' := 1352) dL_law_1351 rfl rfl rfl ?_
  refine P.iload_n 0 (pc' := 1353) dL_law_1352 rfl rfl rfl ?_
  refine P.iconst (v := 2) (pc' := 1354) dL_law_1353 rfl rfl ?_
  refine P.iadd (pc' := 1355) dL_law_1354 rfl ?_
  refine P.iald (t := 10) (pc' := 1356) rfl e2 dL_law_1355 rfl ?_
  refine P.callV (pc' := 1359) (As := [.int x1, .int x2]) (rest := []) 2 hC (Nat.le_of_ble_eq_true rfl) (lw_V q1472 q1473 q1474 q159 q1475) rfl ⟨by decide +kernel, by decide +kernel, by decide +kernel⟩ rfl (Nat.le_of_ble_eq_true rfl) ci0 hc (Nat.le_of_ble_eq_true rfl) rfl dL_law_1356 rfl ?_
  refine P.aload_n 1 (pc' := 1360) dL_law_1359 rfl rfl rfl ?_
  refine P.aload_n 3 (pc' := 1361) dL_law_1360 rfl rfl rfl ?_
  refine P.iload_n 0 (pc' := 1362) dL_law_1361 rfl rfl rfl ?_
  refine P.iconst (v := 1) (pc' := 1363) dL_law_1362 rfl rfl ?_
  refine P.iadd (pc' := 1364) dL_law_1363 rfl ?_
  refine P.iald (t := 10) (pc' := 1365) rfl g1 dL_law_1364 rfl ?_
  refine P.aload_n 3 (pc' := 1366) dL_law_1365 rfl rfl rfl ?_
  refine P.iload_n 0 (pc' := 1367) dL_law_1366 rfl rfl rfl ?_
  refine P.iconst (v := 2) (pc' := 1368) dL_law_1367 rfl rfl ?_
  refine P.iadd (pc' := 1369) dL_law_1368 rfl ?_
  refine P.iald (t := 10) (pc' := 1370) rfl g2 dL_law_1369 rfl ?_
  refine P.callV (pc' := 1373) (As := [.int x1, .int x2]) (rest := [.int r]) 2 hT (Nat.le_of_ble_eq_true rfl) (lw_V q2241 q2242 q2243 q172 q2244) rfl ⟨by decide +kernel, by decide +kernel, by decide +kernel⟩ rfl (Nat.le_of_ble_eq_true rfl) ci9 ht (Nat.le_of_ble_eq_true rfl) rfl dL_law_1370 rfl ?_
  refine P.icmp_eq (tgt := 1533) (pc' := 1376) dL_law_1373 (by decide) rfl (fun _ => kk) (fun z => absurd rfl z)
set_option maxHeartbeats 4000000 in
theorem L_case38 {cw tw b : Nat} {i r x1 x2 x3 x4 : Int32} {M M1 M2 : Sw} {u1 u2 : Unit} (e1 : aI M 10 b (i + 1) = some x1) (g1 : aI M1 10 b (i + 1) = some x1) (e2 : aI M 10 b (i + 2) = some x2) (g2 : aI M1 10 b (i + 2) = some x2) (e3 : aI M 10 b (i + 3) = some x3) (g3 : aI M1 10 b (i + 3) = some x3) (e4 : aI M 10 b (i + 4) = some x4) (g4 : aI M1 10 b (i + 4) = some x4) (hc : oc M cw 0 = some u1) (ht : oc M1 tw 9 = some u2) (hC : Cl g 6 yX0_ends cX0_ends 11 (some Jvm.ClassFile.FieldType.int) [.ref cw, .int x1, .int x2, .int x3, .int x4] M (some (.int r)) M1) (hT : Cl g 2 yX9_ends cX9_ends 12 (some Jvm.ClassFile.FieldType.int) [.ref tw, .int x1, .int x2, .int x3, .int x4] M1 (some (.int r)) M2) (kk : PW g mL 1562 μ0 μF Qk 1533 [(3, .int i), (2, .ref tw), (1, .ref cw), (0, .ref b)] [] M2) : PW g mL 1562 μ0 μF Qk 1378 [(3, .int i), (2, .ref tw), (1, .ref cw), (0, .ref b)] [] M := by
  refine P.aload_n 2 (pc' := 1379) dL_law_1378 rfl rfl rfl ?_
  refine P.aload_n 3 (pc' := 1380) dL_law_1379 rfl rfl rfl ?_
  refine P.iload_n 0 (pc' := 1381) dL_law_1380 rfl rfl rfl ?_
  refine P.iconst (v := 1) (pc' := 1382) dL_law_1381 rfl rfl ?_
  refine P.iadd (pc' := 1383) dL_law_1382 rfl ?_
  refine P.iald (t := 10) (pc' := 1384) rfl e1 dL_law_1383 rfl ?_
  refine P.aload_n 3 (pc' := 1385) dL_law_1384 rfl rfl rfl ?_
  refine P.iload_n 0 (pc' := 1386) dL_law_1385 rfl rfl rfl ?_
  refine P.iconst (v := 2) (pc' := 1387) dL_law_1386 rfl rfl ?_
  refine P.iadd (pc' := 1388) dL_law_1387 rfl ?_
  refine P.iald (t := 10) (pc' := 1389) rfl e2 dL_law_1388 rfl ?_
  refine P.aload_n 3 (pc' := 1390) dL_law_1389 rfl rfl rfl ?_
  refine P.iload_n 0 (pc' := 1391) dL_law_1390 rfl rfl rfl ?_
  refine P.iconst (v := 3) (pc' := 1392) dL_law_1391 rfl rfl ?_
  refine P.iadd (pc' := 1393) dL_law_1392 rfl ?_
  refine P.iald (t := 10) (pc' := 1394) rfl e3 dL_law_1393 rfl ?_
  refine P.aload_n 3 (pc' := 1395) dL_law_1394 rfl rfl rfl ?_
  refine P.iload_n 0 (pc' := 1396) dL_law_1395 rfl rfl rfl ?_
  refine P.iconst (v := 4) (pc' := 1397) dL_law_1396 rfl rfl ?_
  refine P.iadd (pc' := 1398) dL_law_1397 rfl ?_
  refine P.iald (t := 10) (pc' := 1399) rfl e4 dL_law_1398 rfl ?_
  refine P.callV (pc' := 1402) (As := [.int x1, .int x2, .int x3, .int x4]) (rest := []) 4 hC (Nat.le_of_ble_eq_true rfl) (lw_V q1476 q1477 q1478 q159 q1479) rfl ⟨by decide +kernel, by decide +kernel, by decide +kernel⟩ rfl (Nat.le_of_ble_eq_true rfl) ci0 hc (Nat.le_of_ble_eq_true rfl) rfl dL_law_1399 rfl ?_
  refine P.aload_n 1 (pc' := 1403) dL_law_1402 rfl rfl rfl ?_
  refine P.aload_n 3 (pc' := 1404) dL_law_1403 rfl rfl rfl ?_
  refine P.iload_n 0 (pc' := 1405) dL_law_1404 rfl rfl rfl ?_
  refine P.iconst (v := 1) (pc' := 1406) dL_law_1405 rfl rfl ?_
  refine P.iadd (pc' := 1407) dL_law_1406 rfl ?_
  refine P.iald (t := 10) (pc' := 1408) rfl g1 dL_law_1407 rfl ?_
  refine P.aload_n 3 (pc' := 1409) dL_law_1408 rfl rfl rfl ?_
  refine P.iload_n 0 (pc' := 1410) dL_law_1409 rfl rfl rfl ?_
  refine P.iconst (v := 2) (pc' := 1411) dL_law_1410 rfl rfl ?_
  refine P.iadd (pc' := 1412) dL_law_1411 rfl ?_
  refine P.iald (t := 10) (pc' := 1413) rfl g2 dL_law_1412 rfl ?_
  refine P.aload_n 3 (pc' := 1414) dL_law_1413 rfl rfl rfl ?_
  refine P.iload_n 0 (pc' := 1415) dL_law_1414 rfl rfl rfl ?_
  refine P.iconst (v := 3) (pc' := 1416) dL_law_1415 rfl rfl ?_
  refine P.iadd (pc' := 1417) dL_law_1416 rfl ?_
  refine P.iald (t := 10) (pc' := 1418) rfl g3 dL_law_1417 rfl ?_
  refine P.aload_n 3 (pc' := 1419) dL_law_1418 rfl rfl rfl ?_
  refine P.iload_n 0 (pc' := 1420) dL_law_1419 rfl rfl rfl ?_
  refine P.iconst (v := 4) (pc' := 1421) dL_law_1420 rfl rfl ?_
  refine P.iadd (pc' := 1422) dL_law_1421 rfl ?_
  refine P.iald (t := 10) (pc' := 1423) rfl g4 dL_law_1422 rfl ?_
  refine P.callV (pc' := 1426) (As := [.int x1, .int x2, .int x3, .int x4]) (rest := [.int r]) 4 hT (Nat.le_of_ble_eq_true rfl) (lw_V q2245 q2246 q2247 q172 q2248) rfl ⟨by decide +kernel, by decide +kernel, by decide +kernel⟩ rfl (Nat.le_of_ble_eq_true rfl) ci9 ht (Nat.le_of_ble_eq_true rfl) rfl dL_law_1423 rfl ?_
  refine P.icmp_eq (tgt := 1533) (pc' := 1429) dL_law_1426 (by decide) rfl (fun _ => kk) (fun z => absurd rfl z)
set_option maxHeartbeats 4000000 in
theorem L_case39 {cw tw b : Nat} {i r x1 x2 : Int32} {M M1 M2 : Sw} {u1 u2 : Unit} (e1 : aI M 10 b (i + 1) = some x1) (g1 : aI M1 10 b (i + 1) = some x1) (e2 : aI M 10 b (i + 2) = some x2) (g2 : aI M1 10 b (i + 2) = some x2) (hc : oc M cw 0 = some u1) (ht : oc M1 tw 9 = some u2) (hC : Cl g 414 yX0_years cX0_years 5 (some Jvm.ClassFile.FieldType.int) [.ref cw, .int x1, .int x2] M (some (.int r)) M1) (hT : Cl g 5 yX9_years cX9_years 5 (some Jvm.ClassFile.FieldType.int) [.ref tw, .int x1, .int x2] M1 (some (.int r)) M2) (kk : PW g mL 1562 μ0 μF Qk 1533 [(3, .int i), (2, .ref tw), (1, .ref cw), (0, .ref b)] [] M2) : PW g mL 1562 μ0 μF Qk 1431 [(3, .int i), (2, .ref tw), (1, .ref cw), (0, .ref b)] [] M := by
  refine P.aload_n 2 (pc' := 1432) dL_law_1431 rfl rfl rfl ?_
  refine P.aload_n 3 (pc' := 1433) dL_law_1432 rfl rfl rfl ?_
  refine P.iload_n 0 (pc' := 1434) dL_law_1433 rfl rfl rfl ?_
  refine P.iconst (v := 1) (pc' := 1435) dL_law_1434 rfl rfl ?_
  refine P.iadd (pc' := 1436) dL_law_1435 rfl ?_
  refine P.iald (t := 10) (pc' := 1437) rfl e1 dL_law_1436 rfl ?_
  refine P.aload_n 3 (pc' := 1438) dL_law_1437 rfl rfl rfl ?_
  refine P.iload_n 0 (pc' := 1439) dL_law_1438 rfl rfl rfl ?_
  refine P.iconst (v := 2) (pc' := 1440) dL_law_1439 rfl rfl ?_
  refine P.iadd (pc' := 1441) dL_law_1440 rfl ?_
  refine P.iald (t := 10) (pc' := 1442) rfl e2 dL_law_1441 rfl ?_
  refine P.callV (pc' := 1445) (As := [.int x1, .int x2]) (rest := []) 2 hC (Nat.le_of_ble_eq_true rfl) (lw_V q1484 q1485 q1486 q159 q1487) rfl ⟨by decide +kernel, by decide +kernel, by decide +kernel⟩ rfl (Nat.le_of_ble_eq_true rfl) ci0 hc (Nat.le_of_ble_eq_true rfl) rfl dL_law_1442 rfl ?_
  refine P.aload_n 1 (pc' := 1446) dL_law_1445 rfl rfl rfl ?_
  refine P.aload_n 3 (pc' := 1447) dL_law_1446 rfl rfl rfl ?_
  refine P.iload_n 0 (pc' := 1448) dL_law_1447 rfl rfl rfl ?_
  refine P.iconst (v := 1) (pc' := 1449) dL_law_1448 rfl rfl ?_
  refine P.iadd (pc' := 1450) dL_law_1449 rfl ?_
  refine P.iald (t := 10) (pc' := 1451) rfl g1 dL_law_1450 rfl ?_
  refine P.aload_n 3 (pc' := 1452) dL_law_1451 rfl rfl rfl ?_
  refine P.iload_n 0 (pc' := 1453) dL_law_1452 rfl rfl rfl ?_
  refine P.iconst (v := 2) (pc' := 1454) dL_law_1453 rfl rfl ?_
  refine P.iadd (pc' := 1455) dL_law_1454 rfl ?_
  refine P.iald (t := 10) (pc' := 1456) rfl g2 dL_law_1455 rfl ?_
  refine P.callV (pc' := 1459) (As := [.int x1, .int x2]) (rest := [.int r]) 2 hT (Nat.le_of_ble_eq_true rfl) (lw_V q2252 q2253 q2254 q172 q2255) rfl ⟨by decide +kernel, by decide +kernel, by decide +kernel⟩ rfl (Nat.le_of_ble_eq_true rfl) ci9 ht (Nat.le_of_ble_eq_true rfl) rfl dL_law_1456 rfl ?_
  refine P.icmp_eq (tgt := 1533) (pc' := 1462) dL_law_1459 (by decide) rfl (fun _ => kk) (fun z => absurd rfl z)
set_option maxHeartbeats 4000000 in
theorem L_case40 {cw tw b : Nat} {i r x1 : Int32} {M M1 M2 : Sw} {u1 u2 : Unit} (e1 : aI M 10 b (i + 1) = some x1) (g1 : aI M1 10 b (i + 1) = some x1) (hc : oc M cw 0 = some u1) (ht : oc M1 tw 9 = some u2) (hC : Cl g 7 yX0_hold cX0_hold 2 (some Jvm.ClassFile.FieldType.boolean) [.ref cw, .int x1] M (some (.int r)) M1) (hT : Cl g 2 yX9_hold cX9_hold 2 (some Jvm.ClassFile.FieldType.boolean) [.ref tw, .int x1] M1 (some (.int r)) M2) (kk : PW g mL 1562 μ0 μF Qk 1533 [(3, .int i), (2, .ref tw), (1, .ref cw), (0, .ref b)] [] M2) : PW g mL 1562 μ0 μF Qk 1464 [(3, .int i), (2, .ref tw), (1, .ref cw), (0, .ref b)] [] M := by
  refine P.aload_n 2 (pc' := 1465) dL_law_1464 rfl rfl rfl ?_
  refine P.aload_n 3 (pc' := 1466) dL_law_1465 rfl rfl rfl ?_
  refine P.iload_n 0 (pc' := 1467) dL_law_1466 rfl rfl rfl ?_
  refine P.iconst (v := 1) (pc' := 1468) dL_law_1467 rfl rfl ?_
  refine P.iadd (pc' := 1469) dL_law_1468 rfl ?_
  refine P.iald (t := 10) (pc' := 1470) rfl e1 dL_law_1469 rfl ?_
  refine P.callV (pc' := 1473) (As := [.int x1]) (rest := []) 1 hC (Nat.le_of_ble_eq_true rfl) (lw_V q1499 q1500 q1501 q159 q1502) rfl ⟨by decide +kernel, by decide +kernel, by decide +kernel⟩ rfl (Nat.le_of_ble_eq_true rfl) ci0 hc (Nat.le_of_ble_eq_true rfl) rfl dL_law_1470 rfl ?_
  refine P.aload_n 1 (pc' := 1474) dL_law_1473 rfl rfl rfl ?_
  refine P.aload_n 3 (pc' := 1475) dL_law_1474 rfl rfl rfl ?_
  refine P.iload_n 0 (pc' := 1476) dL_law_1475 rfl rfl rfl ?_
  refine P.iconst (v := 1) (pc' := 1477) dL_law_1476 rfl rfl ?_
  refine P.iadd (pc' := 1478) dL_law_1477 rfl ?_
  refine P.iald (t := 10) (pc' := 1479) rfl g1 dL_law_1478 rfl ?_
  refine P.callV (pc' := 1482) (As := [.int x1]) (rest := [.int r]) 1 hT (Nat.le_of_ble_eq_true rfl) (lw_V q2267 q2268 q2269 q172 q2270) rfl ⟨by decide +kernel, by decide +kernel, by decide +kernel⟩ rfl (Nat.le_of_ble_eq_true rfl) ci9 ht (Nat.le_of_ble_eq_true rfl) rfl dL_law_1479 rfl ?_
  refine P.icmp_eq (tgt := 1533) (pc' := 1485) dL_law_1482 (by decide) rfl (fun _ => kk) (fun z => absurd rfl z)
set_option maxHeartbeats 4000000 in
theorem L_case41 {cw tw b : Nat} {i r x1 : Int32} {M M1 M2 : Sw} {u1 u2 : Unit} (e1 : aI M 10 b (i + 1) = some x1) (g1 : aI M1 10 b (i + 1) = some x1) (hc : oc M cw 0 = some u1) (ht : oc M1 tw 9 = some u2) (hC : Cl g 7 yX0_restore cX0_restore 2 (some Jvm.ClassFile.FieldType.boolean) [.ref cw, .int x1] M (some (.int r)) M1) (hT : Cl g 2 yX9_restore cX9_restore 2 (some Jvm.ClassFile.FieldType.boolean) [.ref tw, .int x1] M1 (some (.int r)) M2) (kk : PW g mL 1562 μ0 μF Qk 1533 [(3, .int i), (2, .ref tw), (1, .ref cw), (0, .ref b)] [] M2) : PW g mL 1562 μ0 μF Qk 1487 [(3, .int i), (2, .ref tw), (1, .ref cw), (0, .ref b)] [] M := by
  refine P.aload_n 2 (pc' := 1488) dL_law_1487 rfl rfl rfl ?_
  refine P.aload_n 3 (pc' := 1489) dL_law_1488 rfl rfl rfl ?_
  refine P.iload_n 0 (pc' := 1490) dL_law_1489 rfl rfl rfl ?_
  refine P.iconst (v := 1) (pc' := 1491) dL_law_1490 rfl rfl ?_
  refine P.iadd (pc' := 1492) dL_law_1491 rfl ?_
  refine P.iald (t := 10) (pc' := 1493) rfl e1 dL_law_1492 rfl ?_
  refine P.callV (pc' := 1496) (As := [.int x1]) (rest := []) 1 hC (Nat.le_of_ble_eq_true rfl) (lw_V q1525 q1526 q1527 q159 q1528) rfl ⟨by decide +kernel, by decide +kernel, by decide +kernel⟩ rfl (Nat.le_of_ble_eq_true rfl) ci0 hc (Nat.le_of_ble_eq_true rfl) rfl dL_law_1493 rfl ?_
  refine P.aload_n 1 (pc' := 1497) dL_law_1496 rfl rfl rfl ?_
  refine P.aload_n 3 (pc' := 1498) dL_law_1497 rfl rfl rfl ?_
  refine P.iload_n 0 (pc' := 1499) dL_law_1498 rfl rfl rfl ?_
  refine P.iconst (v := 1) (pc' := 1500) dL_law_1499 rfl rfl ?_
  refine P.iadd (pc' := 1501) dL_law_1500 rfl ?_
  refine P.iald (t := 10) (pc' := 1502) rfl g1 dL_law_1501 rfl ?_
  refine P.callV (pc' := 1505) (As := [.int x1]) (rest := [.int r]) 1 hT (Nat.le_of_ble_eq_true rfl) (lw_V q2275 q2276 q2277 q172 q2278) rfl ⟨by decide +kernel, by decide +kernel, by decide +kernel⟩ rfl (Nat.le_of_ble_eq_true rfl) ci9 ht (Nat.le_of_ble_eq_true rfl) rfl dL_law_1502 rfl ?_
  refine P.icmp_eq (tgt := 1533) (pc' := 1508) dL_law_1505 (by decide) rfl (fun _ => kk) (fun z => absurd rfl z)
set_option maxHeartbeats 4000000 in
theorem L_case42 {cw tw b : Nat} {i r x1 : Int32} {M M1 M2 : Sw} {u1 u2 : Unit} (e1 : aI M 10 b (i + 1) = some x1) (g1 : aI M1 10 b (i + 1) = some x1) (hc : oc M cw 0 = some u1) (ht : oc M1 tw 9 = some u2) (hC : Cl g 3 yX0_count cX0_count 2 (some Jvm.ClassFile.FieldType.int) [.ref cw, .int x1] M (some (.int r)) M1) (hT : Cl g 1 yX9_count cX9_count 2 (some Jvm.ClassFile.FieldType.int) [.ref tw, .int x1] M1 (some (.int r)) M2) (kk : PW g mL 1562 μ0 μF Qk 1533 [(3, .int i), (2, .ref tw), (1, .ref cw), (0, .ref b)] [] M2) : PW g mL 1562 μ0 μF Qk 1510 [(3, .int i), (2, .ref tw), (1, .ref cw), (0, .ref b)] [] M := by
  refine P.aload_n 2 (pc' := 1511) dL_law_1510 rfl rfl rfl ?_
  refine P.aload_n 3 (pc' := 1512) dL_law_1511 rfl rfl rfl ?_
  refine P.iload_n 0 (pc' := 1513) dL_law_1512 rfl rfl rfl ?_
  refine P.iconst (v := 1) (pc' := 1514) dL_law_1513 rfl rfl ?_
  refine P.iadd (pc' := 1515) dL_law_1514 rfl ?_
  refine P.iald (t := 10) (pc' := 1516) rfl e1 dL_law_1515 rfl ?_
  refine P.callV (pc' := 1519) (As := [.int x1]) (rest := []) 1 hC (Nat.le_of_ble_eq_true rfl) (lw_V q1529 q1530 q1531 q159 q1532) rfl ⟨by decide +kernel, by decide +kernel, by decide +kernel⟩ rfl (Nat.le_of_ble_eq_true rfl) ci0 hc (Nat.le_of_ble_eq_true rfl) rfl dL_law_1516 rfl ?_
  refine P.aload_n 1 (pc' := 1520) dL_law_1519 rfl rfl rfl ?_
  refine P.aload_n 3 (pc' := 1521) dL_law_1520 rfl rfl rfl ?_
  refine P.iload_n 0 (pc' := 1522) dL_law_1521 rfl rfl rfl ?_
  refine P.iconst (v := 1) (pc' := 1523) dL_law_1522 rfl rfl ?_
  refine P.iadd (pc' := 1524) dL_law_1523 rfl ?_
  refine P.iald (t := 10) (pc' := 1525) rfl g1 dL_law_1524 rfl ?_
  refine P.callV (pc' := 1528) (As := [.int x1]) (rest := [.int r]) 1 hT (Nat.le_of_ble_eq_true rfl) (lw_V q2279 q2280 q2281 q172 q2282) rfl ⟨by decide +kernel, by decide +kernel, by decide +kernel⟩ rfl (Nat.le_of_ble_eq_true rfl) ci9 ht (Nat.le_of_ble_eq_true rfl) rfl dL_law_1525 rfl ?_
  refine P.icmp_eq (tgt := 1533) (pc' := 1531) dL_law_1528 (by decide) rfl (fun _ => kk) (fun z => absurd rfl z)
end LAW
