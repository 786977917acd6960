/-! THE CALLS OF THE LAW (printed by gen_law.py) -/
abbrev D_law (nm : String) : MD := ("CoverHouseLaw", code, 4, ret, nm, 8192, 100000)
abbrev lvX (b o : Nat) (G' : MG) (z : Int) : List (Nat × PV) := [(3, pI z), (2, pR (some G'.1)), (1, pR (some o)), (0, pR (some b))]
abbrev LJ (G : CG) (G' : MG) (b L : Nat) (xs : Nat → Int32) (l : Launch) (nm : String) (w : Sg × Mu) (o : Nat) (ce sl pc : Nat) (i : Nat) (st : List PV) : Prop := JW (kX G b L xs) (bX G G') (aL G) l (D_law nm) [pR (some b)] (fun below s => lw_Z below #[.ref b] s) 601024 7293034 w ce sl pc (lvX b o G' ((6 * i : Nat) : Int)) st
section
variable {G : CG} {G' : MG} {b L : Nat} {xs : Nat → Int32} {l : Launch} {nm : String} {u : Sg} {m : Mu} {o ce sl i : Nat}
theorem l_rd {pc : Nat} {w : Sg × Mu} {st : List PV} (jn : Nat) {j : Int} (h0 : decode code pc = .ok (.aload_n 0, 1)) (h1 : decode code (pc + 1) = .ok (.iload_n 3, 1)) (h2 : decode code (pc + 2) = .ok (.iconst j, 1)) (h3 : decode code (pc + 3) = .ok (.iadd, 1)) (h4 : decode code (pc + 4) = .ok (.iaload, 1)) (hj : j = jn) (hjn : jn < 6) (hL : 6 * i + 6 ≤ L) (hL4 : L ≤ 384) (kk : LJ G G' b L xs l nm w o ce sl (pc + 5) i (pI (xI xs (6 * i + jn)) :: st)) : LJ G G' b L xs l nm w o ce sl pc i st := by
  subst hj
  refine j_aload_n h0 3 rfl ?_
  refine j_iload_n h1 0 rfl ?_
  refine j_iconst h2 ?_
  refine j_iadd h3 ?_
  exact l_xld (6 * i + jn) (by omega) (by rw [show ((6 * i : Nat) : Int) + (jn : Int) = ((6 * i + jn : Nat) : Int) by omega]; exact w32_id (by omega) (by omega)) h4 kk
theorem l_next {w : Sg × Mu} (kk : LJ G G' b L xs l nm w o ce sl 18 (i + 1) []) : LJ G G' b L xs l nm w o ce sl 1574 i [] := by
  refine j_iinc dL_law_1574 0 rfl (lvX b o G' ((6 * (i + 1) : Nat) : Int)) (Nat.le_of_ble_eq_true rfl) ?_ ?_
  · show _ = _
    rw [show ((6 * i : Nat) : Int) + 6 = ((6 * (i + 1) : Nat) : Int) by omega]
    rfl
  refine j_goto 18 dL_law_1577 (by decide) kk
theorem l_end {w : Sg × Mu} (hcs : ce ≤ 601024 ∧ sl ≤ 7293034) : LJ G G' b L xs l nm w o ce sl 1580 i [] := by
  refine j_iconst dL_law_1580 ?_
  intro p e s m9 below meth c H locs ls X hr hlk hn9 hK hB hS hl
  refine W.widen hcs.1 hcs.2 (va_forget (fun q hq => by have h := hS.2.2 q hq; have e9 := hK.2.2.2.1; unfold aL at h; omega) ?_)
  exact lw_ret X.1 X.2.1 hr hlk dL_law_1581
theorem l_rcC {A : Nat → Prop} (ht : zT u o = 1) : jrecv (bC G A) u o RX0 := by
  intro s H hB
  obtain ⟨cell, q1, q2, -, q3, -⟩ := bC_objR hB zcl_0 ht
  exact ⟨cell, q1, q3, by rw [q2]; exact (hB.1.1 0 _ zcl_0.2.1).2.1⟩
theorem wvL0_type : jwV "CoverHouseLaw" D0_type 15 yX0_type := ⟨q542, q543, q544, q128, q545⟩
theorem wvL5_type : jwV "CoverHouseLaw" D5_type 19 yX5_type := ⟨q2184, q2185, q2186, q140, q2187⟩
theorem cs_0 (hL : 6 * i + 6 ≤ L) (hL4 : L ≤ 384) (ht : zT u o = 1) {r0 : Int × Sg} {r5 : Int × Mu} (hf : f0_type G (some o) (or64 (shl64 (w32 (xI xs (6 * i + 1))) 32) (and64 (w32 (xI xs (6 * i + 2))) 4294967295)) (xI xs (6 * i + 3)) u = some r0) (hm : m5_type (or64 (shl64 (w32 (xI xs (6 * i + 1))) 32) (and64 (w32 (xI xs (6 * i + 2))) 4294967295)) (xI xs (6 * i + 3)) m = some r5) (he : r0.1 = r5.1) (hcs : ce ≤ 601024 ∧ sl ≤ 7293034) (kk : LJ G G' b L xs l nm (r0.2, r5.2) o ce sl 1574 i []) : LJ G G' b L xs l nm (u, m) o ce sl 208 i [] := by
  refine j_aload_n dL_law_208 2 rfl ?_
  refine l_rd 1 dL_law_209 dL_law_210 dL_law_211 dL_law_212 dL_law_213 (by decide) (by decide) hL hL4 ?_
  refine j_i2l dL_law_214 ?_
  refine j_bipush dL_law_215 (by decide) ?_
  refine j_lshl dL_law_217 ?_
  refine l_rd 2 dL_law_218 dL_law_219 dL_law_220 dL_law_221 dL_law_222 (by decide) (by decide) hL hL4 ?_
  refine j_i2l dL_law_223 ?_
  refine j_ldc2 (z := 4294967295) q2681 (by decide) dL_law_224 ?_
  refine j_land dL_law_227 ?_
  refine j_lor dL_law_228 ?_
  refine l_rd 3 dL_law_229 dL_law_230 dL_law_231 dL_law_232 dL_law_233 (by decide) (by decide) hL hL4 ?_
  refine l_callC [pL (or64 (shl64 (w32 (xI xs (6 * i + 1))) 32) (and64 (w32 (xI xs (6 * i + 2))) 4294967295)), pI (xI xs (6 * i + 3))] [] _ (t0_type (some o) (or64 (shl64 (w32 (xI xs (6 * i + 1))) 32) (and64 (w32 (xI xs (6 * i + 2))) 4294967295)) (xI xs (6 * i + 3)) u hf) wvL0_type dv0_type rfl ⟨Nat.le_of_ble_eq_true rfl, Nat.le_of_ble_eq_true rfl⟩ (l_rcC ht) rfl (Nat.le_of_ble_eq_true rfl) dL_law_234 hcs ?_
  refine j_aload_n dL_law_237 1 rfl ?_
  refine l_rd 1 dL_law_238 dL_law_239 dL_law_240 dL_law_241 dL_law_242 (by decide) (by decide) hL hL4 ?_
  refine j_i2l dL_law_243 ?_
  refine j_bipush dL_law_244 (by decide) ?_
  refine j_lshl dL_law_246 ?_
  refine l_rd 2 dL_law_247 dL_law_248 dL_law_249 dL_law_250 dL_law_251 (by decide) (by decide) hL hL4 ?_
  refine j_i2l dL_law_252 ?_
  refine j_ldc2 (z := 4294967295) q2681 (by decide) dL_law_253 ?_
  refine j_land dL_law_256 ?_
  refine j_lor dL_law_257 ?_
  refine l_rd 3 dL_law_258 dL_law_259 dL_law_260 dL_law_261 dL_law_262 (by decide) (by decide) hL hL4 ?_
  refine l_callT [pL (or64 (shl64 (w32 (xI xs (6 * i + 1))) 32) (and64 (w32 (xI xs (6 * i + 2))) 4294967295)), pI (xI xs (6 * i + 3))] [pI r0.1] _ (c5_type (or64 (shl64 (w32 (xI xs (6 * i + 1))) 32) (and64 (w32 (xI xs (6 * i + 2))) 4294967295)) (xI xs (6 * i + 3)) m hm) wvL5_type dv5_type rfl ⟨Nat.le_of_ble_eq_true rfl, Nat.le_of_ble_eq_true rfl⟩ (m_recv m) rfl (Nat.le_of_ble_eq_true rfl) dL_law_263 hcs ?_
  exact j_icmp_eq (w32 _) (w32 _) rfl rfl 1574 dL_law_266 (by decide) (fun _ => kk) (fun h => absurd (congrArg w32 he) h)
theorem wvL0_place : jwV "CoverHouseLaw" D0_place 20 yX0_place := ⟨q546, q547, q548, q128, q549⟩
theorem wvL5_place : jwV "CoverHouseLaw" D5_place 24 yX5_place := ⟨q2188, q2189, q2190, q140, q2191⟩
theorem cs_1 (hL : 6 * i + 6 ≤ L) (hL4 : L ≤ 384) (ht : zT u o = 1) {r0 : Int} {r5 : Int} (hf : f0_place G (some o) u = some r0) (hm : m5_place m = some r5) (he : r0 = r5) (hcs : ce ≤ 601024 ∧ sl ≤ 7293034) (kk : LJ G G' b L xs l nm (u, m) o ce sl 1574 i []) : LJ G G' b L xs l nm (u, m) o ce sl 271 i [] := by
  refine j_aload_n dL_law_271 2 rfl ?_
  refine l_callC [] [] _ (t0_place (some o)  u hf) wvL0_place dv0_place rfl ⟨Nat.le_of_ble_eq_true rfl, Nat.le_of_ble_eq_true rfl⟩ (l_rcC ht) rfl (Nat.le_of_ble_eq_true rfl) dL_law_272 hcs ?_
  refine j_aload_n dL_law_275 1 rfl ?_
  refine l_callT [] [pI r0] _ (c5_place  m hm) wvL5_place dv5_place rfl ⟨Nat.le_of_ble_eq_true rfl, Nat.le_of_ble_eq_true rfl⟩ (m_recv m) rfl (Nat.le_of_ble_eq_true rfl) dL_law_276 hcs ?_
  exact j_icmp_eq (w32 _) (w32 _) rfl rfl 1574 dL_law_279 (by decide) (fun _ => kk) (fun h => absurd (congrArg w32 he) h)
theorem wvL0_wording : Cond.methodLink "CoverHouseLaw" 25 yX0_wording ∈ lw_all ∧ Cond.instanceMethod yX0_wording ∈ lw_all ∧ Cond.selects D0_wording.1 yX0_wording yX0_wording ∈ lw_all ∧ Cond.initialized D0_wording.1 ∈ lw_all ∧ Cond.codeWith yX0_wording D0_wording.2.1 D0_wording.2.2.1 D0_wording.2.2.2.1 [(22, 51, 54, 168)] ∈ lw_all := ⟨q550, q551, q552, q128, q553⟩
theorem wvL5_wording : jwV "CoverHouseLaw" D5_wording 28 yX5_wording := ⟨q2192, q2193, q2194, q140, q2195⟩
theorem cs_2 (hfl : l.stackTraces = false) (hL : 6 * i + 6 ≤ L) (hL4 : L ≤ 384) (ht : zT u o = 1) {r0 : Int × Sg} {r5 : Int × Mu} {c0 n0 : Nat} (hf : f0_wording G (some o) u = some (r0, c0, n0)) (hm : m5_wording m = some r5) (he : r0.1 = r5.1) (hcs : ce + c0 ≤ 601024 ∧ sl + n0 ≤ 7293034) (kk : LJ G G' b L xs l nm (r0.2, r5.2) o (ce + c0) (sl + n0) 1574 i []) : LJ G G' b L xs l nm (u, m) o ce sl 284 i [] := by
  refine j_aload_n dL_law_284 2 rfl ?_
  refine l_callH [] [] _ (t0_wording hfl (some o)  u hf) wvL0_wording dv0_wording rfl ⟨Nat.le_of_ble_eq_true rfl, Nat.le_of_ble_eq_true rfl⟩ (l_rcC ht) rfl (Nat.le_of_ble_eq_true rfl) dL_law_285 hcs ?_
  refine j_aload_n dL_law_288 1 rfl ?_
  refine l_callT [] [pI r0.1] _ (c5_wording  m hm) wvL5_wording dv5_wording rfl ⟨Nat.le_of_ble_eq_true rfl, Nat.le_of_ble_eq_true rfl⟩ (m_recv m) rfl (Nat.le_of_ble_eq_true rfl) dL_law_289 hcs ?_
  exact j_icmp_eq (w32 _) (w32 _) rfl rfl 1574 dL_law_292 (by decide) (fun _ => kk) (fun h => absurd (congrArg w32 he) h)
theorem wvL0_endorse : Cond.methodLink "CoverHouseLaw" 29 yX0_endorse ∈ lw_all ∧ Cond.instanceMethod yX0_endorse ∈ lw_all ∧ Cond.selects D0_endorse.1 yX0_endorse yX0_endorse ∈ lw_all ∧ Cond.initialized D0_endorse.1 ∈ lw_all ∧ Cond.codeWith yX0_endorse D0_endorse.2.1 D0_endorse.2.2.1 D0_endorse.2.2.2.1 [(32, 75, 78, 168)] ∈ lw_all := ⟨q1260, q1261, q1262, q128, q1263⟩
theorem wvL5_endorse : jwV "CoverHouseLaw" D5_endorse 33 yX5_endorse := ⟨q2383, q2384, q2385, q140, q2386⟩
theorem cs_3 (hfl : l.stackTraces = false) (hL : 6 * i + 6 ≤ L) (hL4 : L ≤ 384) (ht : zT u o = 1) {r0 : Int × Sg} {r5 : Int × Mu} {c0 n0 : Nat} (hf : f0_endorse G (some o) (xI xs (6 * i + 1)) u = some (r0, c0, n0)) (hm : m5_endorse (xI xs (6 * i + 1)) m = some r5) (he : r0.1 = r5.1) (hcs : ce + c0 ≤ 601024 ∧ sl + n0 ≤ 7293034) (kk : LJ G G' b L xs l nm (r0.2, r5.2) o (ce + c0) (sl + n0) 1574 i []) : LJ G G' b L xs l nm (u, m) o ce sl 297 i [] := by
  refine j_aload_n dL_law_297 2 rfl ?_
  refine l_rd 1 dL_law_298 dL_law_299 dL_law_300 dL_law_301 dL_law_302 (by decide) (by decide) hL hL4 ?_
  refine l_callH [pI (xI xs (6 * i + 1))] [] _ (t0_endorse hfl (some o) (xI xs (6 * i + 1)) u hf) wvL0_endorse dv0_endorse rfl ⟨Nat.le_of_ble_eq_true rfl, Nat.le_of_ble_eq_true rfl⟩ (l_rcC ht) rfl (Nat.le_of_ble_eq_true rfl) dL_law_303 hcs ?_
  refine j_aload_n dL_law_306 1 rfl ?_
  refine l_rd 1 dL_law_307 dL_law_308 dL_law_309 dL_law_310 dL_law_311 (by decide) (by decide) hL hL4 ?_
  refine l_callT [pI (xI xs (6 * i + 1))] [pI r0.1] _ (c5_endorse (xI xs (6 * i + 1)) m hm) wvL5_endorse dv5_endorse rfl ⟨Nat.le_of_ble_eq_true rfl, Nat.le_of_ble_eq_true rfl⟩ (m_recv m) rfl (Nat.le_of_ble_eq_true rfl) dL_law_312 hcs ?_
  exact j_icmp_eq (w32 _) (w32 _) rfl rfl 1574 dL_law_315 (by decide) (fun _ => kk) (fun h => absurd (congrArg w32 he) h)
theorem wvL0_wordingPart : jwV "CoverHouseLaw" D0_wordingPart 34 yX0_wordingPart := ⟨q1332, q1333, q1334, q128, q1335⟩
theorem wvL5_wordingPart : jwV "CoverHouseLaw" D5_wordingPart 38 yX5_wordingPart := ⟨q2399, q2400, q2401, q140, q2402⟩
theorem cs_4 (hL : 6 * i + 6 ≤ L) (hL4 : L ≤ 384) (ht : zT u o = 1) {r0 : Int} {r5 : Int} (hf : f0_wordingPart G (some o) (xI xs (6 * i + 1)) (xI xs (6 * i + 2)) u = some r0) (hm : m5_wordingPart (xI xs (6 * i + 1)) (xI xs (6 * i + 2)) m = some r5) (he : r0 = r5) (hcs : ce ≤ 601024 ∧ sl ≤ 7293034) (kk : LJ G G' b L xs l nm (u, m) o ce sl 1574 i []) : LJ G G' b L xs l nm (u, m) o ce sl 320 i [] := by
  refine j_aload_n dL_law_320 2 rfl ?_
  refine l_rd 1 dL_law_321 dL_law_322 dL_law_323 dL_law_324 dL_law_325 (by decide) (by decide) hL hL4 ?_
  refine l_rd 2 dL_law_326 dL_law_327 dL_law_328 dL_law_329 dL_law_330 (by decide) (by decide) hL hL4 ?_
  refine l_callC [pI (xI xs (6 * i + 1)), pI (xI xs (6 * i + 2))] [] _ (t0_wordingPart (some o) (xI xs (6 * i + 1)) (xI xs (6 * i + 2)) u hf) wvL0_wordingPart dv0_wordingPart rfl ⟨Nat.le_of_ble_eq_true rfl, Nat.le_of_ble_eq_true rfl⟩ (l_rcC ht) rfl (Nat.le_of_ble_eq_true rfl) dL_law_331 hcs ?_
  refine j_aload_n dL_law_334 1 rfl ?_
  refine l_rd 1 dL_law_335 dL_law_336 dL_law_337 dL_law_338 dL_law_339 (by decide) (by decide) hL hL4 ?_
  refine l_rd 2 dL_law_340 dL_law_341 dL_law_342 dL_law_343 dL_law_344 (by decide) (by decide) hL hL4 ?_
  refine l_callT [pI (xI xs (6 * i + 1)), pI (xI xs (6 * i + 2))] [pI r0] _ (c5_wordingPart (xI xs (6 * i + 1)) (xI xs (6 * i + 2)) m hm) wvL5_wordingPart dv5_wordingPart rfl ⟨Nat.le_of_ble_eq_true rfl, Nat.le_of_ble_eq_true rfl⟩ (m_recv m) rfl (Nat.le_of_ble_eq_true rfl) dL_law_345 hcs ?_
  exact j_icmp_eq (w32 _) (w32 _) rfl rfl 1574 dL_law_348 (by decide) (fun _ => kk) (fun h => absurd (congrArg w32 he) h)
theorem wvL0_factPart : jwV "CoverHouseLaw" D0_factPart 39 yX0_factPart := ⟨q1336, q1337, q1338, q128, q1339⟩
theorem wvL5_factPart : jwV "CoverHouseLaw" D5_factPart 43 yX5_factPart := ⟨q2407, q2408, q2409, q140, q2410⟩
theorem cs_5 (hL : 6 * i + 6 ≤ L) (hL4 : L ≤ 384) (ht : zT u o = 1) {r0 : Int} {r5 : Int} (hf : f0_factPart G (some o) (xI xs (6 * i + 1)) (xI xs (6 * i + 2)) (xI xs (6 * i + 3)) u = some r0) (hm : m5_factPart (xI xs (6 * i + 1)) (xI xs (6 * i + 2)) (xI xs (6 * i + 3)) m = some r5) (he : r0 = r5) (hcs : ce ≤ 601024 ∧ sl ≤ 7293034) (kk : LJ G G' b L xs l nm (u, m) o ce sl 1574 i []) : LJ G G' b L xs l nm (u, m) o ce sl 353 i [] := by
  refine j_aload_n dL_law_353 2 rfl ?_
  refine l_rd 1 dL_law_354 dL_law_355 dL_law_356 dL_law_357 dL_law_358 (by decide) (by decide) hL hL4 ?_
  refine l_rd 2 dL_law_359 dL_law_360 dL_law_361 dL_law_362 dL_law_363 (by decide) (by decide) hL hL4 ?_
  refine l_rd 3 dL_law_364 dL_law_365 dL_law_366 dL_law_367 dL_law_368 (by decide) (by decide) hL hL4 ?_
  refine l_callC [pI (xI xs (6 * i + 1)), pI (xI xs (6 * i + 2)), pI (xI xs (6 * i + 3))] [] _ (t0_factPart (some o) (xI xs (6 * i + 1)) (xI xs (6 * i + 2)) (xI xs (6 * i + 3)) u hf) wvL0_factPart dv0_factPart rfl ⟨Nat.le_of_ble_eq_true rfl, Nat.le_of_ble_eq_true rfl⟩ (l_rcC ht) rfl (Nat.le_of_ble_eq_true rfl) dL_law_369 hcs ?_
  refine j_aload_n dL_law_372 1 rfl ?_
  refine l_rd 1 dL_law_373 dL_law_374 dL_law_375 dL_law_376 dL_law_377 (by decide) (by decide) hL hL4 ?_
  refine l_rd 2 dL_law_378 dL_law_379 dL_law_380 dL_law_381 dL_law_382 (by decide) (by decide) hL hL4 ?_
  refine l_rd 3 dL_law_383 dL_law_384 dL_law_385 dL_law_386 dL_law_387 (by decide) (by decide) hL hL4 ?_
  refine l_callT [pI (xI xs (6 * i + 1)), pI (xI xs (6 * i + 2)), pI (xI xs (6 * i + 3))] [pI r0] _ (c5_factPart (xI xs (6 * i + 1)) (xI xs (6 * i + 2)) (xI xs (6 * i + 3)) m hm) wvL5_factPart dv5_factPart rfl ⟨Nat.le_of_ble_eq_true rfl, Nat.le_of_ble_eq_true rfl⟩ (m_recv m) rfl (Nat.le_of_ble_eq_true rfl) dL_law_388 hcs ?_
  exact j_icmp_eq (w32 _) (w32 _) rfl rfl 1574 dL_law_391 (by decide) (fun _ => kk) (fun h => absurd (congrArg w32 he) h)
theorem wvL0_clause : jwV "CoverHouseLaw" D0_clause 44 yX0_clause := ⟨q1342, q1343, q1344, q128, q1345⟩
theorem wvL5_clause : jwV "CoverHouseLaw" D5_clause 47 yX5_clause := ⟨q2411, q2412, q2413, q140, q2414⟩
theorem cs_6 (hL : 6 * i + 6 ≤ L) (hL4 : L ≤ 384) (ht : zT u o = 1) {r0 : Int} {r5 : Int} (hf : f0_clause G (some o) (xI xs (6 * i + 1)) (xI xs (6 * i + 2)) u = some r0) (hm : m5_clause (xI xs (6 * i + 1)) (xI xs (6 * i + 2)) m = some r5) (he : r0 = r5) (hcs : ce ≤ 601024 ∧ sl ≤ 7293034) (kk : LJ G G' b L xs l nm (u, m) o ce sl 1574 i []) : LJ G G' b L xs l nm (u, m) o ce sl 396 i [] := by
  refine j_aload_n dL_law_396 2 rfl ?_
  refine l_rd 1 dL_law_397 dL_law_398 dL_law_399 dL_law_400 dL_law_401 (by decide) (by decide) hL hL4 ?_
  refine l_rd 2 dL_law_402 dL_law_403 dL_law_404 dL_law_405 dL_law_406 (by decide) (by decide) hL hL4 ?_
  refine l_callC [pI (xI xs (6 * i + 1)), pI (xI xs (6 * i + 2))] [] _ (t0_clause (some o) (xI xs (6 * i + 1)) (xI xs (6 * i + 2)) u hf) wvL0_clause dv0_clause rfl ⟨Nat.le_of_ble_eq_true rfl, Nat.le_of_ble_eq_true rfl⟩ (l_rcC ht) rfl (Nat.le_of_ble_eq_true rfl) dL_law_407 hcs ?_
  refine j_aload_n dL_law_410 1 rfl ?_
  refine l_rd 1 dL_law_411 dL_law_412 dL_law_413 dL_law_414 dL_law_415 (by decide) (by decide) hL hL4 ?_
  refine l_rd 2 dL_law_416 dL_law_417 dL_law_418 dL_law_419 dL_law_420 (by decide) (by decide) hL hL4 ?_
  refine l_callT [pI (xI xs (6 * i + 1)), pI (xI xs (6 * i + 2))] [pI r0] _ (c5_clause (xI xs (6 * i + 1)) (xI xs (6 * i + 2)) m hm) wvL5_clause dv5_clause rfl ⟨Nat.le_of_ble_eq_true rfl, Nat.le_of_ble_eq_true rfl⟩ (m_recv m) rfl (Nat.le_of_ble_eq_true rfl) dL_law_421 hcs ?_
  exact j_icmp_eq (w32 _) (w32 _) rfl rfl 1574 dL_law_424 (by decide) (fun _ => kk) (fun h => absurd (congrArg w32 he) h)
theorem wvL0_compare : jwV "CoverHouseLaw" D0_compare 48 yX0_compare := ⟨q1347, q1348, q1349, q128, q1350⟩
theorem wvL5_compare : jwV "CoverHouseLaw" D5_compare 51 yX5_compare := ⟨q2415, q2416, q2417, q140, q2418⟩
theorem cs_7 (hL : 6 * i + 6 ≤ L) (hL4 : L ≤ 384) (ht : zT u o = 1) {r0 : Int × Sg} {r5 : Int × Mu} (hf : f0_compare G (some o) (xI xs (6 * i + 1)) (xI xs (6 * i + 2)) u = some r0) (hm : m5_compare (xI xs (6 * i + 1)) (xI xs (6 * i + 2)) m = some r5) (he : r0.1 = r5.1) (hcs : ce ≤ 601024 ∧ sl ≤ 7293034) (kk : LJ G G' b L xs l nm (r0.2, r5.2) o ce sl 1574 i []) : LJ G G' b L xs l nm (u, m) o ce sl 429 i [] := by
  refine j_aload_n dL_law_429 2 rfl ?_
  refine l_rd 1 dL_law_430 dL_law_431 dL_law_432 dL_law_433 dL_law_434 (by decide) (by decide) hL hL4 ?_
  refine l_rd 2 dL_law_435 dL_law_436 dL_law_437 dL_law_438 dL_law_439 (by decide) (by decide) hL hL4 ?_
  refine l_callC [pI (xI xs (6 * i + 1)), pI (xI xs (6 * i + 2))] [] _ (t0_compare (some o) (xI xs (6 * i + 1)) (xI xs (6 * i + 2)) u hf) wvL0_compare dv0_compare rfl ⟨Nat.le_of_ble_eq_true rfl, Nat.le_of_ble_eq_true rfl⟩ (l_rcC ht) rfl (Nat.le_of_ble_eq_true rfl) dL_law_440 hcs ?_
  refine j_aload_n dL_law_443 1 rfl ?_
  refine l_rd 1 dL_law_444 dL_law_445 dL_law_446 dL_law_447 dL_law_448 (by decide) (by decide) hL hL4 ?_
  refine l_rd 2 dL_law_449 dL_law_450 dL_law_451 dL_law_452 dL_law_453 (by decide) (by decide) hL hL4 ?_
  refine l_callT [pI (xI xs (6 * i + 1)), pI (xI xs (6 * i + 2))] [pI r0.1] _ (c5_compare (xI xs (6 * i + 1)) (xI xs (6 * i + 2)) m hm) wvL5_compare dv5_compare rfl ⟨Nat.le_of_ble_eq_true rfl, Nat.le_of_ble_eq_true rfl⟩ (m_recv m) rfl (Nat.le_of_ble_eq_true rfl) dL_law_454 hcs ?_
  exact j_icmp_eq (w32 _) (w32 _) rfl rfl 1574 dL_law_457 (by decide) (fun _ => kk) (fun h => absurd (congrArg w32 he) h)
theorem wvL0_apart : jwV "CoverHouseLaw" D0_apart 52 yX0_apart := ⟨q1394, q1395, q1396, q128, q1397⟩
theorem wvL5_apart : jwV "CoverHouseLaw" D5_apart 55 yX5_apart := ⟨q2445, q2446, q2447, q140, q2448⟩
theorem cs_8 (hL : 6 * i + 6 ≤ L) (hL4 : L ≤ 384) (ht : zT u o = 1) {r0 : Int} {r5 : Int} (hf : f0_apart G (some o) (xI xs (6 * i + 1)) (xI xs (6 * i + 2)) u = some r0) (hm : m5_apart (xI xs (6 * i + 1)) (xI xs (6 * i + 2)) m = some r5) (he : r0 = r5) (hcs : ce ≤ 601024 ∧ sl ≤ 7293034) (kk : LJ G G' b L xs l nm (u, m) o ce sl 1574 i []) : LJ G G' b L xs l nm (u, m) o ce sl 462 i [] := by
  refine j_aload_n dL_law_462 2 rfl ?_
  refine l_rd 1 dL_law_463 dL_law_464 dL_law_465 dL_law_466 dL_law_467 (by decide) (by decide) hL hL4 ?_
  refine l_rd 2 dL_law_468 dL_law_469 dL_law_470 dL_law_471 dL_law_472 (by decide) (by decide) hL hL4 ?_
  refine l_callC [pI (xI xs (6 * i + 1)), pI (xI xs (6 * i + 2))] [] _ (t0_apart (some o) (xI xs (6 * i + 1)) (xI xs (6 * i + 2)) u hf) wvL0_apart dv0_apart rfl ⟨Nat.le_of_ble_eq_true rfl, Nat.le_of_ble_eq_true rfl⟩ (l_rcC ht) rfl (Nat.le_of_ble_eq_true rfl) dL_law_473 hcs ?_
  refine j_aload_n dL_law_476 1 rfl ?_
  refine l_rd 1 dL_law_477 dL_law_478 dL_law_479 dL_law_480 dL_law_481 (by decide) (by decide) hL hL4 ?_
  refine l_rd 2 dL_law_482 dL_law_483 dL_law_484 dL_law_485 dL_law_486 (by decide) (by decide) hL hL4 ?_
  refine l_callT [pI (xI xs (6 * i + 1)), pI (xI xs (6 * i + 2))] [pI r0] _ (c5_apart (xI xs (6 * i + 1)) (xI xs (6 * i + 2)) m hm) wvL5_apart dv5_apart rfl ⟨Nat.le_of_ble_eq_true rfl, Nat.le_of_ble_eq_true rfl⟩ (m_recv m) rfl (Nat.le_of_ble_eq_true rfl) dL_law_487 hcs ?_
  exact j_icmp_eq (w32 _) (w32 _) rfl rfl 1574 dL_law_490 (by decide) (fun _ => kk) (fun h => absurd (congrArg w32 he) h)
theorem wvL0_judge : Cond.methodLink "CoverHouseLaw" 56 yX0_judge ∈ lw_all ∧ Cond.instanceMethod yX0_judge ∈ lw_all ∧ Cond.selects D0_judge.1 yX0_judge yX0_judge ∈ lw_all ∧ Cond.initialized D0_judge.1 ∈ lw_all ∧ Cond.codeWith yX0_judge D0_judge.2.1 D0_judge.2.2.1 D0_judge.2.2.2.1 [(15, 78, 81, 168)] ∈ lw_all := ⟨q1398, q1399, q1400, q128, q1401⟩
theorem wvL5_judge : jwV "CoverHouseLaw" D5_judge 59 yX5_judge := ⟨q2449, q2450, q2451, q140, q2452⟩
theorem cs_9 (hfl : l.stackTraces = false) (hL : 6 * i + 6 ≤ L) (hL4 : L ≤ 384) (ht : zT u o = 1) {r0 : Int × Sg} {r5 : Int × Mu} {c0 n0 : Nat} (hf : f0_judge G (some o) (xI xs (6 * i + 1)) u = some (r0, c0, n0)) (hm : m5_judge (xI xs (6 * i + 1)) m = some r5) (he : r0.1 = r5.1) (hcs : ce + c0 ≤ 601024 ∧ sl + n0 ≤ 7293034) (kk : LJ G G' b L xs l nm (r0.2, r5.2) o (ce + c0) (sl + n0) 1574 i []) : LJ G G' b L xs l nm (u, m) o ce sl 495 i [] := by
  refine j_aload_n dL_law_495 2 rfl ?_
  refine l_rd 1 dL_law_496 dL_law_497 dL_law_498 dL_law_499 dL_law_500 (by decide) (by decide) hL hL4 ?_
  refine l_callH [pI (xI xs (6 * i + 1))] [] _ (t0_judge hfl (some o) (xI xs (6 * i + 1)) u hf) wvL0_judge dv0_judge rfl ⟨Nat.le_of_ble_eq_true rfl, Nat.le_of_ble_eq_true rfl⟩ (l_rcC ht) rfl (Nat.le_of_ble_eq_true rfl) dL_law_501 hcs ?_
  refine j_aload_n dL_law_504 1 rfl ?_
  refine l_rd 1 dL_law_505 dL_law_506 dL_law_507 dL_law_508 dL_law_509 (by decide) (by decide) hL hL4 ?_
  refine l_callT [pI (xI xs (6 * i + 1))] [pI r0.1] _ (c5_judge (xI xs (6 * i + 1)) m hm) wvL5_judge dv5_judge rfl ⟨Nat.le_of_ble_eq_true rfl, Nat.le_of_ble_eq_true rfl⟩ (m_recv m) rfl (Nat.le_of_ble_eq_true rfl) dL_law_510 hcs ?_
  exact j_icmp_eq (w32 _) (w32 _) rfl rfl 1574 dL_law_513 (by decide) (fun _ => kk) (fun h => absurd (congrArg w32 he) h)
theorem wvL0_shown : jwV "CoverHouseLaw" D0_shown 60 yX0_shown := ⟨q1415, q1416, q1417, q128, q1418⟩
theorem wvL5_shown : jwV "CoverHouseLaw" D5_shown 63 yX5_shown := ⟨q2453, q2454, q2455, q140, q2456⟩
theorem cs_10 (hL : 6 * i + 6 ≤ L) (hL4 : L ≤ 384) (ht : zT u o = 1) {r0 : Int} {r5 : Int} (hf : f0_shown G (some o) (xI xs (6 * i + 1)) u = some r0) (hm : m5_shown (xI xs (6 * i + 1)) m = some r5) (he : r0 = r5) (hcs : ce ≤ 601024 ∧ sl ≤ 7293034) (kk : LJ G G' b L xs l nm (u, m) o ce sl 1574 i []) : LJ G G' b L xs l nm (u, m) o ce sl 518 i [] := by
  refine j_aload_n dL_law_518 2 rfl ?_
  refine l_rd 1 dL_law_519 dL_law_520 dL_law_521 dL_law_522 dL_law_523 (by decide) (by decide) hL hL4 ?_
  refine l_callC [pI (xI xs (6 * i + 1))] [] _ (t0_shown (some o) (xI xs (6 * i + 1)) u hf) wvL0_shown dv0_shown rfl ⟨Nat.le_of_ble_eq_true rfl, Nat.le_of_ble_eq_true rfl⟩ (l_rcC ht) rfl (Nat.le_of_ble_eq_true rfl) dL_law_524 hcs ?_
  refine j_aload_n dL_law_527 1 rfl ?_
  refine l_rd 1 dL_law_528 dL_law_529 dL_law_530 dL_law_531 dL_law_532 (by decide) (by decide) hL hL4 ?_
  refine l_callT [pI (xI xs (6 * i + 1))] [pI r0] _ (c5_shown (xI xs (6 * i + 1)) m hm) wvL5_shown dv5_shown rfl ⟨Nat.le_of_ble_eq_true rfl, Nat.le_of_ble_eq_true rfl⟩ (m_recv m) rfl (Nat.le_of_ble_eq_true rfl) dL_law_533 hcs ?_
  exact j_icmp_eq (w32 _) (w32 _) rfl rfl 1574 dL_law_536 (by decide) (fun _ => kk) (fun h => absurd (congrArg w32 he) h)
theorem wvL0_event : jwV "CoverHouseLaw" D0_event 64 yX0_event := ⟨q1419, q1420, q1421, q128, q1422⟩
theorem wvL5_event : jwV "CoverHouseLaw" D5_event 67 yX5_event := ⟨q2457, q2458, q2459, q140, q2460⟩
theorem cs_11 (hL : 6 * i + 6 ≤ L) (hL4 : L ≤ 384) (ht : zT u o = 1) {r0 : Int × Sg} {r5 : Int × Mu} {c0 n0 : Nat} (hf : f0_event G (some o) (xI xs (6 * i + 1)) u = some (r0, c0, n0)) (hm : m5_event (xI xs (6 * i + 1)) m = some r5) (he : r0.1 = r5.1) (hcs : ce + c0 ≤ 601024 ∧ sl + n0 ≤ 7293034) (kk : LJ G G' b L xs l nm (r0.2, r5.2) o (ce + c0) (sl + n0) 1574 i []) : LJ G G' b L xs l nm (u, m) o ce sl 541 i [] := by
  refine j_aload_n dL_law_541 2 rfl ?_
  refine l_rd 1 dL_law_542 dL_law_543 dL_law_544 dL_law_545 dL_law_546 (by decide) (by decide) hL hL4 ?_
  refine l_callC [pI (xI xs (6 * i + 1))] [] _ (t0_event (some o) (xI xs (6 * i + 1)) u hf) wvL0_event dv0_event rfl ⟨Nat.le_of_ble_eq_true rfl, Nat.le_of_ble_eq_true rfl⟩ (l_rcC ht) rfl (Nat.le_of_ble_eq_true rfl) dL_law_547 hcs ?_
  refine j_aload_n dL_law_550 1 rfl ?_
  refine l_rd 1 dL_law_551 dL_law_552 dL_law_553 dL_law_554 dL_law_555 (by decide) (by decide) hL hL4 ?_
  refine l_callT [pI (xI xs (6 * i + 1))] [pI r0.1] _ (c5_event (xI xs (6 * i + 1)) m hm) wvL5_event dv5_event rfl ⟨Nat.le_of_ble_eq_true rfl, Nat.le_of_ble_eq_true rfl⟩ (m_recv m) rfl (Nat.le_of_ble_eq_true rfl) dL_law_556 hcs ?_
  exact j_icmp_eq (w32 _) (w32 _) rfl rfl 1574 dL_law_559 (by decide) (fun _ => kk) (fun h => absurd (congrArg w32 he) h)
theorem wvL0_tell : jwV "CoverHouseLaw" D0_tell 68 yX0_tell := ⟨q1462, q1463, q1464, q128, q1465⟩
theorem wvL5_tell : jwV "CoverHouseLaw" D5_tell 72 yX5_tell := ⟨q2461, q2462, q2463, q140, q2464⟩
theorem cs_12 (hL : 6 * i + 6 ≤ L) (hL4 : L ≤ 384) (ht : zT u o = 1) {r0 : Int × Sg} {r5 : Int × Mu} (hf : f0_tell G (some o) (xI xs (6 * i + 1)) (xI xs (6 * i + 2)) (xI xs (6 * i + 3)) (xI xs (6 * i + 4)) u = some r0) (hm : m5_tell (xI xs (6 * i + 1)) (xI xs (6 * i + 2)) (xI xs (6 * i + 3)) (xI xs (6 * i + 4)) m = some r5) (he : r0.1 = r5.1) (hcs : ce ≤ 601024 ∧ sl ≤ 7293034) (kk : LJ G G' b L xs l nm (r0.2, r5.2) o ce sl 1574 i []) : LJ G G' b L xs l nm (u, m) o ce sl 564 i [] := by
  refine j_aload_n dL_law_564 2 rfl ?_
  refine l_rd 1 dL_law_565 dL_law_566 dL_law_567 dL_law_568 dL_law_569 (by decide) (by decide) hL hL4 ?_
  refine l_rd 2 dL_law_570 dL_law_571 dL_law_572 dL_law_573 dL_law_574 (by decide) (by decide) hL hL4 ?_
  refine l_rd 3 dL_law_575 dL_law_576 dL_law_577 dL_law_578 dL_law_579 (by decide) (by decide) hL hL4 ?_
  refine l_rd 4 dL_law_580 dL_law_581 dL_law_582 dL_law_583 dL_law_584 (by decide) (by decide) hL hL4 ?_
  refine l_callC [pI (xI xs (6 * i + 1)), pI (xI xs (6 * i + 2)), pI (xI xs (6 * i + 3)), pI (xI xs (6 * i + 4))] [] _ (t0_tell (some o) (xI xs (6 * i + 1)) (xI xs (6 * i + 2)) (xI xs (6 * i + 3)) (xI xs (6 * i + 4)) u hf) wvL0_tell dv0_tell rfl ⟨Nat.le_of_ble_eq_true rfl, Nat.le_of_ble_eq_true rfl⟩ (l_rcC ht) rfl (Nat.le_of_ble_eq_true rfl) dL_law_585 hcs ?_
  refine j_aload_n dL_law_588 1 rfl ?_
  refine l_rd 1 dL_law_589 dL_law_590 dL_law_591 dL_law_592 dL_law_593 (by decide) (by decide) hL hL4 ?_
  refine l_rd 2 dL_law_594 dL_law_595 dL_law_596 dL_law_597 dL_law_598 (by decide) (by decide) hL hL4 ?_
  refine l_rd 3 dL_law_599 dL_law_600 dL_law_601 dL_law_602 dL_law_603 (by decide) (by decide) hL hL4 ?_
  refine l_rd 4 dL_law_604 dL_law_605 dL_law_606 dL_law_607 dL_law_608 (by decide) (by decide) hL hL4 ?_
  refine l_callT [pI (xI xs (6 * i + 1)), pI (xI xs (6 * i + 2)), pI (xI xs (6 * i + 3)), pI (xI xs (6 * i + 4))] [pI r0.1] _ (c5_tell (xI xs (6 * i + 1)) (xI xs (6 * i + 2)) (xI xs (6 * i + 3)) (xI xs (6 * i + 4)) m hm) wvL5_tell dv5_tell rfl ⟨Nat.le_of_ble_eq_true rfl, Nat.le_of_ble_eq_true rfl⟩ (m_recv m) rfl (Nat.le_of_ble_eq_true rfl) dL_law_609 hcs ?_
  exact j_icmp_eq (w32 _) (w32 _) rfl rfl 1574 dL_law_612 (by decide) (fun _ => kk) (fun h => absurd (congrArg w32 he) h)
theorem wvL0_fact : jwV "CoverHouseLaw" D0_fact 73 yX0_fact := ⟨q1486, q1487, q1488, q128, q1489⟩
theorem wvL5_fact : jwV "CoverHouseLaw" D5_fact 76 yX5_fact := ⟨q2472, q2473, q2474, q140, q2475⟩
theorem cs_13 (hL : 6 * i + 6 ≤ L) (hL4 : L ≤ 384) (ht : zT u o = 1) {r0 : Int} {r5 : Int} (hf : f0_fact G (some o) (xI xs (6 * i + 1)) (xI xs (6 * i + 2)) (xI xs (6 * i + 3)) u = some r0) (hm : m5_fact (xI xs (6 * i + 1)) (xI xs (6 * i + 2)) (xI xs (6 * i + 3)) m = some r5) (he : r0 = r5) (hcs : ce ≤ 601024 ∧ sl ≤ 7293034) (kk : LJ G G' b L xs l nm (u, m) o ce sl 1574 i []) : LJ G G' b L xs l nm (u, m) o ce sl 617 i [] := by
  refine j_aload_n dL_law_617 2 rfl ?_
  refine l_rd 1 dL_law_618 dL_law_619 dL_law_620 dL_law_621 dL_law_622 (by decide) (by decide) hL hL4 ?_
  refine l_rd 2 dL_law_623 dL_law_624 dL_law_625 dL_law_626 dL_law_627 (by decide) (by decide) hL hL4 ?_
  refine l_rd 3 dL_law_628 dL_law_629 dL_law_630 dL_law_631 dL_law_632 (by decide) (by decide) hL hL4 ?_
  refine l_callC [pI (xI xs (6 * i + 1)), pI (xI xs (6 * i + 2)), pI (xI xs (6 * i + 3))] [] _ (t0_fact (some o) (xI xs (6 * i + 1)) (xI xs (6 * i + 2)) (xI xs (6 * i + 3)) u hf) wvL0_fact dv0_fact rfl ⟨Nat.le_of_ble_eq_true rfl, Nat.le_of_ble_eq_true rfl⟩ (l_rcC ht) rfl (Nat.le_of_ble_eq_true rfl) dL_law_633 hcs ?_
  refine j_aload_n dL_law_636 1 rfl ?_
  refine l_rd 1 dL_law_637 dL_law_638 dL_law_639 dL_law_640 dL_law_641 (by decide) (by decide) hL hL4 ?_
  refine l_rd 2 dL_law_642 dL_law_643 dL_law_644 dL_law_645 dL_law_646 (by decide) (by decide) hL hL4 ?_
  refine l_rd 3 dL_law_647 dL_law_648 dL_law_649 dL_law_650 dL_law_651 (by decide) (by decide) hL hL4 ?_
  refine l_callT [pI (xI xs (6 * i + 1)), pI (xI xs (6 * i + 2)), pI (xI xs (6 * i + 3))] [pI r0] _ (c5_fact (xI xs (6 * i + 1)) (xI xs (6 * i + 2)) (xI xs (6 * i + 3)) m hm) wvL5_fact dv5_fact rfl ⟨Nat.le_of_ble_eq_true rfl, Nat.le_of_ble_eq_true rfl⟩ (m_recv m) rfl (Nat.le_of_ble_eq_true rfl) dL_law_652 hcs ?_
  exact j_icmp_eq (w32 _) (w32 _) rfl rfl 1574 dL_law_655 (by decide) (fun _ => kk) (fun h => absurd (congrArg w32 he) h)
theorem wvL0_covers : jwV "CoverHouseLaw" D0_covers 77 yX0_covers := ⟨q1494, q1495, q1496, q128, q1497⟩
theorem wvL5_covers : jwV "CoverHouseLaw" D5_covers 80 yX5_covers := ⟨q2480, q2481, q2482, q140, q2483⟩
theorem cs_14 (hL : 6 * i + 6 ≤ L) (hL4 : L ≤ 384) (ht : zT u o = 1) {r0 : Int × Sg} {r5 : Int × Mu} (hf : f0_covers G (some o) (xI xs (6 * i + 1)) (xI xs (6 * i + 2)) u = some r0) (hm : m5_covers (xI xs (6 * i + 1)) (xI xs (6 * i + 2)) m = some r5) (he : r0.1 = r5.1) (hcs : ce ≤ 601024 ∧ sl ≤ 7293034) (kk : LJ G G' b L xs l nm (r0.2, r5.2) o ce sl 1574 i []) : LJ G G' b L xs l nm (u, m) o ce sl 660 i [] := by
  refine j_aload_n dL_law_660 2 rfl ?_
  refine l_rd 1 dL_law_661 dL_law_662 dL_law_663 dL_law_664 dL_law_665 (by decide) (by decide) hL hL4 ?_
  refine l_rd 2 dL_law_666 dL_law_667 dL_law_668 dL_law_669 dL_law_670 (by decide) (by decide) hL hL4 ?_
  refine l_callC [pI (xI xs (6 * i + 1)), pI (xI xs (6 * i + 2))] [] _ (t0_covers (some o) (xI xs (6 * i + 1)) (xI xs (6 * i + 2)) u hf) wvL0_covers dv0_covers rfl ⟨Nat.le_of_ble_eq_true rfl, Nat.le_of_ble_eq_true rfl⟩ (l_rcC ht) rfl (Nat.le_of_ble_eq_true rfl) dL_law_671 hcs ?_
  refine j_aload_n dL_law_674 1 rfl ?_
  refine l_rd 1 dL_law_675 dL_law_676 dL_law_677 dL_law_678 dL_law_679 (by decide) (by decide) hL hL4 ?_
  refine l_rd 2 dL_law_680 dL_law_681 dL_law_682 dL_law_683 dL_law_684 (by decide) (by decide) hL hL4 ?_
  refine l_callT [pI (xI xs (6 * i + 1)), pI (xI xs (6 * i + 2))] [pI r0.1] _ (c5_covers (xI xs (6 * i + 1)) (xI xs (6 * i + 2)) m hm) wvL5_covers dv5_covers rfl ⟨Nat.le_of_ble_eq_true rfl, Nat.le_of_ble_eq_true rfl⟩ (m_recv m) rfl (Nat.le_of_ble_eq_true rfl) dL_law_685 hcs ?_
  exact j_icmp_eq (w32 _) (w32 _) rfl rfl 1574 dL_law_688 (by decide) (fun _ => kk) (fun h => absurd (congrArg w32 he) h)
theorem wvL0_settles : jwV "CoverHouseLaw" D0_settles 81 yX0_settles := ⟨q1530, q1531, q1532, q128, q1533⟩
theorem wvL5_settles : jwV "CoverHouseLaw" D5_settles 84 yX5_settles := ⟨q2508, q2509, q2510, q140, q2511⟩
theorem cs_15 (hL : 6 * i + 6 ≤ L) (hL4 : L ≤ 384) (ht : zT u o = 1) {r0 : Int × Sg} {r5 : Int × Mu} (hf : f0_settles G (some o) (xI xs (6 * i + 1)) (xI xs (6 * i + 2)) u = some r0) (hm : m5_settles (xI xs (6 * i + 1)) (xI xs (6 * i + 2)) m = some r5) (he : r0.1 = r5.1) (hcs : ce ≤ 601024 ∧ sl ≤ 7293034) (kk : LJ G G' b L xs l nm (r0.2, r5.2) o ce sl 1574 i []) : LJ G G' b L xs l nm (u, m) o ce sl 693 i [] := by
  refine j_aload_n dL_law_693 2 rfl ?_
  refine l_rd 1 dL_law_694 dL_law_695 dL_law_696 dL_law_697 dL_law_698 (by decide) (by decide) hL hL4 ?_
  refine l_rd 2 dL_law_699 dL_law_700 dL_law_701 dL_law_702 dL_law_703 (by decide) (by decide) hL hL4 ?_
  refine l_callC [pI (xI xs (6 * i + 1)), pI (xI xs (6 * i + 2))] [] _ (t0_settles (some o) (xI xs (6 * i + 1)) (xI xs (6 * i + 2)) u hf) wvL0_settles dv0_settles rfl ⟨Nat.le_of_ble_eq_true rfl, Nat.le_of_ble_eq_true rfl⟩ (l_rcC ht) rfl (Nat.le_of_ble_eq_true rfl) dL_law_704 hcs ?_
  refine j_aload_n dL_law_707 1 rfl ?_
  refine l_rd 1 dL_law_708 dL_law_709 dL_law_710 dL_law_711 dL_law_712 (by decide) (by decide) hL hL4 ?_
  refine l_rd 2 dL_law_713 dL_law_714 dL_law_715 dL_law_716 dL_law_717 (by decide) (by decide) hL hL4 ?_
  refine l_callT [pI (xI xs (6 * i + 1)), pI (xI xs (6 * i + 2))] [pI r0.1] _ (c5_settles (xI xs (6 * i + 1)) (xI xs (6 * i + 2)) m hm) wvL5_settles dv5_settles rfl ⟨Nat.le_of_ble_eq_true rfl, Nat.le_of_ble_eq_true rfl⟩ (m_recv m) rfl (Nat.le_of_ble_eq_true rfl) dL_law_718 hcs ?_
  exact j_icmp_eq (w32 _) (w32 _) rfl rfl 1574 dL_law_721 (by decide) (fun _ => kk) (fun h => absurd (congrArg w32 he) h)
theorem wvL0_because : jwV "CoverHouseLaw" D0_because 85 yX0_because := ⟨q1556, q1557, q1558, q128, q1559⟩
theorem wvL5_because : jwV "CoverHouseLaw" D5_because 88 yX5_because := ⟨q2522, q2523, q2524, q140, q2525⟩
theorem cs_16 (hL : 6 * i + 6 ≤ L) (hL4 : L ≤ 384) (ht : zT u o = 1) {r0 : Int × Sg} {r5 : Int × Mu} (hf : f0_because G (some o) (xI xs (6 * i + 1)) (xI xs (6 * i + 2)) u = some r0) (hm : m5_because (xI xs (6 * i + 1)) (xI xs (6 * i + 2)) m = some r5) (he : r0.1 = r5.1) (hcs : ce ≤ 601024 ∧ sl ≤ 7293034) (kk : LJ G G' b L xs l nm (r0.2, r5.2) o ce sl 1574 i []) : LJ G G' b L xs l nm (u, m) o ce sl 726 i [] := by
  refine j_aload_n dL_law_726 2 rfl ?_
  refine l_rd 1 dL_law_727 dL_law_728 dL_law_729 dL_law_730 dL_law_731 (by decide) (by decide) hL hL4 ?_
  refine l_rd 2 dL_law_732 dL_law_733 dL_law_734 dL_law_735 dL_law_736 (by decide) (by decide) hL hL4 ?_
  refine l_callC [pI (xI xs (6 * i + 1)), pI (xI xs (6 * i + 2))] [] _ (t0_because (some o) (xI xs (6 * i + 1)) (xI xs (6 * i + 2)) u hf) wvL0_because dv0_because rfl ⟨Nat.le_of_ble_eq_true rfl, Nat.le_of_ble_eq_true rfl⟩ (l_rcC ht) rfl (Nat.le_of_ble_eq_true rfl) dL_law_737 hcs ?_
  refine j_aload_n dL_law_740 1 rfl ?_
  refine l_rd 1 dL_law_741 dL_law_742 dL_law_743 dL_law_744 dL_law_745 (by decide) (by decide) hL hL4 ?_
  refine l_rd 2 dL_law_746 dL_law_747 dL_law_748 dL_law_749 dL_law_750 (by decide) (by decide) hL hL4 ?_
  refine l_callT [pI (xI xs (6 * i + 1)), pI (xI xs (6 * i + 2))] [pI r0.1] _ (c5_because (xI xs (6 * i + 1)) (xI xs (6 * i + 2)) m hm) wvL5_because dv5_because rfl ⟨Nat.le_of_ble_eq_true rfl, Nat.le_of_ble_eq_true rfl⟩ (m_recv m) rfl (Nat.le_of_ble_eq_true rfl) dL_law_751 hcs ?_
  exact j_icmp_eq (w32 _) (w32 _) rfl rfl 1574 dL_law_754 (by decide) (fun _ => kk) (fun h => absurd (congrArg w32 he) h)
theorem wvL0_decider : jwV "CoverHouseLaw" D0_decider 89 yX0_decider := ⟨q1560, q1561, q1562, q128, q1563⟩
theorem wvL5_decider : jwV "CoverHouseLaw" D5_decider 92 yX5_decider := ⟨q2526, q2527, q2528, q140, q2529⟩
theorem cs_17 (hL : 6 * i + 6 ≤ L) (hL4 : L ≤ 384) (ht : zT u o = 1) {r0 : Int × Sg} {r5 : Int × Mu} (hf : f0_decider G (some o) (xI xs (6 * i + 1)) (xI xs (6 * i + 2)) u = some r0) (hm : m5_decider (xI xs (6 * i + 1)) (xI xs (6 * i + 2)) m = some r5) (he : r0.1 = r5.1) (hcs : ce ≤ 601024 ∧ sl ≤ 7293034) (kk : LJ G G' b L xs l nm (r0.2, r5.2) o ce sl 1574 i []) : LJ G G' b L xs l nm (u, m) o ce sl 759 i [] := by
  refine j_aload_n dL_law_759 2 rfl ?_
  refine l_rd 1 dL_law_760 dL_law_761 dL_law_762 dL_law_763 dL_law_764 (by decide) (by decide) hL hL4 ?_
  refine l_rd 2 dL_law_765 dL_law_766 dL_law_767 dL_law_768 dL_law_769 (by decide) (by decide) hL hL4 ?_
  refine l_callC [pI (xI xs (6 * i + 1)), pI (xI xs (6 * i + 2))] [] _ (t0_decider (some o) (xI xs (6 * i + 1)) (xI xs (6 * i + 2)) u hf) wvL0_decider dv0_decider rfl ⟨Nat.le_of_ble_eq_true rfl, Nat.le_of_ble_eq_true rfl⟩ (l_rcC ht) rfl (Nat.le_of_ble_eq_true rfl) dL_law_770 hcs ?_
  refine j_aload_n dL_law_773 1 rfl ?_
  refine l_rd 1 dL_law_774 dL_law_775 dL_law_776 dL_law_777 dL_law_778 (by decide) (by decide) hL hL4 ?_
  refine l_rd 2 dL_law_779 dL_law_780 dL_law_781 dL_law_782 dL_law_783 (by decide) (by decide) hL hL4 ?_
  refine l_callT [pI (xI xs (6 * i + 1)), pI (xI xs (6 * i + 2))] [pI r0.1] _ (c5_decider (xI xs (6 * i + 1)) (xI xs (6 * i + 2)) m hm) wvL5_decider dv5_decider rfl ⟨Nat.le_of_ble_eq_true rfl, Nat.le_of_ble_eq_true rfl⟩ (m_recv m) rfl (Nat.le_of_ble_eq_true rfl) dL_law_784 hcs ?_
  exact j_icmp_eq (w32 _) (w32 _) rfl rfl 1574 dL_law_787 (by decide) (fun _ => kk) (fun h => absurd (congrArg w32 he) h)
theorem wvL0_ways : jwV "CoverHouseLaw" D0_ways 93 yX0_ways := ⟨q1564, q1565, q1566, q128, q1567⟩
theorem wvL5_ways : jwV "CoverHouseLaw" D5_ways 96 yX5_ways := ⟨q2530, q2531, q2532, q140, q2533⟩
theorem cs_18 (hL : 6 * i + 6 ≤ L) (hL4 : L ≤ 384) (ht : zT u o = 1) {r0 : Int × Sg} {r5 : Int × Mu} (hf : f0_ways G (some o) (xI xs (6 * i + 1)) (xI xs (6 * i + 2)) (xI xs (6 * i + 3)) u = some r0) (hm : m5_ways (xI xs (6 * i + 1)) (xI xs (6 * i + 2)) (xI xs (6 * i + 3)) m = some r5) (he : r0.1 = r5.1) (hcs : ce ≤ 601024 ∧ sl ≤ 7293034) (kk : LJ G G' b L xs l nm (r0.2, r5.2) o ce sl 1574 i []) : LJ G G' b L xs l nm (u, m) o ce sl 792 i [] := by
  refine j_aload_n dL_law_792 2 rfl ?_
  refine l_rd 1 dL_law_793 dL_law_794 dL_law_795 dL_law_796 dL_law_797 (by decide) (by decide) hL hL4 ?_
  refine l_rd 2 dL_law_798 dL_law_799 dL_law_800 dL_law_801 dL_law_802 (by decide) (by decide) hL hL4 ?_
  refine l_rd 3 dL_law_803 dL_law_804 dL_law_805 dL_law_806 dL_law_807 (by decide) (by decide) hL hL4 ?_
  refine l_callC [pI (xI xs (6 * i + 1)), pI (xI xs (6 * i + 2)), pI (xI xs (6 * i + 3))] [] _ (t0_ways (some o) (xI xs (6 * i + 1)) (xI xs (6 * i + 2)) (xI xs (6 * i + 3)) u hf) wvL0_ways dv0_ways rfl ⟨Nat.le_of_ble_eq_true rfl, Nat.le_of_ble_eq_true rfl⟩ (l_rcC ht) rfl (Nat.le_of_ble_eq_true rfl) dL_law_808 hcs ?_
  refine j_aload_n dL_law_811 1 rfl ?_
  refine l_rd 1 dL_law_812 dL_law_813 dL_law_814 dL_law_815 dL_law_816 (by decide) (by decide) hL hL4 ?_
  refine l_rd 2 dL_law_817 dL_law_818 dL_law_819 dL_law_820 dL_law_821 (by decide) (by decide) hL hL4 ?_
  refine l_rd 3 dL_law_822 dL_law_823 dL_law_824 dL_law_825 dL_law_826 (by decide) (by decide) hL hL4 ?_
  refine l_callT [pI (xI xs (6 * i + 1)), pI (xI xs (6 * i + 2)), pI (xI xs (6 * i + 3))] [pI r0.1] _ (c5_ways (xI xs (6 * i + 1)) (xI xs (6 * i + 2)) (xI xs (6 * i + 3)) m hm) wvL5_ways dv5_ways rfl ⟨Nat.le_of_ble_eq_true rfl, Nat.le_of_ble_eq_true rfl⟩ (m_recv m) rfl (Nat.le_of_ble_eq_true rfl) dL_law_827 hcs ?_
  exact j_icmp_eq (w32 _) (w32 _) rfl rfl 1574 dL_law_830 (by decide) (fun _ => kk) (fun h => absurd (congrArg w32 he) h)
theorem wvL0_price : jwV "CoverHouseLaw" D0_price 97 yX0_price := ⟨q1569, q1570, q1571, q128, q1572⟩
theorem wvL5_price : jwV "CoverHouseLaw" D5_price 100 yX5_price := ⟨q2538, q2539, q2540, q140, q2541⟩
theorem cs_19 (hL : 6 * i + 6 ≤ L) (hL4 : L ≤ 384) (ht : zT u o = 1) {r0 : Int × Sg} {r5 : Int × Mu} (hf : f0_price G (some o) (xI xs (6 * i + 1)) (xI xs (6 * i + 2)) u = some r0) (hm : m5_price (xI xs (6 * i + 1)) (xI xs (6 * i + 2)) m = some r5) (he : r0.1 = r5.1) (hcs : ce ≤ 601024 ∧ sl ≤ 7293034) (kk : LJ G G' b L xs l nm (r0.2, r5.2) o ce sl 1574 i []) : LJ G G' b L xs l nm (u, m) o ce sl 835 i [] := by
  refine j_aload_n dL_law_835 2 rfl ?_
  refine l_rd 1 dL_law_836 dL_law_837 dL_law_838 dL_law_839 dL_law_840 (by decide) (by decide) hL hL4 ?_
  refine l_rd 2 dL_law_841 dL_law_842 dL_law_843 dL_law_844 dL_law_845 (by decide) (by decide) hL hL4 ?_
  refine l_callC [pI (xI xs (6 * i + 1)), pI (xI xs (6 * i + 2))] [] _ (t0_price (some o) (xI xs (6 * i + 1)) (xI xs (6 * i + 2)) u hf) wvL0_price dv0_price rfl ⟨Nat.le_of_ble_eq_true rfl, Nat.le_of_ble_eq_true rfl⟩ (l_rcC ht) rfl (Nat.le_of_ble_eq_true rfl) dL_law_846 hcs ?_
  refine j_aload_n dL_law_849 1 rfl ?_
  refine l_rd 1 dL_law_850 dL_law_851 dL_law_852 dL_law_853 dL_law_854 (by decide) (by decide) hL hL4 ?_
  refine l_rd 2 dL_law_855 dL_law_856 dL_law_857 dL_law_858 dL_law_859 (by decide) (by decide) hL hL4 ?_
  refine l_callT [pI (xI xs (6 * i + 1)), pI (xI xs (6 * i + 2))] [pI r0.1] _ (c5_price (xI xs (6 * i + 1)) (xI xs (6 * i + 2)) m hm) wvL5_price dv5_price rfl ⟨Nat.le_of_ble_eq_true rfl, Nat.le_of_ble_eq_true rfl⟩ (m_recv m) rfl (Nat.le_of_ble_eq_true rfl) dL_law_860 hcs ?_
  exact j_icmp_eq (w32 _) (w32 _) rfl rfl 1574 dL_law_863 (by decide) (fun _ => kk) (fun h => absurd (congrArg w32 he) h)
theorem wvL0_policy : jwV "CoverHouseLaw" D0_policy 101 yX0_policy := ⟨q1590, q1591, q1592, q128, q1593⟩
theorem wvL5_policy : jwV "CoverHouseLaw" D5_policy 104 yX5_policy := ⟨q2552, q2553, q2554, q140, q2555⟩
theorem cs_20 (hL : 6 * i + 6 ≤ L) (hL4 : L ≤ 384) (ht : zT u o = 1) {r0 : Int × Sg} {r5 : Int × Mu} {c0 n0 : Nat} (hf : f0_policy G (some o) u = some (r0, c0, n0)) (hm : m5_policy m = some r5) (he : r0.1 = r5.1) (hcs : ce + c0 ≤ 601024 ∧ sl + n0 ≤ 7293034) (kk : LJ G G' b L xs l nm (r0.2, r5.2) o (ce + c0) (sl + n0) 1574 i []) : LJ G G' b L xs l nm (u, m) o ce sl 868 i [] := by
  refine j_aload_n dL_law_868 2 rfl ?_
  refine l_callC [] [] _ (t0_policy (some o)  u hf) wvL0_policy dv0_policy rfl ⟨Nat.le_of_ble_eq_true rfl, Nat.le_of_ble_eq_true rfl⟩ (l_rcC ht) rfl (Nat.le_of_ble_eq_true rfl) dL_law_869 hcs ?_
  refine j_aload_n dL_law_872 1 rfl ?_
  refine l_callT [] [pI r0.1] _ (c5_policy  m hm) wvL5_policy dv5_policy rfl ⟨Nat.le_of_ble_eq_true rfl, Nat.le_of_ble_eq_true rfl⟩ (m_recv m) rfl (Nat.le_of_ble_eq_true rfl) dL_law_873 hcs ?_
  exact j_icmp_eq (w32 _) (w32 _) rfl rfl 1574 dL_law_876 (by decide) (fun _ => kk) (fun h => absurd (congrArg w32 he) h)
theorem wvL0_change : jwV "CoverHouseLaw" D0_change 105 yX0_change := ⟨q1621, q1622, q1623, q128, q1624⟩
theorem wvL5_change : jwV "CoverHouseLaw" D5_change 109 yX5_change := ⟨q2556, q2557, q2558, q140, q2559⟩
theorem cs_21 (hL : 6 * i + 6 ≤ L) (hL4 : L ≤ 384) (ht : zT u o = 1) {r0 : Int × Sg} {r5 : Int × Mu} (hf : f0_change G (some o) (xI xs (6 * i + 1)) (xI xs (6 * i + 2)) (xI xs (6 * i + 3)) (xI xs (6 * i + 4)) (xI xs (6 * i + 5)) u = some r0) (hm : m5_change (xI xs (6 * i + 1)) (xI xs (6 * i + 2)) (xI xs (6 * i + 3)) (xI xs (6 * i + 4)) (xI xs (6 * i + 5)) m = some r5) (he : r0.1 = r5.1) (hcs : ce ≤ 601024 ∧ sl ≤ 7293034) (kk : LJ G G' b L xs l nm (r0.2, r5.2) o ce sl 1574 i []) : LJ G G' b L xs l nm (u, m) o ce sl 881 i [] := by
  refine j_aload_n dL_law_881 2 rfl ?_
  refine l_rd 1 dL_law_882 dL_law_883 dL_law_884 dL_law_885 dL_law_886 (by decide) (by decide) hL hL4 ?_
  refine l_rd 2 dL_law_887 dL_law_888 dL_law_889 dL_law_890 dL_law_891 (by decide) (by decide) hL hL4 ?_
  refine l_rd 3 dL_law_892 dL_law_893 dL_law_894 dL_law_895 dL_law_896 (by decide) (by decide) hL hL4 ?_
  refine l_rd 4 dL_law_897 dL_law_898 dL_law_899 dL_law_900 dL_law_901 (by decide) (by decide) hL hL4 ?_
  refine l_rd 5 dL_law_902 dL_law_903 dL_law_904 dL_law_905 dL_law_906 (by decide) (by decide) hL hL4 ?_
  refine l_callC [pI (xI xs (6 * i + 1)), pI (xI xs (6 * i + 2)), pI (xI xs (6 * i + 3)), pI (xI xs (6 * i + 4)), pI (xI xs (6 * i + 5))] [] _ (t0_change (some o) (xI xs (6 * i + 1)) (xI xs (6 * i + 2)) (xI xs (6 * i + 3)) (xI xs (6 * i + 4)) (xI xs (6 * i + 5)) u hf) wvL0_change dv0_change rfl ⟨Nat.le_of_ble_eq_true rfl, Nat.le_of_ble_eq_true rfl⟩ (l_rcC ht) rfl (Nat.le_of_ble_eq_true rfl) dL_law_907 hcs ?_
  refine j_aload_n dL_law_910 1 rfl ?_
  refine l_rd 1 dL_law_911 dL_law_912 dL_law_913 dL_law_914 dL_law_915 (by decide) (by decide) hL hL4 ?_
  refine l_rd 2 dL_law_916 dL_law_917 dL_law_918 dL_law_919 dL_law_920 (by decide) (by decide) hL hL4 ?_
  refine l_rd 3 dL_law_921 dL_law_922 dL_law_923 dL_law_924 dL_law_925 (by decide) (by decide) hL hL4 ?_
  refine l_rd 4 dL_law_926 dL_law_927 dL_law_928 dL_law_929 dL_law_930 (by decide) (by decide) hL hL4 ?_
  refine l_rd 5 dL_law_931 dL_law_932 dL_law_933 dL_law_934 dL_law_935 (by decide) (by decide) hL hL4 ?_
  refine l_callT [pI (xI xs (6 * i + 1)), pI (xI xs (6 * i + 2)), pI (xI xs (6 * i + 3)), pI (xI xs (6 * i + 4)), pI (xI xs (6 * i + 5))] [pI r0.1] _ (c5_change (xI xs (6 * i + 1)) (xI xs (6 * i + 2)) (xI xs (6 * i + 3)) (xI xs (6 * i + 4)) (xI xs (6 * i + 5)) m hm) wvL5_change dv5_change rfl ⟨Nat.le_of_ble_eq_true rfl, Nat.le_of_ble_eq_true rfl⟩ (m_recv m) rfl (Nat.le_of_ble_eq_true rfl) dL_law_936 hcs ?_
  exact j_icmp_eq (w32 _) (w32 _) rfl rfl 1574 dL_law_939 (by decide) (fun _ => kk) (fun h => absurd (congrArg w32 he) h)
theorem wvL0_holds : jwV "CoverHouseLaw" D0_holds 110 yX0_holds := ⟨q1630, q1631, q1632, q128, q1633⟩
theorem wvL5_holds : jwV "CoverHouseLaw" D5_holds 113 yX5_holds := ⟨q2564, q2565, q2566, q140, q2567⟩
theorem cs_22 (hL : 6 * i + 6 ≤ L) (hL4 : L ≤ 384) (ht : zT u o = 1) {r0 : Int} {r5 : Int} (hf : f0_holds G (some o) (xI xs (6 * i + 1)) (xI xs (6 * i + 2)) (xI xs (6 * i + 3)) (xI xs (6 * i + 4)) u = some r0) (hm : m5_holds (xI xs (6 * i + 1)) (xI xs (6 * i + 2)) (xI xs (6 * i + 3)) (xI xs (6 * i + 4)) m = some r5) (he : r0 = r5) (hcs : ce ≤ 601024 ∧ sl ≤ 7293034) (kk : LJ G G' b L xs l nm (u, m) o ce sl 1574 i []) : LJ G G' b L xs l nm (u, m) o ce sl 944 i [] := by
  refine j_aload_n dL_law_944 2 rfl ?_
  refine l_rd 1 dL_law_945 dL_law_946 dL_law_947 dL_law_948 dL_law_949 (by decide) (by decide) hL hL4 ?_
  refine l_rd 2 dL_law_950 dL_law_951 dL_law_952 dL_law_953 dL_law_954 (by decide) (by decide) hL hL4 ?_
  refine l_rd 3 dL_law_955 dL_law_956 dL_law_957 dL_law_958 dL_law_959 (by decide) (by decide) hL hL4 ?_
  refine l_rd 4 dL_law_960 dL_law_961 dL_law_962 dL_law_963 dL_law_964 (by decide) (by decide) hL hL4 ?_
  refine l_callC [pI (xI xs (6 * i + 1)), pI (xI xs (6 * i + 2)), pI (xI xs (6 * i + 3)), pI (xI xs (6 * i + 4))] [] _ (t0_holds (some o) (xI xs (6 * i + 1)) (xI xs (6 * i + 2)) (xI xs (6 * i + 3)) (xI xs (6 * i + 4)) u hf) wvL0_holds dv0_holds rfl ⟨Nat.le_of_ble_eq_true rfl, Nat.le_of_ble_eq_true rfl⟩ (l_rcC ht) rfl (Nat.le_of_ble_eq_true rfl) dL_law_965 hcs ?_
  refine j_aload_n dL_law_968 1 rfl ?_
  refine l_rd 1 dL_law_969 dL_law_970 dL_law_971 dL_law_972 dL_law_973 (by decide) (by decide) hL hL4 ?_
  refine l_rd 2 dL_law_974 dL_law_975 dL_law_976 dL_law_977 dL_law_978 (by decide) (by decide) hL hL4 ?_
  refine l_rd 3 dL_law_979 dL_law_980 dL_law_981 dL_law_982 dL_law_983 (by decide) (by decide) hL hL4 ?_
  refine l_rd 4 dL_law_984 dL_law_985 dL_law_986 dL_law_987 dL_law_988 (by decide) (by decide) hL hL4 ?_
  refine l_callT [pI (xI xs (6 * i + 1)), pI (xI xs (6 * i + 2)), pI (xI xs (6 * i + 3)), pI (xI xs (6 * i + 4))] [pI r0] _ (c5_holds (xI xs (6 * i + 1)) (xI xs (6 * i + 2)) (xI xs (6 * i + 3)) (xI xs (6 * i + 4)) m hm) wvL5_holds dv5_holds rfl ⟨Nat.le_of_ble_eq_true rfl, Nat.le_of_ble_eq_true rfl⟩ (m_recv m) rfl (Nat.le_of_ble_eq_true rfl) dL_law_989 hcs ?_
  exact j_icmp_eq (w32 _) (w32 _) rfl rfl 1574 dL_law_992 (by decide) (fun _ => kk) (fun h => absurd (congrArg w32 he) h)
theorem wvL0_claim : jwV "CoverHouseLaw" D0_claim 114 yX0_claim := ⟨q1638, q1639, q1640, q128, q1641⟩
theorem wvL5_claim : jwV "CoverHouseLaw" D5_claim 117 yX5_claim := ⟨q2572, q2573, q2574, q140, q2575⟩
theorem cs_23 (hL : 6 * i + 6 ≤ L) (hL4 : L ≤ 384) (ht : zT u o = 1) {r0 : Int × Sg} {r5 : Int × Mu} {c0 n0 : Nat} (hf : f0_claim G (some o) (xI xs (6 * i + 1)) (xI xs (6 * i + 2)) (xI xs (6 * i + 3)) (xI xs (6 * i + 4)) u = some (r0, c0, n0)) (hm : m5_claim (xI xs (6 * i + 1)) (xI xs (6 * i + 2)) (xI xs (6 * i + 3)) (xI xs (6 * i + 4)) m = some r5) (he : r0.1 = r5.1) (hcs : ce + c0 ≤ 601024 ∧ sl + n0 ≤ 7293034) (kk : LJ G G' b L xs l nm (r0.2, r5.2) o (ce + c0) (sl + n0) 1574 i []) : LJ G G' b L xs l nm (u, m) o ce sl 997 i [] := by
  refine j_aload_n dL_law_997 2 rfl ?_
  refine l_rd 1 dL_law_998 dL_law_999 dL_law_1000 dL_law_1001 dL_law_1002 (by decide) (by decide) hL hL4 ?_
  refine l_rd 2 dL_law_1003 dL_law_1004 dL_law_1005 dL_law_1006 dL_law_1007 (by decide) (by decide) hL hL4 ?_
  refine l_rd 3 dL_law_1008 dL_law_1009 dL_law_1010 dL_law_1011 dL_law_1012 (by decide) (by decide) hL hL4 ?_
  refine l_rd 4 dL_law_1013 dL_law_1014 dL_law_1015 dL_law_1016 dL_law_1017 (by decide) (by decide) hL hL4 ?_
  refine l_callC [pI (xI xs (6 * i + 1)), pI (xI xs (6 * i + 2)), pI (xI xs (6 * i + 3)), pI (xI xs (6 * i + 4))] [] _ (t0_claim (some o) (xI xs (6 * i + 1)) (xI xs (6 * i + 2)) (xI xs (6 * i + 3)) (xI xs (6 * i + 4)) u hf) wvL0_claim dv0_claim rfl ⟨Nat.le_of_ble_eq_true rfl, Nat.le_of_ble_eq_true rfl⟩ (l_rcC ht) rfl (Nat.le_of_ble_eq_true rfl) dL_law_1018 hcs ?_
  refine j_aload_n dL_law_1021 1 rfl ?_
  refine l_rd 1 dL_law_1022 dL_law_1023 dL_law_1024 dL_law_1025 dL_law_1026 (by decide) (by decide) hL hL4 ?_
  refine l_rd 2 dL_law_1027 dL_law_1028 dL_law_1029 dL_law_1030 dL_law_1031 (by decide) (by decide) hL hL4 ?_
  refine l_rd 3 dL_law_1032 dL_law_1033 dL_law_1034 dL_law_1035 dL_law_1036 (by decide) (by decide) hL hL4 ?_
  refine l_rd 4 dL_law_1037 dL_law_1038 dL_law_1039 dL_law_1040 dL_law_1041 (by decide) (by decide) hL hL4 ?_
  refine l_callT [pI (xI xs (6 * i + 1)), pI (xI xs (6 * i + 2)), pI (xI xs (6 * i + 3)), pI (xI xs (6 * i + 4))] [pI r0.1] _ (c5_claim (xI xs (6 * i + 1)) (xI xs (6 * i + 2)) (xI xs (6 * i + 3)) (xI xs (6 * i + 4)) m hm) wvL5_claim dv5_claim rfl ⟨Nat.le_of_ble_eq_true rfl, Nat.le_of_ble_eq_true rfl⟩ (m_recv m) rfl (Nat.le_of_ble_eq_true rfl) dL_law_1042 hcs ?_
  exact j_icmp_eq (w32 _) (w32 _) rfl rfl 1574 dL_law_1045 (by decide) (fun _ => kk) (fun h => absurd (congrArg w32 he) h)
theorem wvL0_loss : jwV "CoverHouseLaw" D0_loss 118 yX0_loss := ⟨q1677, q1678, q1679, q128, q1680⟩
theorem wvL5_loss : jwV "CoverHouseLaw" D5_loss 121 yX5_loss := ⟨q2576, q2577, q2578, q140, q2579⟩
theorem cs_24 (hL : 6 * i + 6 ≤ L) (hL4 : L ≤ 384) (ht : zT u o = 1) {r0 : Int × Sg} {r5 : Int × Mu} (hf : f0_loss G (some o) (xI xs (6 * i + 1)) (xI xs (6 * i + 2)) (xI xs (6 * i + 3)) u = some r0) (hm : m5_loss (xI xs (6 * i + 1)) (xI xs (6 * i + 2)) (xI xs (6 * i + 3)) m = some r5) (he : r0.1 = r5.1) (hcs : ce ≤ 601024 ∧ sl ≤ 7293034) (kk : LJ G G' b L xs l nm (r0.2, r5.2) o ce sl 1574 i []) : LJ G G' b L xs l nm (u, m) o ce sl 1050 i [] := by
  refine j_aload_n dL_law_1050 2 rfl ?_
  refine l_rd 1 dL_law_1051 dL_law_1052 dL_law_1053 dL_law_1054 dL_law_1055 (by decide) (by decide) hL hL4 ?_
  refine l_rd 2 dL_law_1056 dL_law_1057 dL_law_1058 dL_law_1059 dL_law_1060 (by decide) (by decide) hL hL4 ?_
  refine l_rd 3 dL_law_1061 dL_law_1062 dL_law_1063 dL_law_1064 dL_law_1065 (by decide) (by decide) hL hL4 ?_
  refine l_callC [pI (xI xs (6 * i + 1)), pI (xI xs (6 * i + 2)), pI (xI xs (6 * i + 3))] [] _ (t0_loss (some o) (xI xs (6 * i + 1)) (xI xs (6 * i + 2)) (xI xs (6 * i + 3)) u hf) wvL0_loss dv0_loss rfl ⟨Nat.le_of_ble_eq_true rfl, Nat.le_of_ble_eq_true rfl⟩ (l_rcC ht) rfl (Nat.le_of_ble_eq_true rfl) dL_law_1066 hcs ?_
  refine j_aload_n dL_law_1069 1 rfl ?_
  refine l_rd 1 dL_law_1070 dL_law_1071 dL_law_1072 dL_law_1073 dL_law_1074 (by decide) (by decide) hL hL4 ?_
  refine l_rd 2 dL_law_1075 dL_law_1076 dL_law_1077 dL_law_1078 dL_law_1079 (by decide) (by decide) hL hL4 ?_
  refine l_rd 3 dL_law_1080 dL_law_1081 dL_law_1082 dL_law_1083 dL_law_1084 (by decide) (by decide) hL hL4 ?_
  refine l_callT [pI (xI xs (6 * i + 1)), pI (xI xs (6 * i + 2)), pI (xI xs (6 * i + 3))] [pI r0.1] _ (c5_loss (xI xs (6 * i + 1)) (xI xs (6 * i + 2)) (xI xs (6 * i + 3)) m hm) wvL5_loss dv5_loss rfl ⟨Nat.le_of_ble_eq_true rfl, Nat.le_of_ble_eq_true rfl⟩ (m_recv m) rfl (Nat.le_of_ble_eq_true rfl) dL_law_1085 hcs ?_
  exact j_icmp_eq (w32 _) (w32 _) rfl rfl 1574 dL_law_1088 (by decide) (fun _ => kk) (fun h => absurd (congrArg w32 he) h)
theorem wvL0_pay : jwV "CoverHouseLaw" D0_pay 122 yX0_pay := ⟨q1685, q1686, q1687, q128, q1688⟩
theorem wvL5_pay : jwV "CoverHouseLaw" D5_pay 125 yX5_pay := ⟨q2584, q2585, q2586, q140, q2587⟩
theorem cs_25 (hL : 6 * i + 6 ≤ L) (hL4 : L ≤ 384) (ht : zT u o = 1) {r0 : Int × Sg} {r5 : Int × Mu} (hf : f0_pay G (some o) (xI xs (6 * i + 1)) (xI xs (6 * i + 2)) u = some r0) (hm : m5_pay (xI xs (6 * i + 1)) (xI xs (6 * i + 2)) m = some r5) (he : r0.1 = r5.1) (hcs : ce ≤ 601024 ∧ sl ≤ 7293034) (kk : LJ G G' b L xs l nm (r0.2, r5.2) o ce sl 1574 i []) : LJ G G' b L xs l nm (u, m) o ce sl 1093 i [] := by
  refine j_aload_n dL_law_1093 2 rfl ?_
  refine l_rd 1 dL_law_1094 dL_law_1095 dL_law_1096 dL_law_1097 dL_law_1098 (by decide) (by decide) hL hL4 ?_
  refine l_rd 2 dL_law_1099 dL_law_1100 dL_law_1101 dL_law_1102 dL_law_1103 (by decide) (by decide) hL hL4 ?_
  refine l_callC [pI (xI xs (6 * i + 1)), pI (xI xs (6 * i + 2))] [] _ (t0_pay (some o) (xI xs (6 * i + 1)) (xI xs (6 * i + 2)) u hf) wvL0_pay dv0_pay rfl ⟨Nat.le_of_ble_eq_true rfl, Nat.le_of_ble_eq_true rfl⟩ (l_rcC ht) rfl (Nat.le_of_ble_eq_true rfl) dL_law_1104 hcs ?_
  refine j_aload_n dL_law_1107 1 rfl ?_
  refine l_rd 1 dL_law_1108 dL_law_1109 dL_law_1110 dL_law_1111 dL_law_1112 (by decide) (by decide) hL hL4 ?_
  refine l_rd 2 dL_law_1113 dL_law_1114 dL_law_1115 dL_law_1116 dL_law_1117 (by decide) (by decide) hL hL4 ?_
  refine l_callT [pI (xI xs (6 * i + 1)), pI (xI xs (6 * i + 2))] [pI r0.1] _ (c5_pay (xI xs (6 * i + 1)) (xI xs (6 * i + 2)) m hm) wvL5_pay dv5_pay rfl ⟨Nat.le_of_ble_eq_true rfl, Nat.le_of_ble_eq_true rfl⟩ (m_recv m) rfl (Nat.le_of_ble_eq_true rfl) dL_law_1118 hcs ?_
  exact j_icmp_eq (w32 _) (w32 _) rfl rfl 1574 dL_law_1121 (by decide) (fun _ => kk) (fun h => absurd (congrArg w32 he) h)
theorem wvL0_used : jwV "CoverHouseLaw" D0_used 126 yX0_used := ⟨q1706, q1707, q1708, q128, q1709⟩
theorem wvL5_used : jwV "CoverHouseLaw" D5_used 130 yX5_used := ⟨q2603, q2604, q2605, q140, q2606⟩
theorem cs_26 (hL : 6 * i + 6 ≤ L) (hL4 : L ≤ 384) (ht : zT u o = 1) {r0 : Int × Sg} {r5 : Int × Mu} (hf : f0_used G (some o) (xI xs (6 * i + 1)) (xI xs (6 * i + 2)) (xI xs (6 * i + 3)) u = some r0) (hm : m5_used (xI xs (6 * i + 1)) (xI xs (6 * i + 2)) (xI xs (6 * i + 3)) m = some r5) (he : r0.1 = r5.1) (hcs : ce ≤ 601024 ∧ sl ≤ 7293034) (kk : LJ G G' b L xs l nm (r0.2, r5.2) o ce sl 1574 i []) : LJ G G' b L xs l nm (u, m) o ce sl 1126 i [] := by
  refine j_aload_n dL_law_1126 2 rfl ?_
  refine l_rd 1 dL_law_1127 dL_law_1128 dL_law_1129 dL_law_1130 dL_law_1131 (by decide) (by decide) hL hL4 ?_
  refine l_rd 2 dL_law_1132 dL_law_1133 dL_law_1134 dL_law_1135 dL_law_1136 (by decide) (by decide) hL hL4 ?_
  refine l_rd 3 dL_law_1137 dL_law_1138 dL_law_1139 dL_law_1140 dL_law_1141 (by decide) (by decide) hL hL4 ?_
  refine l_callC [pI (xI xs (6 * i + 1)), pI (xI xs (6 * i + 2)), pI (xI xs (6 * i + 3))] [] _ (t0_used (some o) (xI xs (6 * i + 1)) (xI xs (6 * i + 2)) (xI xs (6 * i + 3)) u hf) wvL0_used dv0_used rfl ⟨Nat.le_of_ble_eq_true rfl, Nat.le_of_ble_eq_true rfl⟩ (l_rcC ht) rfl (Nat.le_of_ble_eq_true rfl) dL_law_1142 hcs ?_
  refine j_aload_n dL_law_1145 1 rfl ?_
  refine l_rd 1 dL_law_1146 dL_law_1147 dL_law_1148 dL_law_1149 dL_law_1150 (by decide) (by decide) hL hL4 ?_
  refine l_rd 2 dL_law_1151 dL_law_1152 dL_law_1153 dL_law_1154 dL_law_1155 (by decide) (by decide) hL hL4 ?_
  refine l_rd 3 dL_law_1156 dL_law_1157 dL_law_1158 dL_law_1159 dL_law_1160 (by decide) (by decide) hL hL4 ?_
  refine l_callT [pI (xI xs (6 * i + 1)), pI (xI xs (6 * i + 2)), pI (xI xs (6 * i + 3))] [pL r0.1] _ (c5_used (xI xs (6 * i + 1)) (xI xs (6 * i + 2)) (xI xs (6 * i + 3)) m hm) wvL5_used dv5_used rfl ⟨Nat.le_of_ble_eq_true rfl, Nat.le_of_ble_eq_true rfl⟩ (m_recv m) rfl (Nat.le_of_ble_eq_true rfl) dL_law_1161 hcs ?_
  exact j_lc_eq 1574 dL_law_1164 dL_law_1165 (by decide) (fun _ => kk) (fun h => absurd (congrArg w64 he) h)
theorem wvL0_treaty : jwV "CoverHouseLaw" D0_treaty 131 yX0_treaty := ⟨q1712, q1713, q1714, q128, q1715⟩
theorem wvL5_treaty : jwV "CoverHouseLaw" D5_treaty 134 yX5_treaty := ⟨q2609, q2610, q2611, q140, q2612⟩
theorem cs_27 (hL : 6 * i + 6 ≤ L) (hL4 : L ≤ 384) (ht : zT u o = 1) {r0 : Int × Sg} {r5 : Int × Mu} (hf : f0_treaty G (some o) (xI xs (6 * i + 1)) (xI xs (6 * i + 2)) (xI xs (6 * i + 3)) u = some r0) (hm : m5_treaty (xI xs (6 * i + 1)) (xI xs (6 * i + 2)) (xI xs (6 * i + 3)) m = some r5) (he : r0.1 = r5.1) (hcs : ce ≤ 601024 ∧ sl ≤ 7293034) (kk : LJ G G' b L xs l nm (r0.2, r5.2) o ce sl 1574 i []) : LJ G G' b L xs l nm (u, m) o ce sl 1170 i [] := by
  refine j_aload_n dL_law_1170 2 rfl ?_
  refine l_rd 1 dL_law_1171 dL_law_1172 dL_law_1173 dL_law_1174 dL_law_1175 (by decide) (by decide) hL hL4 ?_
  refine l_rd 2 dL_law_1176 dL_law_1177 dL_law_1178 dL_law_1179 dL_law_1180 (by decide) (by decide) hL hL4 ?_
  refine l_rd 3 dL_law_1181 dL_law_1182 dL_law_1183 dL_law_1184 dL_law_1185 (by decide) (by decide) hL hL4 ?_
  refine l_callC [pI (xI xs (6 * i + 1)), pI (xI xs (6 * i + 2)), pI (xI xs (6 * i + 3))] [] _ (t0_treaty (some o) (xI xs (6 * i + 1)) (xI xs (6 * i + 2)) (xI xs (6 * i + 3)) u hf) wvL0_treaty dv0_treaty rfl ⟨Nat.le_of_ble_eq_true rfl, Nat.le_of_ble_eq_true rfl⟩ (l_rcC ht) rfl (Nat.le_of_ble_eq_true rfl) dL_law_1186 hcs ?_
  refine j_aload_n dL_law_1189 1 rfl ?_
  refine l_rd 1 dL_law_1190 dL_law_1191 dL_law_1192 dL_law_1193 dL_law_1194 (by decide) (by decide) hL hL4 ?_
  refine l_rd 2 dL_law_1195 dL_law_1196 dL_law_1197 dL_law_1198 dL_law_1199 (by decide) (by decide) hL hL4 ?_
  refine l_rd 3 dL_law_1200 dL_law_1201 dL_law_1202 dL_law_1203 dL_law_1204 (by decide) (by decide) hL hL4 ?_
  refine l_callT [pI (xI xs (6 * i + 1)), pI (xI xs (6 * i + 2)), pI (xI xs (6 * i + 3))] [pI r0.1] _ (c5_treaty (xI xs (6 * i + 1)) (xI xs (6 * i + 2)) (xI xs (6 * i + 3)) m hm) wvL5_treaty dv5_treaty rfl ⟨Nat.le_of_ble_eq_true rfl, Nat.le_of_ble_eq_true rfl⟩ (m_recv m) rfl (Nat.le_of_ble_eq_true rfl) dL_law_1205 hcs ?_
  exact j_icmp_eq (w32 _) (w32 _) rfl rfl 1574 dL_law_1208 (by decide) (fun _ => kk) (fun h => absurd (congrArg w32 he) h)
theorem wvL0_ceded : jwV "CoverHouseLaw" D0_ceded 135 yX0_ceded := ⟨q1716, q1717, q1718, q128, q1719⟩
theorem wvL5_ceded : jwV "CoverHouseLaw" D5_ceded 138 yX5_ceded := ⟨q2613, q2614, q2615, q140, q2616⟩
theorem cs_28 (hL : 6 * i + 6 ≤ L) (hL4 : L ≤ 384) (ht : zT u o = 1) {r0 : Int × Sg} {r5 : Int × Mu} (hf : f0_ceded G (some o) (xI xs (6 * i + 1)) (xI xs (6 * i + 2)) (xI xs (6 * i + 3)) u = some r0) (hm : m5_ceded (xI xs (6 * i + 1)) (xI xs (6 * i + 2)) (xI xs (6 * i + 3)) m = some r5) (he : r0.1 = r5.1) (hcs : ce ≤ 601024 ∧ sl ≤ 7293034) (kk : LJ G G' b L xs l nm (r0.2, r5.2) o ce sl 1574 i []) : LJ G G' b L xs l nm (u, m) o ce sl 1213 i [] := by
  refine j_aload_n dL_law_1213 2 rfl ?_
  refine l_rd 1 dL_law_1214 dL_law_1215 dL_law_1216 dL_law_1217 dL_law_1218 (by decide) (by decide) hL hL4 ?_
  refine l_rd 2 dL_law_1219 dL_law_1220 dL_law_1221 dL_law_1222 dL_law_1223 (by decide) (by decide) hL hL4 ?_
  refine l_rd 3 dL_law_1224 dL_law_1225 dL_law_1226 dL_law_1227 dL_law_1228 (by decide) (by decide) hL hL4 ?_
  refine l_callC [pI (xI xs (6 * i + 1)), pI (xI xs (6 * i + 2)), pI (xI xs (6 * i + 3))] [] _ (t0_ceded (some o) (xI xs (6 * i + 1)) (xI xs (6 * i + 2)) (xI xs (6 * i + 3)) u hf) wvL0_ceded dv0_ceded rfl ⟨Nat.le_of_ble_eq_true rfl, Nat.le_of_ble_eq_true rfl⟩ (l_rcC ht) rfl (Nat.le_of_ble_eq_true rfl) dL_law_1229 hcs ?_
  refine j_aload_n dL_law_1232 1 rfl ?_
  refine l_rd 1 dL_law_1233 dL_law_1234 dL_law_1235 dL_law_1236 dL_law_1237 (by decide) (by decide) hL hL4 ?_
  refine l_rd 2 dL_law_1238 dL_law_1239 dL_law_1240 dL_law_1241 dL_law_1242 (by decide) (by decide) hL hL4 ?_
  refine l_rd 3 dL_law_1243 dL_law_1244 dL_law_1245 dL_law_1246 dL_law_1247 (by decide) (by decide) hL hL4 ?_
  refine l_callT [pI (xI xs (6 * i + 1)), pI (xI xs (6 * i + 2)), pI (xI xs (6 * i + 3))] [pI r0.1] _ (c5_ceded (xI xs (6 * i + 1)) (xI xs (6 * i + 2)) (xI xs (6 * i + 3)) m hm) wvL5_ceded dv5_ceded rfl ⟨Nat.le_of_ble_eq_true rfl, Nat.le_of_ble_eq_true rfl⟩ (m_recv m) rfl (Nat.le_of_ble_eq_true rfl) dL_law_1248 hcs ?_
  exact j_icmp_eq (w32 _) (w32 _) rfl rfl 1574 dL_law_1251 (by decide) (fun _ => kk) (fun h => absurd (congrArg w32 he) h)
theorem wvL0_close : jwV "CoverHouseLaw" D0_close 139 yX0_close := ⟨q1726, q1727, q1728, q128, q1729⟩
theorem wvL5_close : jwV "CoverHouseLaw" D5_close 142 yX5_close := ⟨q2622, q2623, q2624, q140, q2625⟩
theorem cs_29 (hL : 6 * i + 6 ≤ L) (hL4 : L ≤ 384) (ht : zT u o = 1) {r0 : Int × Sg} {r5 : Int × Mu} (hf : f0_close G (some o) (xI xs (6 * i + 1)) u = some r0) (hm : m5_close (xI xs (6 * i + 1)) m = some r5) (he : r0.1 = r5.1) (hcs : ce ≤ 601024 ∧ sl ≤ 7293034) (kk : LJ G G' b L xs l nm (r0.2, r5.2) o ce sl 1574 i []) : LJ G G' b L xs l nm (u, m) o ce sl 1256 i [] := by
  refine j_aload_n dL_law_1256 2 rfl ?_
  refine l_rd 1 dL_law_1257 dL_law_1258 dL_law_1259 dL_law_1260 dL_law_1261 (by decide) (by decide) hL hL4 ?_
  refine l_callC [pI (xI xs (6 * i + 1))] [] _ (t0_close (some o) (xI xs (6 * i + 1)) u hf) wvL0_close dv0_close rfl ⟨Nat.le_of_ble_eq_true rfl, Nat.le_of_ble_eq_true rfl⟩ (l_rcC ht) rfl (Nat.le_of_ble_eq_true rfl) dL_law_1262 hcs ?_
  refine j_aload_n dL_law_1265 1 rfl ?_
  refine l_rd 1 dL_law_1266 dL_law_1267 dL_law_1268 dL_law_1269 dL_law_1270 (by decide) (by decide) hL hL4 ?_
  refine l_callT [pI (xI xs (6 * i + 1))] [pI r0.1] _ (c5_close (xI xs (6 * i + 1)) m hm) wvL5_close dv5_close rfl ⟨Nat.le_of_ble_eq_true rfl, Nat.le_of_ble_eq_true rfl⟩ (m_recv m) rfl (Nat.le_of_ble_eq_true rfl) dL_law_1271 hcs ?_
  exact j_icmp_eq (w32 _) (w32 _) rfl rfl 1574 dL_law_1274 (by decide) (fun _ => kk) (fun h => absurd (congrArg w32 he) h)
theorem wvL0_row : jwV "CoverHouseLaw" D0_row 143 yX0_row := ⟨q1734, q1735, q1736, q128, q1737⟩
theorem wvL5_row : jwV "CoverHouseLaw" D5_row 146 yX5_row := ⟨q2630, q2631, q2632, q140, q2633⟩
theorem cs_30 (hL : 6 * i + 6 ≤ L) (hL4 : L ≤ 384) (ht : zT u o = 1) {r0 : Int} {r5 : Int} (hf : f0_row G (some o) (xI xs (6 * i + 1)) (xI xs (6 * i + 2)) u = some r0) (hm : m5_row (xI xs (6 * i + 1)) (xI xs (6 * i + 2)) m = some r5) (he : r0 = r5) (hcs : ce ≤ 601024 ∧ sl ≤ 7293034) (kk : LJ G G' b L xs l nm (u, m) o ce sl 1574 i []) : LJ G G' b L xs l nm (u, m) o ce sl 1279 i [] := by
  refine j_aload_n dL_law_1279 2 rfl ?_
  refine l_rd 1 dL_law_1280 dL_law_1281 dL_law_1282 dL_law_1283 dL_law_1284 (by decide) (by decide) hL hL4 ?_
  refine l_rd 2 dL_law_1285 dL_law_1286 dL_law_1287 dL_law_1288 dL_law_1289 (by decide) (by decide) hL hL4 ?_
  refine l_callC [pI (xI xs (6 * i + 1)), pI (xI xs (6 * i + 2))] [] _ (t0_row (some o) (xI xs (6 * i + 1)) (xI xs (6 * i + 2)) u hf) wvL0_row dv0_row rfl ⟨Nat.le_of_ble_eq_true rfl, Nat.le_of_ble_eq_true rfl⟩ (l_rcC ht) rfl (Nat.le_of_ble_eq_true rfl) dL_law_1290 hcs ?_
  refine j_aload_n dL_law_1293 1 rfl ?_
  refine l_rd 1 dL_law_1294 dL_law_1295 dL_law_1296 dL_law_1297 dL_law_1298 (by decide) (by decide) hL hL4 ?_
  refine l_rd 2 dL_law_1299 dL_law_1300 dL_law_1301 dL_law_1302 dL_law_1303 (by decide) (by decide) hL hL4 ?_
  refine l_callT [pI (xI xs (6 * i + 1)), pI (xI xs (6 * i + 2))] [pI r0] _ (c5_row (xI xs (6 * i + 1)) (xI xs (6 * i + 2)) m hm) wvL5_row dv5_row rfl ⟨Nat.le_of_ble_eq_true rfl, Nat.le_of_ble_eq_true rfl⟩ (m_recv m) rfl (Nat.le_of_ble_eq_true rfl) dL_law_1304 hcs ?_
  exact j_icmp_eq (w32 _) (w32 _) rfl rfl 1574 dL_law_1307 (by decide) (fun _ => kk) (fun h => absurd (congrArg w32 he) h)
theorem wvL0_balance : jwV "CoverHouseLaw" D0_balance 147 yX0_balance := ⟨q1738, q1739, q1740, q128, q1741⟩
theorem wvL5_balance : jwV "CoverHouseLaw" D5_balance 151 yX5_balance := ⟨q2634, q2635, q2636, q140, q2637⟩
theorem cs_31 (hL : 6 * i + 6 ≤ L) (hL4 : L ≤ 384) (ht : zT u o = 1) {r0 : Int} {r5 : Int} (hf : f0_balance G (some o) (xI xs (6 * i + 1)) u = some r0) (hm : m5_balance (xI xs (6 * i + 1)) m = some r5) (he : r0 = r5) (hcs : ce ≤ 601024 ∧ sl ≤ 7293034) (kk : LJ G G' b L xs l nm (u, m) o ce sl 1574 i []) : LJ G G' b L xs l nm (u, m) o ce sl 1312 i [] := by
  refine j_aload_n dL_law_1312 2 rfl ?_
  refine l_rd 1 dL_law_1313 dL_law_1314 dL_law_1315 dL_law_1316 dL_law_1317 (by decide) (by decide) hL hL4 ?_
  refine l_callC [pI (xI xs (6 * i + 1))] [] _ (t0_balance (some o) (xI xs (6 * i + 1)) u hf) wvL0_balance dv0_balance rfl ⟨Nat.le_of_ble_eq_true rfl, Nat.le_of_ble_eq_true rfl⟩ (l_rcC ht) rfl (Nat.le_of_ble_eq_true rfl) dL_law_1318 hcs ?_
  refine j_aload_n dL_law_1321 1 rfl ?_
  refine l_rd 1 dL_law_1322 dL_law_1323 dL_law_1324 dL_law_1325 dL_law_1326 (by decide) (by decide) hL hL4 ?_
  refine l_callT [pI (xI xs (6 * i + 1))] [pL r0] _ (c5_balance (xI xs (6 * i + 1)) m hm) wvL5_balance dv5_balance rfl ⟨Nat.le_of_ble_eq_true rfl, Nat.le_of_ble_eq_true rfl⟩ (m_recv m) rfl (Nat.le_of_ble_eq_true rfl) dL_law_1327 hcs ?_
  exact j_lc_eq 1574 dL_law_1330 dL_law_1331 (by decide) (fun _ => kk) (fun h => absurd (congrArg w64 he) h)
theorem wvL0_paid : jwV "CoverHouseLaw" D0_paid 152 yX0_paid := ⟨q1742, q1743, q1744, q128, q1745⟩
theorem wvL5_paid : jwV "CoverHouseLaw" D5_paid 156 yX5_paid := ⟨q2638, q2639, q2640, q140, q2641⟩
theorem cs_32 (hL : 6 * i + 6 ≤ L) (hL4 : L ≤ 384) (ht : zT u o = 1) {r0 : Int × Sg} {r5 : Int × Mu} (hf : f0_paid G (some o) (xI xs (6 * i + 1)) (xI xs (6 * i + 2)) u = some r0) (hm : m5_paid (xI xs (6 * i + 1)) (xI xs (6 * i + 2)) m = some r5) (he : r0.1 = r5.1) (hcs : ce ≤ 601024 ∧ sl ≤ 7293034) (kk : LJ G G' b L xs l nm (r0.2, r5.2) o ce sl 1574 i []) : LJ G G' b L xs l nm (u, m) o ce sl 1336 i [] := by
  refine j_aload_n dL_law_1336 2 rfl ?_
  refine l_rd 1 dL_law_1337 dL_law_1338 dL_law_1339 dL_law_1340 dL_law_1341 (by decide) (by decide) hL hL4 ?_
  refine l_rd 2 dL_law_1342 dL_law_1343 dL_law_1344 dL_law_1345 dL_law_1346 (by decide) (by decide) hL hL4 ?_
  refine l_callC [pI (xI xs (6 * i + 1)), pI (xI xs (6 * i + 2))] [] _ (t0_paid (some o) (xI xs (6 * i + 1)) (xI xs (6 * i + 2)) u hf) wvL0_paid dv0_paid rfl ⟨Nat.le_of_ble_eq_true rfl, Nat.le_of_ble_eq_true rfl⟩ (l_rcC ht) rfl (Nat.le_of_ble_eq_true rfl) dL_law_1347 hcs ?_
  refine j_aload_n dL_law_1350 1 rfl ?_
  refine l_rd 1 dL_law_1351 dL_law_1352 dL_law_1353 dL_law_1354 dL_law_1355 (by decide) (by decide) hL hL4 ?_
  refine l_rd 2 dL_law_1356 dL_law_1357 dL_law_1358 dL_law_1359 dL_law_1360 (by decide) (by decide) hL hL4 ?_
  refine l_callT [pI (xI xs (6 * i + 1)), pI (xI xs (6 * i + 2))] [pL r0.1] _ (c5_paid (xI xs (6 * i + 1)) (xI xs (6 * i + 2)) m hm) wvL5_paid dv5_paid rfl ⟨Nat.le_of_ble_eq_true rfl, Nat.le_of_ble_eq_true rfl⟩ (m_recv m) rfl (Nat.le_of_ble_eq_true rfl) dL_law_1361 hcs ?_
  exact j_lc_eq 1574 dL_law_1364 dL_law_1365 (by decide) (fun _ => kk) (fun h => absurd (congrArg w64 he) h)
theorem wvL0_end : jwV "CoverHouseLaw" D0_end 157 yX0_end := ⟨q1750, q1751, q1752, q128, q1753⟩
theorem wvL5_end : jwV "CoverHouseLaw" D5_end 160 yX5_end := ⟨q2647, q2648, q2649, q140, q2650⟩
theorem cs_33 (hL : 6 * i + 6 ≤ L) (hL4 : L ≤ 384) (ht : zT u o = 1) {r0 : Int × Sg} {r5 : Int × Mu} (hf : f0_end G (some o) (xI xs (6 * i + 1)) (xI xs (6 * i + 2)) u = some r0) (hm : m5_end (xI xs (6 * i + 1)) (xI xs (6 * i + 2)) m = some r5) (he : r0.1 = r5.1) (hcs : ce ≤ 601024 ∧ sl ≤ 7293034) (kk : LJ G G' b L xs l nm (r0.2, r5.2) o ce sl 1574 i []) : LJ G G' b L xs l nm (u, m) o ce sl 1370 i [] := by
  refine j_aload_n dL_law_1370 2 rfl ?_
  refine l_rd 1 dL_law_1371 dL_law_1372 dL_law_1373 dL_law_1374 dL_law_1375 (by decide) (by decide) hL hL4 ?_
  refine l_rd 2 dL_law_1376 dL_law_1377 dL_law_1378 dL_law_1379 dL_law_1380 (by decide) (by decide) hL hL4 ?_
  refine l_callC [pI (xI xs (6 * i + 1)), pI (xI xs (6 * i + 2))] [] _ (t0_end (some o) (xI xs (6 * i + 1)) (xI xs (6 * i + 2)) u hf) wvL0_end dv0_end rfl ⟨Nat.le_of_ble_eq_true rfl, Nat.le_of_ble_eq_true rfl⟩ (l_rcC ht) rfl (Nat.le_of_ble_eq_true rfl) dL_law_1381 hcs ?_
  refine j_aload_n dL_law_1384 1 rfl ?_
  refine l_rd 1 dL_law_1385 dL_law_1386 dL_law_1387 dL_law_1388 dL_law_1389 (by decide) (by decide) hL hL4 ?_
  refine l_rd 2 dL_law_1390 dL_law_1391 dL_law_1392 dL_law_1393 dL_law_1394 (by decide) (by decide) hL hL4 ?_
  refine l_callT [pI (xI xs (6 * i + 1)), pI (xI xs (6 * i + 2))] [pL r0.1] _ (c5_end (xI xs (6 * i + 1)) (xI xs (6 * i + 2)) m hm) wvL5_end dv5_end rfl ⟨Nat.le_of_ble_eq_true rfl, Nat.le_of_ble_eq_true rfl⟩ (m_recv m) rfl (Nat.le_of_ble_eq_true rfl) dL_law_1395 hcs ?_
  exact j_lc_eq 1574 dL_law_1398 dL_law_1399 (by decide) (fun _ => kk) (fun h => absurd (congrArg w64 he) h)
theorem wvL0_size : jwV "CoverHouseLaw" D0_size 161 yX0_size := ⟨q1755, q1756, q1757, q128, q1758⟩
theorem wvL5_size : jwV "CoverHouseLaw" D5_size 164 yX5_size := ⟨q2652, q2653, q2654, q140, q2655⟩
theorem cs_34 (hL : 6 * i + 6 ≤ L) (hL4 : L ≤ 384) (ht : zT u o = 1) {r0 : Int × Sg} {r5 : Int × Mu} (hf : f0_size G (some o) (xI xs (6 * i + 1)) (xI xs (6 * i + 2)) u = some r0) (hm : m5_size (xI xs (6 * i + 1)) (xI xs (6 * i + 2)) m = some r5) (he : r0.1 = r5.1) (hcs : ce ≤ 601024 ∧ sl ≤ 7293034) (kk : LJ G G' b L xs l nm (r0.2, r5.2) o ce sl 1574 i []) : LJ G G' b L xs l nm (u, m) o ce sl 1404 i [] := by
  refine j_aload_n dL_law_1404 2 rfl ?_
  refine l_rd 1 dL_law_1405 dL_law_1406 dL_law_1407 dL_law_1408 dL_law_1409 (by decide) (by decide) hL hL4 ?_
  refine l_rd 2 dL_law_1410 dL_law_1411 dL_law_1412 dL_law_1413 dL_law_1414 (by decide) (by decide) hL hL4 ?_
  refine l_callC [pI (xI xs (6 * i + 1)), pI (xI xs (6 * i + 2))] [] _ (t0_size (some o) (xI xs (6 * i + 1)) (xI xs (6 * i + 2)) u hf) wvL0_size dv0_size rfl ⟨Nat.le_of_ble_eq_true rfl, Nat.le_of_ble_eq_true rfl⟩ (l_rcC ht) rfl (Nat.le_of_ble_eq_true rfl) dL_law_1415 hcs ?_
  refine j_aload_n dL_law_1418 1 rfl ?_
  refine l_rd 1 dL_law_1419 dL_law_1420 dL_law_1421 dL_law_1422 dL_law_1423 (by decide) (by decide) hL hL4 ?_
  refine l_rd 2 dL_law_1424 dL_law_1425 dL_law_1426 dL_law_1427 dL_law_1428 (by decide) (by decide) hL hL4 ?_
  refine l_callT [pI (xI xs (6 * i + 1)), pI (xI xs (6 * i + 2))] [pI r0.1] _ (c5_size (xI xs (6 * i + 1)) (xI xs (6 * i + 2)) m hm) wvL5_size dv5_size rfl ⟨Nat.le_of_ble_eq_true rfl, Nat.le_of_ble_eq_true rfl⟩ (m_recv m) rfl (Nat.le_of_ble_eq_true rfl) dL_law_1429 hcs ?_
  exact j_icmp_eq (w32 _) (w32 _) rfl rfl 1574 dL_law_1432 (by decide) (fun _ => kk) (fun h => absurd (congrArg w32 he) h)
theorem wvL0_count : jwV "CoverHouseLaw" D0_count 165 yX0_count := ⟨q1759, q1760, q1761, q128, q1762⟩
theorem wvL5_count : jwV "CoverHouseLaw" D5_count 168 yX5_count := ⟨q2656, q2657, q2658, q140, q2659⟩
theorem cs_35 (hL : 6 * i + 6 ≤ L) (hL4 : L ≤ 384) (ht : zT u o = 1) {r0 : Int × Sg} {r5 : Int × Mu} (hf : f0_count G (some o) (xI xs (6 * i + 1)) (xI xs (6 * i + 2)) u = some r0) (hm : m5_count (xI xs (6 * i + 1)) (xI xs (6 * i + 2)) m = some r5) (he : r0.1 = r5.1) (hcs : ce ≤ 601024 ∧ sl ≤ 7293034) (kk : LJ G G' b L xs l nm (r0.2, r5.2) o ce sl 1574 i []) : LJ G G' b L xs l nm (u, m) o ce sl 1437 i [] := by
  refine j_aload_n dL_law_1437 2 rfl ?_
  refine l_rd 1 dL_law_1438 dL_law_1439 dL_law_1440 dL_law_1441 dL_law_1442 (by decide) (by decide) hL hL4 ?_
  refine l_rd 2 dL_law_1443 dL_law_1444 dL_law_1445 dL_law_1446 dL_law_1447 (by decide) (by decide) hL hL4 ?_
  refine l_callC [pI (xI xs (6 * i + 1)), pI (xI xs (6 * i + 2))] [] _ (t0_count (some o) (xI xs (6 * i + 1)) (xI xs (6 * i + 2)) u hf) wvL0_count dv0_count rfl ⟨Nat.le_of_ble_eq_true rfl, Nat.le_of_ble_eq_true rfl⟩ (l_rcC ht) rfl (Nat.le_of_ble_eq_true rfl) dL_law_1448 hcs ?_
  refine j_aload_n dL_law_1451 1 rfl ?_
  refine l_rd 1 dL_law_1452 dL_law_1453 dL_law_1454 dL_law_1455 dL_law_1456 (by decide) (by decide) hL hL4 ?_
  refine l_rd 2 dL_law_1457 dL_law_1458 dL_law_1459 dL_law_1460 dL_law_1461 (by decide) (by decide) hL hL4 ?_
  refine l_callT [pI (xI xs (6 * i + 1)), pI (xI xs (6 * i + 2))] [pI r0.1] _ (c5_count (xI xs (6 * i + 1)) (xI xs (6 * i + 2)) m hm) wvL5_count dv5_count rfl ⟨Nat.le_of_ble_eq_true rfl, Nat.le_of_ble_eq_true rfl⟩ (m_recv m) rfl (Nat.le_of_ble_eq_true rfl) dL_law_1462 hcs ?_
  exact j_icmp_eq (w32 _) (w32 _) rfl rfl 1574 dL_law_1465 (by decide) (fun _ => kk) (fun h => absurd (congrArg w32 he) h)
theorem wvL0_mass : jwV "CoverHouseLaw" D0_mass 169 yX0_mass := ⟨q1763, q1764, q1765, q128, q1766⟩
theorem wvL5_mass : jwV "CoverHouseLaw" D5_mass 172 yX5_mass := ⟨q2660, q2661, q2662, q140, q2663⟩
theorem cs_36 (hL : 6 * i + 6 ≤ L) (hL4 : L ≤ 384) (ht : zT u o = 1) {r0 : Int × Sg} {r5 : Int × Mu} (hf : f0_mass G (some o) (xI xs (6 * i + 1)) u = some r0) (hm : m5_mass (xI xs (6 * i + 1)) m = some r5) (he : r0.1 = r5.1) (hcs : ce ≤ 601024 ∧ sl ≤ 7293034) (kk : LJ G G' b L xs l nm (r0.2, r5.2) o ce sl 1574 i []) : LJ G G' b L xs l nm (u, m) o ce sl 1470 i [] := by
  refine j_aload_n dL_law_1470 2 rfl ?_
  refine l_rd 1 dL_law_1471 dL_law_1472 dL_law_1473 dL_law_1474 dL_law_1475 (by decide) (by decide) hL hL4 ?_
  refine l_callC [pI (xI xs (6 * i + 1))] [] _ (t0_mass (some o) (xI xs (6 * i + 1)) u hf) wvL0_mass dv0_mass rfl ⟨Nat.le_of_ble_eq_true rfl, Nat.le_of_ble_eq_true rfl⟩ (l_rcC ht) rfl (Nat.le_of_ble_eq_true rfl) dL_law_1476 hcs ?_
  refine j_aload_n dL_law_1479 1 rfl ?_
  refine l_rd 1 dL_law_1480 dL_law_1481 dL_law_1482 dL_law_1483 dL_law_1484 (by decide) (by decide) hL hL4 ?_
  refine l_callT [pI (xI xs (6 * i + 1))] [pL r0.1] _ (c5_mass (xI xs (6 * i + 1)) m hm) wvL5_mass dv5_mass rfl ⟨Nat.le_of_ble_eq_true rfl, Nat.le_of_ble_eq_true rfl⟩ (m_recv m) rfl (Nat.le_of_ble_eq_true rfl) dL_law_1485 hcs ?_
  exact j_lc_eq 1574 dL_law_1488 dL_law_1489 (by decide) (fun _ => kk) (fun h => absurd (congrArg w64 he) h)
theorem wvL0_quantile : jwV "CoverHouseLaw" D0_quantile 173 yX0_quantile := ⟨q1775, q1776, q1777, q128, q1778⟩
theorem wvL5_quantile : jwV "CoverHouseLaw" D5_quantile 176 yX5_quantile := ⟨q2668, q2669, q2670, q140, q2671⟩
theorem cs_37 (hL : 6 * i + 6 ≤ L) (hL4 : L ≤ 384) (ht : zT u o = 1) {r0 : Int × Sg} {r5 : Int × Mu} (hf : f0_quantile G (some o) (xI xs (6 * i + 1)) (xI xs (6 * i + 2)) u = some r0) (hm : m5_quantile (xI xs (6 * i + 1)) (xI xs (6 * i + 2)) m = some r5) (he : r0.1 = r5.1) (hcs : ce ≤ 601024 ∧ sl ≤ 7293034) (kk : LJ G G' b L xs l nm (r0.2, r5.2) o ce sl 1574 i []) : LJ G G' b L xs l nm (u, m) o ce sl 1494 i [] := by
  refine j_aload_n dL_law_1494 2 rfl ?_
  refine l_rd 1 dL_law_1495 dL_law_1496 dL_law_1497 dL_law_1498 dL_law_1499 (by decide) (by decide) hL hL4 ?_
  refine l_rd 2 dL_law_1500 dL_law_1501 dL_law_1502 dL_law_1503 dL_law_1504 (by decide) (by decide) hL hL4 ?_
  refine l_callC [pI (xI xs (6 * i + 1)), pI (xI xs (6 * i + 2))] [] _ (t0_quantile (some o) (xI xs (6 * i + 1)) (xI xs (6 * i + 2)) u hf) wvL0_quantile dv0_quantile rfl ⟨Nat.le_of_ble_eq_true rfl, Nat.le_of_ble_eq_true rfl⟩ (l_rcC ht) rfl (Nat.le_of_ble_eq_true rfl) dL_law_1505 hcs ?_
  refine j_aload_n dL_law_1508 1 rfl ?_
  refine l_rd 1 dL_law_1509 dL_law_1510 dL_law_1511 dL_law_1512 dL_law_1513 (by decide) (by decide) hL hL4 ?_
  refine l_rd 2 dL_law_1514 dL_law_1515 dL_law_1516 dL_law_1517 dL_law_1518 (by decide) (by decide) hL hL4 ?_
  refine l_callT [pI (xI xs (6 * i + 1)), pI (xI xs (6 * i + 2))] [pI r0.1] _ (c5_quantile (xI xs (6 * i + 1)) (xI xs (6 * i + 2)) m hm) wvL5_quantile dv5_quantile rfl ⟨Nat.le_of_ble_eq_true rfl, Nat.le_of_ble_eq_true rfl⟩ (m_recv m) rfl (Nat.le_of_ble_eq_true rfl) dL_law_1519 hcs ?_
  exact j_icmp_eq (w32 _) (w32 _) rfl rfl 1574 dL_law_1522 (by decide) (fun _ => kk) (fun h => absurd (congrArg w32 he) h)
theorem wvL0_beyond : jwV "CoverHouseLaw" D0_beyond 177 yX0_beyond := ⟨q1780, q1781, q1782, q128, q1783⟩
theorem wvL5_beyond : jwV "CoverHouseLaw" D5_beyond 180 yX5_beyond := ⟨q2673, q2674, q2675, q140, q2676⟩
theorem cs_38 (hL : 6 * i + 6 ≤ L) (hL4 : L ≤ 384) (ht : zT u o = 1) {r0 : Int × Sg} {r5 : Int × Mu} (hf : f0_beyond G (some o) (xI xs (6 * i + 1)) u = some r0) (hm : m5_beyond (xI xs (6 * i + 1)) m = some r5) (he : r0.1 = r5.1) (hcs : ce ≤ 601024 ∧ sl ≤ 7293034) (kk : LJ G G' b L xs l nm (r0.2, r5.2) o ce sl 1574 i []) : LJ G G' b L xs l nm (u, m) o ce sl 1527 i [] := by
  refine j_aload_n dL_law_1527 2 rfl ?_
  refine l_rd 1 dL_law_1528 dL_law_1529 dL_law_1530 dL_law_1531 dL_law_1532 (by decide) (by decide) hL hL4 ?_
  refine l_callC [pI (xI xs (6 * i + 1))] [] _ (t0_beyond (some o) (xI xs (6 * i + 1)) u hf) wvL0_beyond dv0_beyond rfl ⟨Nat.le_of_ble_eq_true rfl, Nat.le_of_ble_eq_true rfl⟩ (l_rcC ht) rfl (Nat.le_of_ble_eq_true rfl) dL_law_1533 hcs ?_
  refine j_aload_n dL_law_1536 1 rfl ?_
  refine l_rd 1 dL_law_1537 dL_law_1538 dL_law_1539 dL_law_1540 dL_law_1541 (by decide) (by decide) hL hL4 ?_
  refine l_callT [pI (xI xs (6 * i + 1))] [pL r0.1] _ (c5_beyond (xI xs (6 * i + 1)) m hm) wvL5_beyond dv5_beyond rfl ⟨Nat.le_of_ble_eq_true rfl, Nat.le_of_ble_eq_true rfl⟩ (m_recv m) rfl (Nat.le_of_ble_eq_true rfl) dL_law_1542 hcs ?_
  exact j_lc_eq 1574 dL_law_1545 dL_law_1546 (by decide) (fun _ => kk) (fun h => absurd (congrArg w64 he) h)
theorem wvL0_told : jwV "CoverHouseLaw" D0_told 181 yX0_told := ⟨q1784, q1785, q1786, q128, q1787⟩
theorem wvL5_told : jwV "CoverHouseLaw" D5_told 184 yX5_told := ⟨q2677, q2678, q2679, q140, q2680⟩
theorem cs_39 (hL : 6 * i + 6 ≤ L) (hL4 : L ≤ 384) (ht : zT u o = 1) {r0 : Int} {r5 : Int} (hf : f0_told G (some o) (xI xs (6 * i + 1)) u = some r0) (hm : m5_told (xI xs (6 * i + 1)) m = some r5) (he : r0 = r5) (hcs : ce ≤ 601024 ∧ sl ≤ 7293034) (kk : LJ G G' b L xs l nm (u, m) o ce sl 1574 i []) : LJ G G' b L xs l nm (u, m) o ce sl 1551 i [] := by
  refine j_aload_n dL_law_1551 2 rfl ?_
  refine l_rd 1 dL_law_1552 dL_law_1553 dL_law_1554 dL_law_1555 dL_law_1556 (by decide) (by decide) hL hL4 ?_
  refine l_callC [pI (xI xs (6 * i + 1))] [] _ (t0_told (some o) (xI xs (6 * i + 1)) u hf) wvL0_told dv0_told rfl ⟨Nat.le_of_ble_eq_true rfl, Nat.le_of_ble_eq_true rfl⟩ (l_rcC ht) rfl (Nat.le_of_ble_eq_true rfl) dL_law_1557 hcs ?_
  refine j_aload_n dL_law_1560 1 rfl ?_
  refine l_rd 1 dL_law_1561 dL_law_1562 dL_law_1563 dL_law_1564 dL_law_1565 (by decide) (by decide) hL hL4 ?_
  refine l_callT [pI (xI xs (6 * i + 1))] [pI r0] _ (c5_told (xI xs (6 * i + 1)) m hm) wvL5_told dv5_told rfl ⟨Nat.le_of_ble_eq_true rfl, Nat.le_of_ble_eq_true rfl⟩ (m_recv m) rfl (Nat.le_of_ble_eq_true rfl) dL_law_1566 hcs ?_
  exact j_icmp_eq (w32 _) (w32 _) rfl rfl 1574 dL_law_1569 (by decide) (fun _ => kk) (fun h => absurd (congrArg w32 he) h)
end
