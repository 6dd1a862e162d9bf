/-! THE LAW, CASE BY CASE -/
set_option maxRecDepth 100000
set_option maxHeartbeats 1000000
section
variable {p : Program} {l : Launch} {e : Env} {s : State} {m : MethodId} {b : Nat} {below : List Frame} {meth : Method} {c : Code} {G : cG} {KK : State → Prop} {J : jG} {A : Nat → Prop} {L : Nat} {xs : Nat → Int32} {Q : State → Prop} {k n : Nat} {σ : SS} {d : DS} {μ : MS} {i : Int32} {Rel : SS → DS → MS → Prop}
theorem lc_0 (hk : lk p s m b meth c G KK J A L xs) (hlt : l.stackTraces = false) (h1 : vp_in (i + 1) L) (h2 : vp_in (i + 2) L) (h3 : vp_in (i + 3) L) (h4 : vp_in (i + 4) L) (hk1 : k + 2600 ≤ 699883) (hk2 : n + 106600 ≤ 6971880) (hP : pLaw Rel 0 (xs (i + 1).toNatClampNeg) (xs (i + 2).toNatClampNeg) (xs (i + 3).toNatClampNeg) (xs (i + 4).toNatClampNeg) σ d μ)
    (kk : ∀ σ' d' μ', Rel σ' d' μ' → jl p l e s m b below meth c G J A Q (k + 2600) (n + 106600) σ' d' μ' 1843 [(0, .ref b), (1, .ref (ha G 0)), (2, .ref (gh J)), (3, .int i)] []) : jl p l e s m b below meth c G J A Q k n σ d μ 268 [(0, .ref b), (1, .ref (ha G 0)), (2, .ref (gh J)), (3, .int i)] [] := by
  obtain ⟨r, σ', d', μ', hc, hm, hrel, hg1, hg2⟩ := hP
  have hf : f0_person σ d (xs (i + 1).toNatClampNeg) (xs (i + 2).toNatClampNeg) (xs (i + 3).toNatClampNeg) = some (r, σ', d') := hc
  have hmf : m_person μ (xs (i + 1).toNatClampNeg) (xs (i + 2).toNatClampNeg) (xs (i + 3).toNatClampNeg) = some (r, μ') := hm
  refine jl_aload_n hk (pc := 268) dL_law_268 1 rfl rfl ?_
  refine jl_aload_n hk (pc := 269) dL_law_269 0 rfl rfl ?_
  refine jl_iload_n hk (pc := 270) dL_law_270 3 rfl rfl ?_
  refine jl_iconst hk (pc := 271) (v := 1) dL_law_271 (by decide) ?_
  refine jl_iadd hk (pc := 272) dL_law_272 ?_
  refine jl_iald hk (pc := 273) h1 dL_law_273 ?_
  refine jl_aload_n hk (pc := 274) dL_law_274 0 rfl rfl ?_
  refine jl_iload_n hk (pc := 275) dL_law_275 3 rfl rfl ?_
  refine jl_iconst hk (pc := 276) (v := 2) dL_law_276 (by decide) ?_
  refine jl_iadd hk (pc := 277) dL_law_277 ?_
  refine jl_iald hk (pc := 278) h2 dL_law_278 ?_
  refine jl_aload_n hk (pc := 279) dL_law_279 0 rfl rfl ?_
  refine jl_iload_n hk (pc := 280) dL_law_280 3 rfl rfl ?_
  refine jl_iconst hk (pc := 281) (v := 3) dL_law_281 (by decide) ?_
  refine jl_iadd hk (pc := 282) dL_law_282 ?_
  refine jl_iald hk (pc := 283) h3 dL_law_283 ?_
  refine jl_A hk (pc := 284) (np := 3) (r := (r, σ', d')) [.int (xs (i + 1).toNatClampNeg), .int (xs (i + 2).toNatClampNeg), .int (xs (i + 3).toNatClampNeg)] (cc_f0_person l hk.2.1 σ d (xs (i + 1).toNatClampNeg) (xs (i + 2).toNatClampNeg) (xs (i + 3).toNatClampNeg) (r, σ', d') hf) (lw_V q502 q503 q504 q118 q505) (by decide +kernel) rfl rfl dL_law_284 ⟨Nat.le_of_ble_eq_true rfl, Nat.le_of_ble_eq_true rfl⟩ (by (try dsimp only); omega) (by (try dsimp only); omega) (Nat.le_of_ble_eq_true rfl) (fun n2 g1 g2 => ?_)
  refine jl_aload_n hk (pc := 287) dL_law_287 2 rfl rfl ?_
  refine jl_aload_n hk (pc := 288) dL_law_288 0 rfl rfl ?_
  refine jl_iload_n hk (pc := 289) dL_law_289 3 rfl rfl ?_
  refine jl_iconst hk (pc := 290) (v := 1) dL_law_290 (by decide) ?_
  refine jl_iadd hk (pc := 291) dL_law_291 ?_
  refine jl_iald hk (pc := 292) h1 dL_law_292 ?_
  refine jl_aload_n hk (pc := 293) dL_law_293 0 rfl rfl ?_
  refine jl_iload_n hk (pc := 294) dL_law_294 3 rfl rfl ?_
  refine jl_iconst hk (pc := 295) (v := 2) dL_law_295 (by decide) ?_
  refine jl_iadd hk (pc := 296) dL_law_296 ?_
  refine jl_iald hk (pc := 297) h2 dL_law_297 ?_
  refine jl_aload_n hk (pc := 298) dL_law_298 0 rfl rfl ?_
  refine jl_iload_n hk (pc := 299) dL_law_299 3 rfl rfl ?_
  refine jl_iconst hk (pc := 300) (v := 3) dL_law_300 (by decide) ?_
  refine jl_iadd hk (pc := 301) dL_law_301 ?_
  refine jl_iald hk (pc := 302) h3 dL_law_302 ?_
  refine jl_mU hk (pc := 303) (np := 3) (r := (r, μ')) [.int (xs (i + 1).toNatClampNeg), .int (xs (i + 2).toNatClampNeg), .int (xs (i + 3).toNatClampNeg)] (cc_m_person l (jn J n2) μ (xs (i + 1).toNatClampNeg) (xs (i + 2).toNatClampNeg) (xs (i + 3).toNatClampNeg) (r, μ') hmf) (lw_V q1674 q1675 q1676 q127 q1677) (by decide +kernel) rfl rfl dL_law_303 ⟨Nat.le_of_ble_eq_true rfl, Nat.le_of_ble_eq_true rfl⟩ (by (try dsimp only); omega) (by (try dsimp only); omega) (Nat.le_of_ble_eq_true rfl) ?_
  refine jl_eqT hk (pc := 306) 1843 dL_law_306 (by decide) rfl ?_
  refine jl_more (k1 := k + 2600) (n1 := n + 106600) (by (try dsimp only); omega) (by (try dsimp only); omega) ?_
  exact kk _ _ _ (hrel n2 g1 g2)
theorem lc_1 (hk : lk p s m b meth c G KK J A L xs) (hlt : l.stackTraces = false) (h1 : vp_in (i + 1) L) (h2 : vp_in (i + 2) L) (h3 : vp_in (i + 3) L) (h4 : vp_in (i + 4) L) (hk1 : k + 2600 ≤ 699883) (hk2 : n + 106600 ≤ 6971880) (hP : pLaw Rel 1 (xs (i + 1).toNatClampNeg) (xs (i + 2).toNatClampNeg) (xs (i + 3).toNatClampNeg) (xs (i + 4).toNatClampNeg) σ d μ)
    (kk : ∀ σ' d' μ', Rel σ' d' μ' → jl p l e s m b below meth c G J A Q (k + 2600) (n + 106600) σ' d' μ' 1843 [(0, .ref b), (1, .ref (ha G 0)), (2, .ref (gh J)), (3, .int i)] []) : jl p l e s m b below meth c G J A Q k n σ d μ 311 [(0, .ref b), (1, .ref (ha G 0)), (2, .ref (gh J)), (3, .int i)] [] := by
  obtain ⟨r, σ', d', μ', hc, hm, hrel, hg1, hg2⟩ := hP
  obtain ⟨rc, hf, he⟩ := Option.map_eq_some_iff.mp (show (f0_personOf 1000 d σ (xs (i + 1).toNatClampNeg) (xs (i + 2).toNatClampNeg)).map (fun r => (r.1, r.2, d)) = some (r, σ', d') from hc)
  obtain ⟨rfl, rfl, rfl⟩ : rc.1 = r ∧ rc.2 = σ' ∧ d = d' := ⟨congrArg (·.1) he, congrArg (·.2.1) he, congrArg (·.2.2) he⟩
  have hmf : m_personOf 1000 μ (xs (i + 1).toNatClampNeg) (xs (i + 2).toNatClampNeg) = some (rc.1, μ') := hm
  refine jl_aload_n hk (pc := 311) dL_law_311 1 rfl rfl ?_
  refine jl_aload_n hk (pc := 312) dL_law_312 0 rfl rfl ?_
  refine jl_iload_n hk (pc := 313) dL_law_313 3 rfl rfl ?_
  refine jl_iconst hk (pc := 314) (v := 1) dL_law_314 (by decide) ?_
  refine jl_iadd hk (pc := 315) dL_law_315 ?_
  refine jl_iald hk (pc := 316) h1 dL_law_316 ?_
  refine jl_aload_n hk (pc := 317) dL_law_317 0 rfl rfl ?_
  refine jl_iload_n hk (pc := 318) dL_law_318 3 rfl rfl ?_
  refine jl_iconst hk (pc := 319) (v := 2) dL_law_319 (by decide) ?_
  refine jl_iadd hk (pc := 320) dL_law_320 ?_
  refine jl_iald hk (pc := 321) h2 dL_law_321 ?_
  refine jl_U hk (pc := 322) (np := 2) (r := rc) [.int (xs (i + 1).toNatClampNeg), .int (xs (i + 2).toNatClampNeg)] (cc_f0_personOf l hk.2.1 d 1000 σ (xs (i + 1).toNatClampNeg) (xs (i + 2).toNatClampNeg) rc hf) (lw_V q574 q575 q576 q118 q577) (by decide +kernel) rfl rfl dL_law_322 ⟨Nat.le_of_ble_eq_true rfl, Nat.le_of_ble_eq_true rfl⟩ (by (try dsimp only); omega) (by (try dsimp only); omega) (Nat.le_of_ble_eq_true rfl) (fun n2 g1 g2 => ?_)
  refine jl_aload_n hk (pc := 325) dL_law_325 2 rfl rfl ?_
  refine jl_aload_n hk (pc := 326) dL_law_326 0 rfl rfl ?_
  refine jl_iload_n hk (pc := 327) dL_law_327 3 rfl rfl ?_
  refine jl_iconst hk (pc := 328) (v := 1) dL_law_328 (by decide) ?_
  refine jl_iadd hk (pc := 329) dL_law_329 ?_
  refine jl_iald hk (pc := 330) h1 dL_law_330 ?_
  refine jl_aload_n hk (pc := 331) dL_law_331 0 rfl rfl ?_
  refine jl_iload_n hk (pc := 332) dL_law_332 3 rfl rfl ?_
  refine jl_iconst hk (pc := 333) (v := 2) dL_law_333 (by decide) ?_
  refine jl_iadd hk (pc := 334) dL_law_334 ?_
  refine jl_iald hk (pc := 335) h2 dL_law_335 ?_
  refine jl_mU hk (pc := 336) (np := 2) (r := (rc.1, μ')) [.int (xs (i + 1).toNatClampNeg), .int (xs (i + 2).toNatClampNeg)] (cc_m_personOf l (jn J n2) 1000 μ (xs (i + 1).toNatClampNeg) (xs (i + 2).toNatClampNeg) (rc.1, μ') hmf) (lw_V q1689 q1690 q1691 q127 q1692) (by decide +kernel) rfl rfl dL_law_336 ⟨Nat.le_of_ble_eq_true rfl, Nat.le_of_ble_eq_true rfl⟩ (by (try dsimp only); omega) (by (try dsimp only); omega) (Nat.le_of_ble_eq_true rfl) ?_
  refine jl_eqT hk (pc := 339) 1843 dL_law_339 (by decide) rfl ?_
  refine jl_more (k1 := k + 2600) (n1 := n + 106600) (by (try dsimp only); omega) (by (try dsimp only); omega) ?_
  exact kk _ _ _ (hrel n2 g1 g2)
theorem lc_2 (hk : lk p s m b meth c G KK J A L xs) (hlt : l.stackTraces = false) (h1 : vp_in (i + 1) L) (h2 : vp_in (i + 2) L) (h3 : vp_in (i + 3) L) (h4 : vp_in (i + 4) L) (hk1 : k + 2600 ≤ 699883) (hk2 : n + 106600 ≤ 6971880) (hP : pLaw Rel 2 (xs (i + 1).toNatClampNeg) (xs (i + 2).toNatClampNeg) (xs (i + 3).toNatClampNeg) (xs (i + 4).toNatClampNeg) σ d μ)
    (kk : ∀ σ' d' μ', Rel σ' d' μ' → jl p l e s m b below meth c G J A Q (k + 2600) (n + 106600) σ' d' μ' 1843 [(0, .ref b), (1, .ref (ha G 0)), (2, .ref (gh J)), (3, .int i)] []) : jl p l e s m b below meth c G J A Q k n σ d μ 344 [(0, .ref b), (1, .ref (ha G 0)), (2, .ref (gh J)), (3, .int i)] [] := by
  obtain ⟨r, σ', d', μ', hc, hm, hrel, hg1, hg2⟩ := hP
  have hf : f0_change σ d (xs (i + 1).toNatClampNeg) (xs (i + 2).toNatClampNeg) (xs (i + 3).toNatClampNeg) = some (r, σ', d') := hc
  have hmf : m_change μ (xs (i + 1).toNatClampNeg) (xs (i + 2).toNatClampNeg) (xs (i + 3).toNatClampNeg) = some (r, μ') := hm
  refine jl_aload_n hk (pc := 344) dL_law_344 1 rfl rfl ?_
  refine jl_aload_n hk (pc := 345) dL_law_345 0 rfl rfl ?_
  refine jl_iload_n hk (pc := 346) dL_law_346 3 rfl rfl ?_
  refine jl_iconst hk (pc := 347) (v := 1) dL_law_347 (by decide) ?_
  refine jl_iadd hk (pc := 348) dL_law_348 ?_
  refine jl_iald hk (pc := 349) h1 dL_law_349 ?_
  refine jl_aload_n hk (pc := 350) dL_law_350 0 rfl rfl ?_
  refine jl_iload_n hk (pc := 351) dL_law_351 3 rfl rfl ?_
  refine jl_iconst hk (pc := 352) (v := 2) dL_law_352 (by decide) ?_
  refine jl_iadd hk (pc := 353) dL_law_353 ?_
  refine jl_iald hk (pc := 354) h2 dL_law_354 ?_
  refine jl_aload_n hk (pc := 355) dL_law_355 0 rfl rfl ?_
  refine jl_iload_n hk (pc := 356) dL_law_356 3 rfl rfl ?_
  refine jl_iconst hk (pc := 357) (v := 3) dL_law_357 (by decide) ?_
  refine jl_iadd hk (pc := 358) dL_law_358 ?_
  refine jl_iald hk (pc := 359) h3 dL_law_359 ?_
  refine jl_A hk (pc := 360) (np := 3) (r := (r, σ', d')) [.int (xs (i + 1).toNatClampNeg), .int (xs (i + 2).toNatClampNeg), .int (xs (i + 3).toNatClampNeg)] (cc_f0_change l hk.2.1 σ d (xs (i + 1).toNatClampNeg) (xs (i + 2).toNatClampNeg) (xs (i + 3).toNatClampNeg) (r, σ', d') hf) (lw_V q675 q676 q677 q118 q678) (by decide +kernel) rfl rfl dL_law_360 ⟨Nat.le_of_ble_eq_true rfl, Nat.le_of_ble_eq_true rfl⟩ (by (try dsimp only); omega) (by (try dsimp only); omega) (Nat.le_of_ble_eq_true rfl) (fun n2 g1 g2 => ?_)
  refine jl_aload_n hk (pc := 363) dL_law_363 2 rfl rfl ?_
  refine jl_aload_n hk (pc := 364) dL_law_364 0 rfl rfl ?_
  refine jl_iload_n hk (pc := 365) dL_law_365 3 rfl rfl ?_
  refine jl_iconst hk (pc := 366) (v := 1) dL_law_366 (by decide) ?_
  refine jl_iadd hk (pc := 367) dL_law_367 ?_
  refine jl_iald hk (pc := 368) h1 dL_law_368 ?_
  refine jl_aload_n hk (pc := 369) dL_law_369 0 rfl rfl ?_
  refine jl_iload_n hk (pc := 370) dL_law_370 3 rfl rfl ?_
  refine jl_iconst hk (pc := 371) (v := 2) dL_law_371 (by decide) ?_
  refine jl_iadd hk (pc := 372) dL_law_372 ?_
  refine jl_iald hk (pc := 373) h2 dL_law_373 ?_
  refine jl_aload_n hk (pc := 374) dL_law_374 0 rfl rfl ?_
  refine jl_iload_n hk (pc := 375) dL_law_375 3 rfl rfl ?_
  refine jl_iconst hk (pc := 376) (v := 3) dL_law_376 (by decide) ?_
  refine jl_iadd hk (pc := 377) dL_law_377 ?_
  refine jl_iald hk (pc := 378) h3 dL_law_378 ?_
  refine jl_mU hk (pc := 379) (np := 3) (r := (r, μ')) [.int (xs (i + 1).toNatClampNeg), .int (xs (i + 2).toNatClampNeg), .int (xs (i + 3).toNatClampNeg)] (cc_m_change l (jn J n2) μ (xs (i + 1).toNatClampNeg) (xs (i + 2).toNatClampNeg) (xs (i + 3).toNatClampNeg) (r, μ') hmf) (lw_V q1744 q1745 q1746 q127 q1747) (by decide +kernel) rfl rfl dL_law_379 ⟨Nat.le_of_ble_eq_true rfl, Nat.le_of_ble_eq_true rfl⟩ (by (try dsimp only); omega) (by (try dsimp only); omega) (Nat.le_of_ble_eq_true rfl) ?_
  refine jl_eqT hk (pc := 382) 1843 dL_law_382 (by decide) rfl ?_
  refine jl_more (k1 := k + 2600) (n1 := n + 106600) (by (try dsimp only); omega) (by (try dsimp only); omega) ?_
  exact kk _ _ _ (hrel n2 g1 g2)
theorem lc_3 (hk : lk p s m b meth c G KK J A L xs) (hlt : l.stackTraces = false) (h1 : vp_in (i + 1) L) (h2 : vp_in (i + 2) L) (h3 : vp_in (i + 3) L) (h4 : vp_in (i + 4) L) (hk1 : k + 2600 ≤ 699883) (hk2 : n + 106600 ≤ 6971880) (hP : pLaw Rel 3 (xs (i + 1).toNatClampNeg) (xs (i + 2).toNatClampNeg) (xs (i + 3).toNatClampNeg) (xs (i + 4).toNatClampNeg) σ d μ)
    (kk : ∀ σ' d' μ', Rel σ' d' μ' → jl p l e s m b below meth c G J A Q (k + 2600) (n + 106600) σ' d' μ' 1843 [(0, .ref b), (1, .ref (ha G 0)), (2, .ref (gh J)), (3, .int i)] []) : jl p l e s m b below meth c G J A Q k n σ d μ 387 [(0, .ref b), (1, .ref (ha G 0)), (2, .ref (gh J)), (3, .int i)] [] := by
  obtain ⟨r, σ', d', μ', hc, hm, hrel, hg1, hg2⟩ := hP
  have hf : f0_remake σ d (xs (i + 1).toNatClampNeg) (xs (i + 2).toNatClampNeg) = some (r, σ', d') := hc
  have hmf : m_remake μ (xs (i + 1).toNatClampNeg) (xs (i + 2).toNatClampNeg) = some (r, μ') := hm
  refine jl_aload_n hk (pc := 387) dL_law_387 1 rfl rfl ?_
  refine jl_aload_n hk (pc := 388) dL_law_388 0 rfl rfl ?_
  refine jl_iload_n hk (pc := 389) dL_law_389 3 rfl rfl ?_
  refine jl_iconst hk (pc := 390) (v := 1) dL_law_390 (by decide) ?_
  refine jl_iadd hk (pc := 391) dL_law_391 ?_
  refine jl_iald hk (pc := 392) h1 dL_law_392 ?_
  refine jl_aload_n hk (pc := 393) dL_law_393 0 rfl rfl ?_
  refine jl_iload_n hk (pc := 394) dL_law_394 3 rfl rfl ?_
  refine jl_iconst hk (pc := 395) (v := 2) dL_law_395 (by decide) ?_
  refine jl_iadd hk (pc := 396) dL_law_396 ?_
  refine jl_iald hk (pc := 397) h2 dL_law_397 ?_
  refine jl_A hk (pc := 398) (np := 2) (r := (r, σ', d')) [.int (xs (i + 1).toNatClampNeg), .int (xs (i + 2).toNatClampNeg)] (cc_f0_remake l hk.2.1 σ d (xs (i + 1).toNatClampNeg) (xs (i + 2).toNatClampNeg) (r, σ', d') hf) (lw_V q679 q680 q681 q118 q682) (by decide +kernel) rfl rfl dL_law_398 ⟨Nat.le_of_ble_eq_true rfl, Nat.le_of_ble_eq_true rfl⟩ (by (try dsimp only); omega) (by (try dsimp only); omega) (Nat.le_of_ble_eq_true rfl) (fun n2 g1 g2 => ?_)
  refine jl_aload_n hk (pc := 401) dL_law_401 2 rfl rfl ?_
  refine jl_aload_n hk (pc := 402) dL_law_402 0 rfl rfl ?_
  refine jl_iload_n hk (pc := 403) dL_law_403 3 rfl rfl ?_
  refine jl_iconst hk (pc := 404) (v := 1) dL_law_404 (by decide) ?_
  refine jl_iadd hk (pc := 405) dL_law_405 ?_
  refine jl_iald hk (pc := 406) h1 dL_law_406 ?_
  refine jl_aload_n hk (pc := 407) dL_law_407 0 rfl rfl ?_
  refine jl_iload_n hk (pc := 408) dL_law_408 3 rfl rfl ?_
  refine jl_iconst hk (pc := 409) (v := 2) dL_law_409 (by decide) ?_
  refine jl_iadd hk (pc := 410) dL_law_410 ?_
  refine jl_iald hk (pc := 411) h2 dL_law_411 ?_
  refine jl_mU hk (pc := 412) (np := 2) (r := (r, μ')) [.int (xs (i + 1).toNatClampNeg), .int (xs (i + 2).toNatClampNeg)] (cc_m_remake l (jn J n2) μ (xs (i + 1).toNatClampNeg) (xs (i + 2).toNatClampNeg) (r, μ') hmf) (lw_V q1753 q1754 q1755 q127 q1756) (by decide +kernel) rfl rfl dL_law_412 ⟨Nat.le_of_ble_eq_true rfl, Nat.le_of_ble_eq_true rfl⟩ (by (try dsimp only); omega) (by (try dsimp only); omega) (Nat.le_of_ble_eq_true rfl) ?_
  refine jl_eqT hk (pc := 415) 1843 dL_law_415 (by decide) rfl ?_
  refine jl_more (k1 := k + 2600) (n1 := n + 106600) (by (try dsimp only); omega) (by (try dsimp only); omega) ?_
  exact kk _ _ _ (hrel n2 g1 g2)
theorem lc_4 (hk : lk p s m b meth c G KK J A L xs) (hlt : l.stackTraces = false) (h1 : vp_in (i + 1) L) (h2 : vp_in (i + 2) L) (h3 : vp_in (i + 3) L) (h4 : vp_in (i + 4) L) (hk1 : k + 2600 ≤ 699883) (hk2 : n + 106600 ≤ 6971880) (hP : pLaw Rel 4 (xs (i + 1).toNatClampNeg) (xs (i + 2).toNatClampNeg) (xs (i + 3).toNatClampNeg) (xs (i + 4).toNatClampNeg) σ d μ)
    (kk : ∀ σ' d' μ', Rel σ' d' μ' → jl p l e s m b below meth c G J A Q (k + 2600) (n + 106600) σ' d' μ' 1843 [(0, .ref b), (1, .ref (ha G 0)), (2, .ref (gh J)), (3, .int i)] []) : jl p l e s m b below meth c G J A Q k n σ d μ 420 [(0, .ref b), (1, .ref (ha G 0)), (2, .ref (gh J)), (3, .int i)] [] := by
  obtain ⟨r, σ', d', μ', hc, hm, hrel, hg1, hg2⟩ := hP
  obtain ⟨rc, hf, he⟩ := Option.map_eq_some_iff.mp (show (f0_deed σ (xs (i + 1).toNatClampNeg) (xs (i + 2).toNatClampNeg) (xs (i + 3).toNatClampNeg) (xs (i + 4).toNatClampNeg)).map (fun r => (r.1, r.2, d)) = some (r, σ', d') from hc)
  obtain ⟨rfl, rfl, rfl⟩ : rc.1 = r ∧ rc.2 = σ' ∧ d = d' := ⟨congrArg (·.1) he, congrArg (·.2.1) he, congrArg (·.2.2) he⟩
  have hmf : m_deed μ (xs (i + 1).toNatClampNeg) (xs (i + 2).toNatClampNeg) (xs (i + 3).toNatClampNeg) (xs (i + 4).toNatClampNeg) = some (rc.1, μ') := hm
  refine jl_aload_n hk (pc := 420) dL_law_420 1 rfl rfl ?_
  refine jl_aload_n hk (pc := 421) dL_law_421 0 rfl rfl ?_
  refine jl_iload_n hk (pc := 422) dL_law_422 3 rfl rfl ?_
  refine jl_iconst hk (pc := 423) (v := 1) dL_law_423 (by decide) ?_
  refine jl_iadd hk (pc := 424) dL_law_424 ?_
  refine jl_iald hk (pc := 425) h1 dL_law_425 ?_
  refine jl_aload_n hk (pc := 426) dL_law_426 0 rfl rfl ?_
  refine jl_iload_n hk (pc := 427) dL_law_427 3 rfl rfl ?_
  refine jl_iconst hk (pc := 428) (v := 2) dL_law_428 (by decide) ?_
  refine jl_iadd hk (pc := 429) dL_law_429 ?_
  refine jl_iald hk (pc := 430) h2 dL_law_430 ?_
  refine jl_aload_n hk (pc := 431) dL_law_431 0 rfl rfl ?_
  refine jl_iload_n hk (pc := 432) dL_law_432 3 rfl rfl ?_
  refine jl_iconst hk (pc := 433) (v := 3) dL_law_433 (by decide) ?_
  refine jl_iadd hk (pc := 434) dL_law_434 ?_
  refine jl_iald hk (pc := 435) h3 dL_law_435 ?_
  refine jl_aload_n hk (pc := 436) dL_law_436 0 rfl rfl ?_
  refine jl_iload_n hk (pc := 437) dL_law_437 3 rfl rfl ?_
  refine jl_iconst hk (pc := 438) (v := 4) dL_law_438 (by decide) ?_
  refine jl_iadd hk (pc := 439) dL_law_439 ?_
  refine jl_iald hk (pc := 440) h4 dL_law_440 ?_
  refine jl_U hk (pc := 441) (np := 4) (r := rc) [.int (xs (i + 1).toNatClampNeg), .int (xs (i + 2).toNatClampNeg), .int (xs (i + 3).toNatClampNeg), .int (xs (i + 4).toNatClampNeg)] (cc_f0_deed l hk.2.1 d σ (xs (i + 1).toNatClampNeg) (xs (i + 2).toNatClampNeg) (xs (i + 3).toNatClampNeg) (xs (i + 4).toNatClampNeg) rc hf) (lw_V q683 q684 q685 q118 q686) (by decide +kernel) rfl rfl dL_law_441 ⟨Nat.le_of_ble_eq_true rfl, Nat.le_of_ble_eq_true rfl⟩ (by (try dsimp only); omega) (by (try dsimp only); omega) (Nat.le_of_ble_eq_true rfl) (fun n2 g1 g2 => ?_)
  refine jl_aload_n hk (pc := 444) dL_law_444 2 rfl rfl ?_
  refine jl_aload_n hk (pc := 445) dL_law_445 0 rfl rfl ?_
  refine jl_iload_n hk (pc := 446) dL_law_446 3 rfl rfl ?_
  refine jl_iconst hk (pc := 447) (v := 1) dL_law_447 (by decide) ?_
  refine jl_iadd hk (pc := 448) dL_law_448 ?_
  refine jl_iald hk (pc := 449) h1 dL_law_449 ?_
  refine jl_aload_n hk (pc := 450) dL_law_450 0 rfl rfl ?_
  refine jl_iload_n hk (pc := 451) dL_law_451 3 rfl rfl ?_
  refine jl_iconst hk (pc := 452) (v := 2) dL_law_452 (by decide) ?_
  refine jl_iadd hk (pc := 453) dL_law_453 ?_
  refine jl_iald hk (pc := 454) h2 dL_law_454 ?_
  refine jl_aload_n hk (pc := 455) dL_law_455 0 rfl rfl ?_
  refine jl_iload_n hk (pc := 456) dL_law_456 3 rfl rfl ?_
  refine jl_iconst hk (pc := 457) (v := 3) dL_law_457 (by decide) ?_
  refine jl_iadd hk (pc := 458) dL_law_458 ?_
  refine jl_iald hk (pc := 459) h3 dL_law_459 ?_
  refine jl_aload_n hk (pc := 460) dL_law_460 0 rfl rfl ?_
  refine jl_iload_n hk (pc := 461) dL_law_461 3 rfl rfl ?_
  refine jl_iconst hk (pc := 462) (v := 4) dL_law_462 (by decide) ?_
  refine jl_iadd hk (pc := 463) dL_law_463 ?_
  refine jl_iald hk (pc := 464) h4 dL_law_464 ?_
  refine jl_mU hk (pc := 465) (np := 4) (r := (rc.1, μ')) [.int (xs (i + 1).toNatClampNeg), .int (xs (i + 2).toNatClampNeg), .int (xs (i + 3).toNatClampNeg), .int (xs (i + 4).toNatClampNeg)] (cc_m_deed l (jn J n2) μ (xs (i + 1).toNatClampNeg) (xs (i + 2).toNatClampNeg) (xs (i + 3).toNatClampNeg) (xs (i + 4).toNatClampNeg) (rc.1, μ') hmf) (lw_V q1757 q1758 q1759 q127 q1760) (by decide +kernel) rfl rfl dL_law_465 ⟨Nat.le_of_ble_eq_true rfl, Nat.le_of_ble_eq_true rfl⟩ (by (try dsimp only); omega) (by (try dsimp only); omega) (Nat.le_of_ble_eq_true rfl) ?_
  refine jl_eqT hk (pc := 468) 1843 dL_law_468 (by decide) rfl ?_
  refine jl_more (k1 := k + 2600) (n1 := n + 106600) (by (try dsimp only); omega) (by (try dsimp only); omega) ?_
  exact kk _ _ _ (hrel n2 g1 g2)
theorem lc_5 (hk : lk p s m b meth c G KK J A L xs) (hlt : l.stackTraces = false) (h1 : vp_in (i + 1) L) (h2 : vp_in (i + 2) L) (h3 : vp_in (i + 3) L) (h4 : vp_in (i + 4) L) (hk1 : k + 2600 ≤ 699883) (hk2 : n + 106600 ≤ 6971880) (hP : pLaw Rel 5 (xs (i + 1).toNatClampNeg) (xs (i + 2).toNatClampNeg) (xs (i + 3).toNatClampNeg) (xs (i + 4).toNatClampNeg) σ d μ)
    (kk : ∀ σ' d' μ', Rel σ' d' μ' → jl p l e s m b below meth c G J A Q (k + 2600) (n + 106600) σ' d' μ' 1843 [(0, .ref b), (1, .ref (ha G 0)), (2, .ref (gh J)), (3, .int i)] []) : jl p l e s m b below meth c G J A Q k n σ d μ 473 [(0, .ref b), (1, .ref (ha G 0)), (2, .ref (gh J)), (3, .int i)] [] := by
  obtain ⟨r, σ', d', μ', hc, hm, hrel, hg1, hg2⟩ := hP
  obtain ⟨rc, hf, he⟩ := Option.map_eq_some_iff.mp (show (f0_deedOf d σ (xs (i + 1).toNatClampNeg) (xs (i + 2).toNatClampNeg)).map (fun r => (r, σ, d)) = some (r, σ', d') from hc)
  obtain ⟨rfl, rfl, rfl⟩ : rc = r ∧ σ = σ' ∧ d = d' := ⟨congrArg (·.1) he, congrArg (·.2.1) he, congrArg (·.2.2) he⟩
  obtain ⟨rm, hmf, he2⟩ := Option.map_eq_some_iff.mp (show (m_deedOf μ (xs (i + 1).toNatClampNeg) (xs (i + 2).toNatClampNeg)).map (fun r => (r, μ)) = some (rc, μ') from hm)
  obtain ⟨hre, rfl⟩ : rm = rc ∧ μ = μ' := ⟨congrArg (·.1) he2, congrArg (·.2) he2⟩
  refine jl_aload_n hk (pc := 473) dL_law_473 1 rfl rfl ?_
  refine jl_aload_n hk (pc := 474) dL_law_474 0 rfl rfl ?_
  refine jl_iload_n hk (pc := 475) dL_law_475 3 rfl rfl ?_
  refine jl_iconst hk (pc := 476) (v := 1) dL_law_476 (by decide) ?_
  refine jl_iadd hk (pc := 477) dL_law_477 ?_
  refine jl_iald hk (pc := 478) h1 dL_law_478 ?_
  refine jl_aload_n hk (pc := 479) dL_law_479 0 rfl rfl ?_
  refine jl_iload_n hk (pc := 480) dL_law_480 3 rfl rfl ?_
  refine jl_iconst hk (pc := 481) (v := 2) dL_law_481 (by decide) ?_
  refine jl_iadd hk (pc := 482) dL_law_482 ?_
  refine jl_iald hk (pc := 483) h2 dL_law_483 ?_
  refine jl_R hk (pc := 484) (np := 2) (r := rc) [.int (xs (i + 1).toNatClampNeg), .int (xs (i + 2).toNatClampNeg)] (cc_f0_deedOf l hk.2.1 d σ (xs (i + 1).toNatClampNeg) (xs (i + 2).toNatClampNeg) rc hf) (lw_V q691 q692 q693 q118 q694) (by decide +kernel) rfl rfl dL_law_484 ⟨Nat.le_of_ble_eq_true rfl, Nat.le_of_ble_eq_true rfl⟩ (by (try dsimp only); omega) (by (try dsimp only); omega) (Nat.le_of_ble_eq_true rfl) (fun n2 g1 g2 => ?_)
  refine jl_aload_n hk (pc := 487) dL_law_487 2 rfl rfl ?_
  refine jl_aload_n hk (pc := 488) dL_law_488 0 rfl rfl ?_
  refine jl_iload_n hk (pc := 489) dL_law_489 3 rfl rfl ?_
  refine jl_iconst hk (pc := 490) (v := 1) dL_law_490 (by decide) ?_
  refine jl_iadd hk (pc := 491) dL_law_491 ?_
  refine jl_iald hk (pc := 492) h1 dL_law_492 ?_
  refine jl_aload_n hk (pc := 493) dL_law_493 0 rfl rfl ?_
  refine jl_iload_n hk (pc := 494) dL_law_494 3 rfl rfl ?_
  refine jl_iconst hk (pc := 495) (v := 2) dL_law_495 (by decide) ?_
  refine jl_iadd hk (pc := 496) dL_law_496 ?_
  refine jl_iald hk (pc := 497) h2 dL_law_497 ?_
  refine jl_mR hk (pc := 498) (np := 2) (r := rm) [.int (xs (i + 1).toNatClampNeg), .int (xs (i + 2).toNatClampNeg)] (cc_m_deedOf l (jn J n2) μ (xs (i + 1).toNatClampNeg) (xs (i + 2).toNatClampNeg) rm hmf) (lw_V q1766 q1767 q1768 q127 q1769) (by decide +kernel) rfl rfl dL_law_498 ⟨Nat.le_of_ble_eq_true rfl, Nat.le_of_ble_eq_true rfl⟩ (by (try dsimp only); omega) (by (try dsimp only); omega) (Nat.le_of_ble_eq_true rfl) ?_
  refine jl_eqT hk (pc := 501) 1843 dL_law_501 (by decide) hre.symm ?_
  refine jl_more (k1 := k + 2600) (n1 := n + 106600) (by (try dsimp only); omega) (by (try dsimp only); omega) ?_
  exact kk _ _ _ (hrel n2 g1 g2)
theorem lc_6 (hk : lk p s m b meth c G KK J A L xs) (hlt : l.stackTraces = false) (h1 : vp_in (i + 1) L) (h2 : vp_in (i + 2) L) (h3 : vp_in (i + 3) L) (h4 : vp_in (i + 4) L) (hk1 : k + 2600 ≤ 699883) (hk2 : n + 106600 ≤ 6971880) (hP : pLaw Rel 6 (xs (i + 1).toNatClampNeg) (xs (i + 2).toNatClampNeg) (xs (i + 3).toNatClampNeg) (xs (i + 4).toNatClampNeg) σ d μ)
    (kk : ∀ σ' d' μ', Rel σ' d' μ' → jl p l e s m b below meth c G J A Q (k + 2600) (n + 106600) σ' d' μ' 1843 [(0, .ref b), (1, .ref (ha G 0)), (2, .ref (gh J)), (3, .int i)] []) : jl p l e s m b below meth c G J A Q k n σ d μ 506 [(0, .ref b), (1, .ref (ha G 0)), (2, .ref (gh J)), (3, .int i)] [] := by
  obtain ⟨r, σ', d', μ', hc, hm, hrel, hg1, hg2⟩ := hP
  obtain ⟨rc, hf, he⟩ := Option.map_eq_some_iff.mp (show (f0_ends σ (xs (i + 1).toNatClampNeg)).map (fun r => (r.1, r.2, d)) = some (r, σ', d') from hc)
  obtain ⟨rfl, rfl, rfl⟩ : rc.1 = r ∧ rc.2 = σ' ∧ d = d' := ⟨congrArg (·.1) he, congrArg (·.2.1) he, congrArg (·.2.2) he⟩
  have hmf : m_ends μ (xs (i + 1).toNatClampNeg) = some (rc.1, μ') := hm
  refine jl_aload_n hk (pc := 506) dL_law_506 1 rfl rfl ?_
  refine jl_aload_n hk (pc := 507) dL_law_507 0 rfl rfl ?_
  refine jl_iload_n hk (pc := 508) dL_law_508 3 rfl rfl ?_
  refine jl_iconst hk (pc := 509) (v := 1) dL_law_509 (by decide) ?_
  refine jl_iadd hk (pc := 510) dL_law_510 ?_
  refine jl_iald hk (pc := 511) h1 dL_law_511 ?_
  refine jl_U hk (pc := 512) (np := 1) (r := rc) [.int (xs (i + 1).toNatClampNeg)] (cc_f0_ends l hk.2.1 d σ (xs (i + 1).toNatClampNeg) rc hf) (lw_V q695 q696 q697 q118 q698) (by decide +kernel) rfl rfl dL_law_512 ⟨Nat.le_of_ble_eq_true rfl, Nat.le_of_ble_eq_true rfl⟩ (by (try dsimp only); omega) (by (try dsimp only); omega) (Nat.le_of_ble_eq_true rfl) (fun n2 g1 g2 => ?_)
  refine jl_aload_n hk (pc := 515) dL_law_515 2 rfl rfl ?_
  refine jl_aload_n hk (pc := 516) dL_law_516 0 rfl rfl ?_
  refine jl_iload_n hk (pc := 517) dL_law_517 3 rfl rfl ?_
  refine jl_iconst hk (pc := 518) (v := 1) dL_law_518 (by decide) ?_
  refine jl_iadd hk (pc := 519) dL_law_519 ?_
  refine jl_iald hk (pc := 520) h1 dL_law_520 ?_
  refine jl_mU hk (pc := 521) (np := 1) (r := (rc.1, μ')) [.int (xs (i + 1).toNatClampNeg)] (cc_m_ends l (jn J n2) μ (xs (i + 1).toNatClampNeg) (rc.1, μ') hmf) (lw_V q1770 q1771 q1772 q127 q1773) (by decide +kernel) rfl rfl dL_law_521 ⟨Nat.le_of_ble_eq_true rfl, Nat.le_of_ble_eq_true rfl⟩ (by (try dsimp only); omega) (by (try dsimp only); omega) (Nat.le_of_ble_eq_true rfl) ?_
  refine jl_eqT hk (pc := 524) 1843 dL_law_524 (by decide) rfl ?_
  refine jl_more (k1 := k + 2600) (n1 := n + 106600) (by (try dsimp only); omega) (by (try dsimp only); omega) ?_
  exact kk _ _ _ (hrel n2 g1 g2)
theorem lc_7 (hk : lk p s m b meth c G KK J A L xs) (hlt : l.stackTraces = false) (h1 : vp_in (i + 1) L) (h2 : vp_in (i + 2) L) (h3 : vp_in (i + 3) L) (h4 : vp_in (i + 4) L) (hk1 : k + 2600 ≤ 699883) (hk2 : n + 106600 ≤ 6971880) (hP : pLaw Rel 7 (xs (i + 1).toNatClampNeg) (xs (i + 2).toNatClampNeg) (xs (i + 3).toNatClampNeg) (xs (i + 4).toNatClampNeg) σ d μ)
    (kk : ∀ σ' d' μ', Rel σ' d' μ' → jl p l e s m b below meth c G J A Q (k + 2600) (n + 106600) σ' d' μ' 1843 [(0, .ref b), (1, .ref (ha G 0)), (2, .ref (gh J)), (3, .int i)] []) : jl p l e s m b below meth c G J A Q k n σ d μ 529 [(0, .ref b), (1, .ref (ha G 0)), (2, .ref (gh J)), (3, .int i)] [] := by
  obtain ⟨r, σ', d', μ', hc, hm, hrel, hg1, hg2⟩ := hP
  obtain ⟨rc, hf, he⟩ := Option.map_eq_some_iff.mp (show (f0_anew 1000 σ).map (fun r => (r.1, r.2, d)) = some (r, σ', d') from hc)
  obtain ⟨rfl, rfl, rfl⟩ : rc.1 = r ∧ rc.2 = σ' ∧ d = d' := ⟨congrArg (·.1) he, congrArg (·.2.1) he, congrArg (·.2.2) he⟩
  have hmf : m_anew 1000 μ = some (rc.1, μ') := hm
  refine jl_aload_n hk (pc := 529) dL_law_529 1 rfl rfl ?_
  refine jl_U hk (pc := 530) (np := 0) (r := rc) [] (cc_f0_anew l hk.2.1 d 1000 σ rc hf) (lw_V q699 q700 q701 q118 q702) (by decide +kernel) rfl rfl dL_law_530 ⟨Nat.le_of_ble_eq_true rfl, Nat.le_of_ble_eq_true rfl⟩ (by (try dsimp only); omega) (by (try dsimp only); omega) (Nat.le_of_ble_eq_true rfl) (fun n2 g1 g2 => ?_)
  refine jl_aload_n hk (pc := 533) dL_law_533 2 rfl rfl ?_
  refine jl_mU hk (pc := 534) (np := 0) (r := (rc.1, μ')) [] (cc_m_anew l (jn J n2) 1000 μ (rc.1, μ') hmf) (lw_V q1775 q1776 q1777 q127 q1778) (by decide +kernel) rfl rfl dL_law_534 ⟨Nat.le_of_ble_eq_true rfl, Nat.le_of_ble_eq_true rfl⟩ (by (try dsimp only); omega) (by (try dsimp only); omega) (Nat.le_of_ble_eq_true rfl) ?_
  refine jl_eqT hk (pc := 537) 1843 dL_law_537 (by decide) rfl ?_
  refine jl_more (k1 := k + 2600) (n1 := n + 106600) (by (try dsimp only); omega) (by (try dsimp only); omega) ?_
  exact kk _ _ _ (hrel n2 g1 g2)
theorem lc_8 (hk : lk p s m b meth c G KK J A L xs) (hlt : l.stackTraces = false) (h1 : vp_in (i + 1) L) (h2 : vp_in (i + 2) L) (h3 : vp_in (i + 3) L) (h4 : vp_in (i + 4) L) (hk1 : k + 2600 ≤ 699883) (hk2 : n + 106600 ≤ 6971880) (hP : pLaw Rel 8 (xs (i + 1).toNatClampNeg) (xs (i + 2).toNatClampNeg) (xs (i + 3).toNatClampNeg) (xs (i + 4).toNatClampNeg) σ d μ)
    (kk : ∀ σ' d' μ', Rel σ' d' μ' → jl p l e s m b below meth c G J A Q (k + 2600) (n + 106600) σ' d' μ' 1843 [(0, .ref b), (1, .ref (ha G 0)), (2, .ref (gh J)), (3, .int i)] []) : jl p l e s m b below meth c G J A Q k n σ d μ 542 [(0, .ref b), (1, .ref (ha G 0)), (2, .ref (gh J)), (3, .int i)] [] := by
  obtain ⟨r, σ', d', μ', hc, hm, hrel, hg1, hg2⟩ := hP
  obtain ⟨rc, hf, he⟩ := Option.map_eq_some_iff.mp (show (f0_state σ (xs (i + 1).toNatClampNeg)).map (fun r => (r, σ, d)) = some (r, σ', d') from hc)
  obtain ⟨rfl, rfl, rfl⟩ : rc = r ∧ σ = σ' ∧ d = d' := ⟨congrArg (·.1) he, congrArg (·.2.1) he, congrArg (·.2.2) he⟩
  obtain ⟨rm, hmf, he2⟩ := Option.map_eq_some_iff.mp (show (m_state μ (xs (i + 1).toNatClampNeg)).map (fun r => (r, μ)) = some (rc, μ') from hm)
  obtain ⟨hre, rfl⟩ : rm = rc ∧ μ = μ' := ⟨congrArg (·.1) he2, congrArg (·.2) he2⟩
  refine jl_aload_n hk (pc := 542) dL_law_542 1 rfl rfl ?_
  refine jl_aload_n hk (pc := 543) dL_law_543 0 rfl rfl ?_
  refine jl_iload_n hk (pc := 544) dL_law_544 3 rfl rfl ?_
  refine jl_iconst hk (pc := 545) (v := 1) dL_law_545 (by decide) ?_
  refine jl_iadd hk (pc := 546) dL_law_546 ?_
  refine jl_iald hk (pc := 547) h1 dL_law_547 ?_
  refine jl_R hk (pc := 548) (np := 1) (r := rc) [.int (xs (i + 1).toNatClampNeg)] (cc_f0_state l hk.2.1 d σ (xs (i + 1).toNatClampNeg) rc hf) (lw_V q703 q704 q705 q118 q706) (by decide +kernel) rfl rfl dL_law_548 ⟨Nat.le_of_ble_eq_true rfl, Nat.le_of_ble_eq_true rfl⟩ (by (try dsimp only); omega) (by (try dsimp only); omega) (Nat.le_of_ble_eq_true rfl) (fun n2 g1 g2 => ?_)
  refine jl_aload_n hk (pc := 551) dL_law_551 2 rfl rfl ?_
  refine jl_aload_n hk (pc := 552) dL_law_552 0 rfl rfl ?_
  refine jl_iload_n hk (pc := 553) dL_law_553 3 rfl rfl ?_
  refine jl_iconst hk (pc := 554) (v := 1) dL_law_554 (by decide) ?_
  refine jl_iadd hk (pc := 555) dL_law_555 ?_
  refine jl_iald hk (pc := 556) h1 dL_law_556 ?_
  refine jl_mR hk (pc := 557) (np := 1) (r := rm) [.int (xs (i + 1).toNatClampNeg)] (cc_m_state l (jn J n2) μ (xs (i + 1).toNatClampNeg) rm hmf) (lw_V q1779 q1780 q1781 q127 q1782) (by decide +kernel) rfl rfl dL_law_557 ⟨Nat.le_of_ble_eq_true rfl, Nat.le_of_ble_eq_true rfl⟩ (by (try dsimp only); omega) (by (try dsimp only); omega) (Nat.le_of_ble_eq_true rfl) ?_
  refine jl_eqT hk (pc := 560) 1843 dL_law_560 (by decide) hre.symm ?_
  refine jl_more (k1 := k + 2600) (n1 := n + 106600) (by (try dsimp only); omega) (by (try dsimp only); omega) ?_
  exact kk _ _ _ (hrel n2 g1 g2)
theorem lc_9 (hk : lk p s m b meth c G KK J A L xs) (hlt : l.stackTraces = false) (h1 : vp_in (i + 1) L) (h2 : vp_in (i + 2) L) (h3 : vp_in (i + 3) L) (h4 : vp_in (i + 4) L) (hk1 : k + 2600 ≤ 699883) (hk2 : n + 106600 ≤ 6971880) (hP : pLaw Rel 9 (xs (i + 1).toNatClampNeg) (xs (i + 2).toNatClampNeg) (xs (i + 3).toNatClampNeg) (xs (i + 4).toNatClampNeg) σ d μ)
    (kk : ∀ σ' d' μ', Rel σ' d' μ' → jl p l e s m b below meth c G J A Q (k + 2600) (n + 106600) σ' d' μ' 1843 [(0, .ref b), (1, .ref (ha G 0)), (2, .ref (gh J)), (3, .int i)] []) : jl p l e s m b below meth c G J A Q k n σ d μ 565 [(0, .ref b), (1, .ref (ha G 0)), (2, .ref (gh J)), (3, .int i)] [] := by
  obtain ⟨r, σ', d', μ', hc, hm, hrel, hg1, hg2⟩ := hP
  obtain ⟨rc, hf, he⟩ := Option.map_eq_some_iff.mp (show (f0_feed 1000 σ (lF (xs (i + 1).toNatClampNeg) (xs (i + 2).toNatClampNeg)) (xs (i + 3).toNatClampNeg)).map (fun r => (r.1, r.2, d)) = some (r, σ', d') from hc)
  obtain ⟨rfl, rfl, rfl⟩ : rc.1 = r ∧ rc.2 = σ' ∧ d = d' := ⟨congrArg (·.1) he, congrArg (·.2.1) he, congrArg (·.2.2) he⟩
  have hmf : m_feed 1000 μ (lF (xs (i + 1).toNatClampNeg) (xs (i + 2).toNatClampNeg)) (xs (i + 3).toNatClampNeg) = some (rc.1, μ') := hm
  refine jl_aload_n hk (pc := 565) dL_law_565 1 rfl rfl ?_
  refine jl_aload_n hk (pc := 566) dL_law_566 0 rfl rfl ?_
  refine jl_iload_n hk (pc := 567) dL_law_567 3 rfl rfl ?_
  refine jl_iconst hk (pc := 568) (v := 1) dL_law_568 (by decide) ?_
  refine jl_iadd hk (pc := 569) dL_law_569 ?_
  refine jl_iald hk (pc := 570) h1 dL_law_570 ?_
  refine jl_i2l hk (pc := 571) dL_law_571 ?_
  refine jl_bipush hk (pc := 572) (v := 32) dL_law_572 (by decide) ?_
  refine jl_lshl hk (pc := 574) dL_law_574 ?_
  refine jl_aload_n hk (pc := 575) dL_law_575 0 rfl rfl ?_
  refine jl_iload_n hk (pc := 576) dL_law_576 3 rfl rfl ?_
  refine jl_iconst hk (pc := 577) (v := 2) dL_law_577 (by decide) ?_
  refine jl_iadd hk (pc := 578) dL_law_578 ?_
  refine jl_iald hk (pc := 579) h2 dL_law_579 ?_
  refine jl_i2l hk (pc := 580) dL_law_580 ?_
  refine jl_ldc2 hk (pc := 581) q2227 dL_law_581 ?_
  refine jl_land hk (pc := 584) dL_law_584 ?_
  refine jl_lor hk (pc := 585) dL_law_585 ?_
  refine jl_aload_n hk (pc := 586) dL_law_586 0 rfl rfl ?_
  refine jl_iload_n hk (pc := 587) dL_law_587 3 rfl rfl ?_
  refine jl_iconst hk (pc := 588) (v := 3) dL_law_588 (by decide) ?_
  refine jl_iadd hk (pc := 589) dL_law_589 ?_
  refine jl_iald hk (pc := 590) h3 dL_law_590 ?_
  refine jl_U hk (pc := 591) (np := 2) (r := rc) [.long (lF (xs (i + 1).toNatClampNeg) (xs (i + 2).toNatClampNeg)), .int (xs (i + 3).toNatClampNeg)] (cc_f0_feed l hk.2.1 d 1000 σ (lF (xs (i + 1).toNatClampNeg) (xs (i + 2).toNatClampNeg)) (xs (i + 3).toNatClampNeg) rc hf) (lw_V q711 q712 q713 q118 q714) (by decide +kernel) rfl rfl dL_law_591 ⟨Nat.le_of_ble_eq_true rfl, Nat.le_of_ble_eq_true rfl⟩ (by (try dsimp only); omega) (by (try dsimp only); omega) (Nat.le_of_ble_eq_true rfl) (fun n2 g1 g2 => ?_)
  refine jl_aload_n hk (pc := 594) dL_law_594 2 rfl rfl ?_
  refine jl_aload_n hk (pc := 595) dL_law_595 0 rfl rfl ?_
  refine jl_iload_n hk (pc := 596) dL_law_596 3 rfl rfl ?_
  refine jl_iconst hk (pc := 597) (v := 1) dL_law_597 (by decide) ?_
  refine jl_iadd hk (pc := 598) dL_law_598 ?_
  refine jl_iald hk (pc := 599) h1 dL_law_599 ?_
  refine jl_i2l hk (pc := 600) dL_law_600 ?_
  refine jl_bipush hk (pc := 601) (v := 32) dL_law_601 (by decide) ?_
  refine jl_lshl hk (pc := 603) dL_law_603 ?_
  refine jl_aload_n hk (pc := 604) dL_law_604 0 rfl rfl ?_
  refine jl_iload_n hk (pc := 605) dL_law_605 3 rfl rfl ?_
  refine jl_iconst hk (pc := 606) (v := 2) dL_law_606 (by decide) ?_
  refine jl_iadd hk (pc := 607) dL_law_607 ?_
  refine jl_iald hk (pc := 608) h2 dL_law_608 ?_
  refine jl_i2l hk (pc := 609) dL_law_609 ?_
  refine jl_ldc2 hk (pc := 610) q2227 dL_law_610 ?_
  refine jl_land hk (pc := 613) dL_law_613 ?_
  refine jl_lor hk (pc := 614) dL_law_614 ?_
  refine jl_aload_n hk (pc := 615) dL_law_615 0 rfl rfl ?_
  refine jl_iload_n hk (pc := 616) dL_law_616 3 rfl rfl ?_
  refine jl_iconst hk (pc := 617) (v := 3) dL_law_617 (by decide) ?_
  refine jl_iadd hk (pc := 618) dL_law_618 ?_
  refine jl_iald hk (pc := 619) h3 dL_law_619 ?_
  refine jl_mU hk (pc := 620) (np := 2) (r := (rc.1, μ')) [.long (lF (xs (i + 1).toNatClampNeg) (xs (i + 2).toNatClampNeg)), .int (xs (i + 3).toNatClampNeg)] (cc_m_feed l (jn J n2) 1000 μ (lF (xs (i + 1).toNatClampNeg) (xs (i + 2).toNatClampNeg)) (xs (i + 3).toNatClampNeg) (rc.1, μ') hmf) (lw_V q2025 q2026 q2027 q127 q2028) (by decide +kernel) rfl rfl dL_law_620 ⟨Nat.le_of_ble_eq_true rfl, Nat.le_of_ble_eq_true rfl⟩ (by (try dsimp only); omega) (by (try dsimp only); omega) (Nat.le_of_ble_eq_true rfl) ?_
  refine jl_eqT hk (pc := 623) 1843 dL_law_623 (by decide) rfl ?_
  refine jl_more (k1 := k + 2600) (n1 := n + 106600) (by (try dsimp only); omega) (by (try dsimp only); omega) ?_
  exact kk _ _ _ (hrel n2 g1 g2)
theorem lc_10 (hk : lk p s m b meth c G KK J A L xs) (hlt : l.stackTraces = false) (h1 : vp_in (i + 1) L) (h2 : vp_in (i + 2) L) (h3 : vp_in (i + 3) L) (h4 : vp_in (i + 4) L) (hk1 : k + 2600 ≤ 699883) (hk2 : n + 106600 ≤ 6971880) (hP : pLaw Rel 10 (xs (i + 1).toNatClampNeg) (xs (i + 2).toNatClampNeg) (xs (i + 3).toNatClampNeg) (xs (i + 4).toNatClampNeg) σ d μ)
    (kk : ∀ σ' d' μ', Rel σ' d' μ' → jl p l e s m b below meth c G J A Q (k + 2600) (n + 106600) σ' d' μ' 1843 [(0, .ref b), (1, .ref (ha G 0)), (2, .ref (gh J)), (3, .int i)] []) : jl p l e s m b below meth c G J A Q k n σ d μ 628 [(0, .ref b), (1, .ref (ha G 0)), (2, .ref (gh J)), (3, .int i)] [] := by
  obtain ⟨r, σ', d', μ', hc, hm, hrel, hg1, hg2⟩ := hP
  have hf : f0_rules 1000 σ d = some (r, σ', d') := hc
  have hmf : m_rules 1000 μ = some (r, μ') := hm
  refine jl_aload_n hk (pc := 628) dL_law_628 1 rfl rfl ?_
  refine jl_AW hk (pc := 629) (np := 0) (r := (r, σ', d')) [] (cc_f0_rules l hk.2.1 1000 σ d (r, σ', d') hf) (lw_VW q715 q716 q717 q118 q718) (by decide +kernel) rfl rfl dL_law_629 ⟨Nat.le_of_ble_eq_true rfl, Nat.le_of_ble_eq_true rfl⟩ (by (try dsimp only); omega) (by (try dsimp only); omega) (Nat.le_of_ble_eq_true rfl) (fun n2 g1 g2 => ?_)
  refine jl_aload_n hk (pc := 632) dL_law_632 2 rfl rfl ?_
  refine jl_mU hk (pc := 633) (np := 0) (r := (r, μ')) [] (cc_m_rules l (jn J n2) 1000 μ (r, μ') hmf) (lw_V q2031 q2032 q2033 q127 q2034) (by decide +kernel) rfl rfl dL_law_633 ⟨Nat.le_of_ble_eq_true rfl, Nat.le_of_ble_eq_true rfl⟩ (by (try dsimp only); omega) (by (try dsimp only); omega) (Nat.le_of_ble_eq_true rfl) ?_
  refine jl_eqT hk (pc := 636) 1843 dL_law_636 (by decide) rfl ?_
  refine jl_more (k1 := k + 2600) (n1 := n + 106600) (by (try dsimp only); omega) (by (try dsimp only); omega) ?_
  exact kk _ _ _ (hrel n2 g1 g2)
theorem lc_11 (hk : lk p s m b meth c G KK J A L xs) (hlt : l.stackTraces = false) (h1 : vp_in (i + 1) L) (h2 : vp_in (i + 2) L) (h3 : vp_in (i + 3) L) (h4 : vp_in (i + 4) L) (hk1 : k + 2600 ≤ 699883) (hk2 : n + 106600 ≤ 6971880) (hP : pLaw Rel 11 (xs (i + 1).toNatClampNeg) (xs (i + 2).toNatClampNeg) (xs (i + 3).toNatClampNeg) (xs (i + 4).toNatClampNeg) σ d μ)
    (kk : ∀ σ' d' μ', Rel σ' d' μ' → jl p l e s m b below meth c G J A Q (k + 2600) (n + 106600) σ' d' μ' 1843 [(0, .ref b), (1, .ref (ha G 0)), (2, .ref (gh J)), (3, .int i)] []) : jl p l e s m b below meth c G J A Q k n σ d μ 641 [(0, .ref b), (1, .ref (ha G 0)), (2, .ref (gh J)), (3, .int i)] [] := by
  obtain ⟨r, σ', d', μ', hc, hm, hrel, hg1, hg2⟩ := hP
  obtain ⟨rc, hf, he⟩ := Option.map_eq_some_iff.mp (show (f0_year 1000 d σ).map (fun r => (r.1, r.2, d)) = some (r, σ', d') from hc)
  obtain ⟨rfl, rfl, rfl⟩ : rc.1 = r ∧ rc.2 = σ' ∧ d = d' := ⟨congrArg (·.1) he, congrArg (·.2.1) he, congrArg (·.2.2) he⟩
  have hmf : m_year 1000 μ = some (rc.1, μ') := hm
  refine jl_aload_n hk (pc := 641) dL_law_641 1 rfl rfl ?_
  refine jl_U hk (pc := 642) (np := 0) (r := rc) [] (cc_f0_year l hk.2.1 d 1000 σ rc hf) (lw_V q933 q934 q935 q118 q936) (by decide +kernel) rfl rfl dL_law_642 ⟨Nat.le_of_ble_eq_true rfl, Nat.le_of_ble_eq_true rfl⟩ (by (try dsimp only); omega) (by (try dsimp only); omega) (Nat.le_of_ble_eq_true rfl) (fun n2 g1 g2 => ?_)
  refine jl_aload_n hk (pc := 645) dL_law_645 2 rfl rfl ?_
  refine jl_mU hk (pc := 646) (np := 0) (r := (rc.1, μ')) [] (cc_m_year l (jn J n2) 1000 μ (rc.1, μ') hmf) (lw_V q1787 q1788 q1789 q127 q1790) (by decide +kernel) rfl rfl dL_law_646 ⟨Nat.le_of_ble_eq_true rfl, Nat.le_of_ble_eq_true rfl⟩ (by (try dsimp only); omega) (by (try dsimp only); omega) (Nat.le_of_ble_eq_true rfl) ?_
  refine jl_eqT hk (pc := 649) 1843 dL_law_649 (by decide) rfl ?_
  refine jl_more (k1 := k + 2600) (n1 := n + 106600) (by (try dsimp only); omega) (by (try dsimp only); omega) ?_
  exact kk _ _ _ (hrel n2 g1 g2)
theorem lc_12 (hk : lk p s m b meth c G KK J A L xs) (hlt : l.stackTraces = false) (h1 : vp_in (i + 1) L) (h2 : vp_in (i + 2) L) (h3 : vp_in (i + 3) L) (h4 : vp_in (i + 4) L) (hk1 : k + 2600 ≤ 699883) (hk2 : n + 106600 ≤ 6971880) (hP : pLaw Rel 12 (xs (i + 1).toNatClampNeg) (xs (i + 2).toNatClampNeg) (xs (i + 3).toNatClampNeg) (xs (i + 4).toNatClampNeg) σ d μ)
    (kk : ∀ σ' d' μ', Rel σ' d' μ' → jl p l e s m b below meth c G J A Q (k + 2600) (n + 106600) σ' d' μ' 1843 [(0, .ref b), (1, .ref (ha G 0)), (2, .ref (gh J)), (3, .int i)] []) : jl p l e s m b below meth c G J A Q k n σ d μ 654 [(0, .ref b), (1, .ref (ha G 0)), (2, .ref (gh J)), (3, .int i)] [] := by
  obtain ⟨r, σ', d', μ', hc, hm, hrel, hg1, hg2⟩ := hP
  obtain ⟨rc, hf, he⟩ := Option.map_eq_some_iff.mp (show (f0_standing 1000 σ (xs (i + 1).toNatClampNeg)).map (fun r => (r, σ, d)) = some (r, σ', d') from hc)
  obtain ⟨rfl, rfl, rfl⟩ : rc = r ∧ σ = σ' ∧ d = d' := ⟨congrArg (·.1) he, congrArg (·.2.1) he, congrArg (·.2.2) he⟩
  obtain ⟨rm, hmf, he2⟩ := Option.map_eq_some_iff.mp (show (m_standing 1000 μ (xs (i + 1).toNatClampNeg)).map (fun r => (r, μ)) = some (rc, μ') from hm)
  obtain ⟨hre, rfl⟩ : rm = rc ∧ μ = μ' := ⟨congrArg (·.1) he2, congrArg (·.2) he2⟩
  refine jl_aload_n hk (pc := 654) dL_law_654 1 rfl rfl ?_
  refine jl_aload_n hk (pc := 655) dL_law_655 0 rfl rfl ?_
  refine jl_iload_n hk (pc := 656) dL_law_656 3 rfl rfl ?_
  refine jl_iconst hk (pc := 657) (v := 1) dL_law_657 (by decide) ?_
  refine jl_iadd hk (pc := 658) dL_law_658 ?_
  refine jl_iald hk (pc := 659) h1 dL_law_659 ?_
  refine jl_R hk (pc := 660) (np := 1) (r := rc) [.int (xs (i + 1).toNatClampNeg)] (cc_f0_standing l hk.2.1 d 1000 σ (xs (i + 1).toNatClampNeg) rc hf) (lw_V q957 q958 q959 q118 q960) (by decide +kernel) rfl rfl dL_law_660 ⟨Nat.le_of_ble_eq_true rfl, Nat.le_of_ble_eq_true rfl⟩ (by (try dsimp only); omega) (by (try dsimp only); omega) (Nat.le_of_ble_eq_true rfl) (fun n2 g1 g2 => ?_)
  refine jl_aload_n hk (pc := 663) dL_law_663 2 rfl rfl ?_
  refine jl_aload_n hk (pc := 664) dL_law_664 0 rfl rfl ?_
  refine jl_iload_n hk (pc := 665) dL_law_665 3 rfl rfl ?_
  refine jl_iconst hk (pc := 666) (v := 1) dL_law_666 (by decide) ?_
  refine jl_iadd hk (pc := 667) dL_law_667 ?_
  refine jl_iald hk (pc := 668) h1 dL_law_668 ?_
  refine jl_mR hk (pc := 669) (np := 1) (r := rm) [.int (xs (i + 1).toNatClampNeg)] (cc_m_standing l (jn J n2) 1000 μ (xs (i + 1).toNatClampNeg) rm hmf) (lw_V q1799 q1800 q1801 q127 q1802) (by decide +kernel) rfl rfl dL_law_669 ⟨Nat.le_of_ble_eq_true rfl, Nat.le_of_ble_eq_true rfl⟩ (by (try dsimp only); omega) (by (try dsimp only); omega) (Nat.le_of_ble_eq_true rfl) ?_
  refine jl_eqT hk (pc := 672) 1843 dL_law_672 (by decide) hre.symm ?_
  refine jl_more (k1 := k + 2600) (n1 := n + 106600) (by (try dsimp only); omega) (by (try dsimp only); omega) ?_
  exact kk _ _ _ (hrel n2 g1 g2)
theorem lc_13 (hk : lk p s m b meth c G KK J A L xs) (hlt : l.stackTraces = false) (h1 : vp_in (i + 1) L) (h2 : vp_in (i + 2) L) (h3 : vp_in (i + 3) L) (h4 : vp_in (i + 4) L) (hk1 : k + 2600 ≤ 699883) (hk2 : n + 106600 ≤ 6971880) (hP : pLaw Rel 13 (xs (i + 1).toNatClampNeg) (xs (i + 2).toNatClampNeg) (xs (i + 3).toNatClampNeg) (xs (i + 4).toNatClampNeg) σ d μ)
    (kk : ∀ σ' d' μ', Rel σ' d' μ' → jl p l e s m b below meth c G J A Q (k + 2600) (n + 106600) σ' d' μ' 1843 [(0, .ref b), (1, .ref (ha G 0)), (2, .ref (gh J)), (3, .int i)] []) : jl p l e s m b below meth c G J A Q k n σ d μ 677 [(0, .ref b), (1, .ref (ha G 0)), (2, .ref (gh J)), (3, .int i)] [] := by
  obtain ⟨r, σ', d', μ', hc, hm, hrel, hg1, hg2⟩ := hP
  obtain ⟨rc, hf, he⟩ := Option.map_eq_some_iff.mp (show (f0_leaves 1000 d σ (xs (i + 1).toNatClampNeg)).map (fun r => (r.1, r.2, d)) = some (r, σ', d') from hc)
  obtain ⟨rfl, rfl, rfl⟩ : rc.1 = r ∧ rc.2 = σ' ∧ d = d' := ⟨congrArg (·.1) he, congrArg (·.2.1) he, congrArg (·.2.2) he⟩
  have hmf : m_leaves 1000 μ (xs (i + 1).toNatClampNeg) = some (rc.1, μ') := hm
  refine jl_aload_n hk (pc := 677) dL_law_677 1 rfl rfl ?_
  refine jl_aload_n hk (pc := 678) dL_law_678 0 rfl rfl ?_
  refine jl_iload_n hk (pc := 679) dL_law_679 3 rfl rfl ?_
  refine jl_iconst hk (pc := 680) (v := 1) dL_law_680 (by decide) ?_
  refine jl_iadd hk (pc := 681) dL_law_681 ?_
  refine jl_iald hk (pc := 682) h1 dL_law_682 ?_
  refine jl_U hk (pc := 683) (np := 1) (r := rc) [.int (xs (i + 1).toNatClampNeg)] (cc_f0_leaves l hk.2.1 d 1000 σ (xs (i + 1).toNatClampNeg) rc hf) (lw_V q965 q966 q967 q118 q968) (by decide +kernel) rfl rfl dL_law_683 ⟨Nat.le_of_ble_eq_true rfl, Nat.le_of_ble_eq_true rfl⟩ (by (try dsimp only); omega) (by (try dsimp only); omega) (Nat.le_of_ble_eq_true rfl) (fun n2 g1 g2 => ?_)
  refine jl_aload_n hk (pc := 686) dL_law_686 2 rfl rfl ?_
  refine jl_aload_n hk (pc := 687) dL_law_687 0 rfl rfl ?_
  refine jl_iload_n hk (pc := 688) dL_law_688 3 rfl rfl ?_
  refine jl_iconst hk (pc := 689) (v := 1) dL_law_689 (by decide) ?_
  refine jl_iadd hk (pc := 690) dL_law_690 ?_
  refine jl_iald hk (pc := 691) h1 dL_law_691 ?_
  refine jl_mU hk (pc := 692) (np := 1) (r := (rc.1, μ')) [.int (xs (i + 1).toNatClampNeg)] (cc_m_leaves l (jn J n2) 1000 μ (xs (i + 1).toNatClampNeg) (rc.1, μ') hmf) (lw_V q1808 q1809 q1810 q127 q1811) (by decide +kernel) rfl rfl dL_law_692 ⟨Nat.le_of_ble_eq_true rfl, Nat.le_of_ble_eq_true rfl⟩ (by (try dsimp only); omega) (by (try dsimp only); omega) (Nat.le_of_ble_eq_true rfl) ?_
  refine jl_eqT hk (pc := 695) 1843 dL_law_695 (by decide) rfl ?_
  refine jl_more (k1 := k + 2600) (n1 := n + 106600) (by (try dsimp only); omega) (by (try dsimp only); omega) ?_
  exact kk _ _ _ (hrel n2 g1 g2)
end
