/-! THE LAW, CASE BY CASE -/
set_option maxRecDepth 100000
set_option maxHeartbeats 1000000
section
variable {p : Program} {l : Launch} {e : Env} {s : State} {m : MethodId} {b : Nat} {below : List Frame} {meth : Method} {c : Code} {G : cG} {KK : State → Prop} {J : jG} {A : Nat → Prop} {L : Nat} {xs : Nat → Int32} {Q : State → Prop} {k n : Nat} {σ : SS} {d : DS} {μ : MS} {i : Int32} {Rel : SS → DS → MS → Prop}
theorem lc_42 (hk : lk p s m b meth c G KK J A L xs) (hlt : l.stackTraces = false) (h1 : vp_in (i + 1) L) (h2 : vp_in (i + 2) L) (h3 : vp_in (i + 3) L) (h4 : vp_in (i + 4) L) (hk1 : k + 2600 ≤ 699883) (hk2 : n + 106600 ≤ 6971880) (hP : pLaw Rel 42 (xs (i + 1).toNatClampNeg) (xs (i + 2).toNatClampNeg) (xs (i + 3).toNatClampNeg) (xs (i + 4).toNatClampNeg) σ d μ)
    (kk : ∀ σ' d' μ', Rel σ' d' μ' → jl p l e s m b below meth c G J A Q (k + 2600) (n + 106600) σ' d' μ' 1843 [(0, .ref b), (1, .ref (ha G 0)), (2, .ref (gh J)), (3, .int i)] []) : jl p l e s m b below meth c G J A Q k n σ d μ 1424 [(0, .ref b), (1, .ref (ha G 0)), (2, .ref (gh J)), (3, .int i)] [] := by
  obtain ⟨r, σ', d', μ', hc, hm, hrel, hg1, hg2⟩ := hP
  obtain ⟨rc, hf, he⟩ := Option.map_eq_some_iff.mp (show (f0_judge 1000 d σ).map (fun r => (r.1, r.2, d)) = some (r, σ', d') from hc)
  obtain ⟨rfl, rfl, rfl⟩ : rc.1 = r ∧ rc.2 = σ' ∧ d = d' := ⟨congrArg (·.1) he, congrArg (·.2.1) he, congrArg (·.2.2) he⟩
  have hmf : m_judge 1000 μ = some (rc.1, μ') := hm
  refine jl_aload_n hk (pc := 1424) dL_law_1424 1 rfl rfl ?_
  refine jl_UW hk (pc := 1425) (np := 0) (r := rc) [] (cc_f0_judge l hk.2.1 d 1000 σ rc hf) (lw_VW q1183 q1184 q1185 q118 q1186) (by decide +kernel) rfl rfl dL_law_1425 ⟨Nat.le_of_ble_eq_true rfl, Nat.le_of_ble_eq_true rfl⟩ (by (try dsimp only); omega) (by (try dsimp only); omega) (Nat.le_of_ble_eq_true rfl) (fun n2 g1 g2 => ?_)
  refine jl_aload_n hk (pc := 1428) dL_law_1428 2 rfl rfl ?_
  refine jl_mU hk (pc := 1429) (np := 0) (r := (rc.1, μ')) [] (cc_m_judge l (jn J n2) 1000 μ (rc.1, μ') hmf) (lw_V q2017 q2018 q2019 q127 q2020) (by decide +kernel) rfl rfl dL_law_1429 ⟨Nat.le_of_ble_eq_true rfl, Nat.le_of_ble_eq_true rfl⟩ (by (try dsimp only); omega) (by (try dsimp only); omega) (Nat.le_of_ble_eq_true rfl) ?_
  refine jl_eqT hk (pc := 1432) 1843 dL_law_1432 (by decide) rfl ?_
  refine jl_more (k1 := k + 2600) (n1 := n + 106600) (by (try dsimp only); omega) (by (try dsimp only); omega) ?_
  exact kk _ _ _ (hrel n2 g1 g2)
theorem lc_43 (hk : lk p s m b meth c G KK J A L xs) (hlt : l.stackTraces = false) (h1 : vp_in (i + 1) L) (h2 : vp_in (i + 2) L) (h3 : vp_in (i + 3) L) (h4 : vp_in (i + 4) L) (hk1 : k + 2600 ≤ 699883) (hk2 : n + 106600 ≤ 6971880) (hP : pLaw Rel 43 (xs (i + 1).toNatClampNeg) (xs (i + 2).toNatClampNeg) (xs (i + 3).toNatClampNeg) (xs (i + 4).toNatClampNeg) σ d μ)
    (kk : ∀ σ' d' μ', Rel σ' d' μ' → jl p l e s m b below meth c G J A Q (k + 2600) (n + 106600) σ' d' μ' 1843 [(0, .ref b), (1, .ref (ha G 0)), (2, .ref (gh J)), (3, .int i)] []) : jl p l e s m b below meth c G J A Q k n σ d μ 1437 [(0, .ref b), (1, .ref (ha G 0)), (2, .ref (gh J)), (3, .int i)] [] := by
  obtain ⟨r, σ', d', μ', hc, hm, hrel, hg1, hg2⟩ := hP
  have hf : f0_sheet σ d (xs (i + 1).toNatClampNeg) (xs (i + 2).toNatClampNeg) (xs (i + 3).toNatClampNeg) = some (r, σ', d') := hc
  have hmf : m_sheet 1000 μ (xs (i + 1).toNatClampNeg) (xs (i + 2).toNatClampNeg) (xs (i + 3).toNatClampNeg) = some (r, μ') := hm
  refine jl_aload_n hk (pc := 1437) dL_law_1437 1 rfl rfl ?_
  refine jl_aload_n hk (pc := 1438) dL_law_1438 0 rfl rfl ?_
  refine jl_iload_n hk (pc := 1439) dL_law_1439 3 rfl rfl ?_
  refine jl_iconst hk (pc := 1440) (v := 1) dL_law_1440 (by decide) ?_
  refine jl_iadd hk (pc := 1441) dL_law_1441 ?_
  refine jl_iald hk (pc := 1442) h1 dL_law_1442 ?_
  refine jl_aload_n hk (pc := 1443) dL_law_1443 0 rfl rfl ?_
  refine jl_iload_n hk (pc := 1444) dL_law_1444 3 rfl rfl ?_
  refine jl_iconst hk (pc := 1445) (v := 2) dL_law_1445 (by decide) ?_
  refine jl_iadd hk (pc := 1446) dL_law_1446 ?_
  refine jl_iald hk (pc := 1447) h2 dL_law_1447 ?_
  refine jl_aload_n hk (pc := 1448) dL_law_1448 0 rfl rfl ?_
  refine jl_iload_n hk (pc := 1449) dL_law_1449 3 rfl rfl ?_
  refine jl_iconst hk (pc := 1450) (v := 3) dL_law_1450 (by decide) ?_
  refine jl_iadd hk (pc := 1451) dL_law_1451 ?_
  refine jl_iald hk (pc := 1452) h3 dL_law_1452 ?_
  refine jl_SW hk (pc := 1453) (np := 3) (r := (r, σ', d')) [.int (xs (i + 1).toNatClampNeg), .int (xs (i + 2).toNatClampNeg), .int (xs (i + 3).toNatClampNeg)] (cc_f0_sheet l hlt hk.2.1 σ d (xs (i + 1).toNatClampNeg) (xs (i + 2).toNatClampNeg) (xs (i + 3).toNatClampNeg) (r, σ', d') hf) (lw_VW q1191 q1192 q1193 q118 q1194) (by decide +kernel) rfl rfl dL_law_1453 ⟨Nat.le_of_ble_eq_true rfl, Nat.le_of_ble_eq_true rfl⟩ (by (try dsimp only); omega) (by (try dsimp only); omega) (Nat.le_of_ble_eq_true rfl) (fun n2 g1 g2 => ?_)
  refine jl_aload_n hk (pc := 1456) dL_law_1456 2 rfl rfl ?_
  refine jl_aload_n hk (pc := 1457) dL_law_1457 0 rfl rfl ?_
  refine jl_iload_n hk (pc := 1458) dL_law_1458 3 rfl rfl ?_
  refine jl_iconst hk (pc := 1459) (v := 1) dL_law_1459 (by decide) ?_
  refine jl_iadd hk (pc := 1460) dL_law_1460 ?_
  refine jl_iald hk (pc := 1461) h1 dL_law_1461 ?_
  refine jl_aload_n hk (pc := 1462) dL_law_1462 0 rfl rfl ?_
  refine jl_iload_n hk (pc := 1463) dL_law_1463 3 rfl rfl ?_
  refine jl_iconst hk (pc := 1464) (v := 2) dL_law_1464 (by decide) ?_
  refine jl_iadd hk (pc := 1465) dL_law_1465 ?_
  refine jl_iald hk (pc := 1466) h2 dL_law_1466 ?_
  refine jl_aload_n hk (pc := 1467) dL_law_1467 0 rfl rfl ?_
  refine jl_iload_n hk (pc := 1468) dL_law_1468 3 rfl rfl ?_
  refine jl_iconst hk (pc := 1469) (v := 3) dL_law_1469 (by decide) ?_
  refine jl_iadd hk (pc := 1470) dL_law_1470 ?_
  refine jl_iald hk (pc := 1471) h3 dL_law_1471 ?_
  refine jl_mU hk (pc := 1472) (np := 3) (r := (r, μ')) [.int (xs (i + 1).toNatClampNeg), .int (xs (i + 2).toNatClampNeg), .int (xs (i + 3).toNatClampNeg)] (cc_m_sheet l (jn J n2) 1000 μ (xs (i + 1).toNatClampNeg) (xs (i + 2).toNatClampNeg) (xs (i + 3).toNatClampNeg) (r, μ') hmf) (lw_V q2121 q2122 q2123 q127 q2124) (by decide +kernel) rfl rfl dL_law_1472 ⟨Nat.le_of_ble_eq_true rfl, Nat.le_of_ble_eq_true rfl⟩ (by (try dsimp only); omega) (by (try dsimp only); omega) (Nat.le_of_ble_eq_true rfl) ?_
  refine jl_eqT hk (pc := 1475) 1843 dL_law_1475 (by decide) rfl ?_
  refine jl_more (k1 := k + 2600) (n1 := n + 106600) (by (try dsimp only); omega) (by (try dsimp only); omega) ?_
  exact kk _ _ _ (hrel n2 g1 g2)
theorem lc_44 (hk : lk p s m b meth c G KK J A L xs) (hlt : l.stackTraces = false) (h1 : vp_in (i + 1) L) (h2 : vp_in (i + 2) L) (h3 : vp_in (i + 3) L) (h4 : vp_in (i + 4) L) (hk1 : k + 2600 ≤ 699883) (hk2 : n + 106600 ≤ 6971880) (hP : pLaw Rel 44 (xs (i + 1).toNatClampNeg) (xs (i + 2).toNatClampNeg) (xs (i + 3).toNatClampNeg) (xs (i + 4).toNatClampNeg) σ d μ)
    (kk : ∀ σ' d' μ', Rel σ' d' μ' → jl p l e s m b below meth c G J A Q (k + 2600) (n + 106600) σ' d' μ' 1843 [(0, .ref b), (1, .ref (ha G 0)), (2, .ref (gh J)), (3, .int i)] []) : jl p l e s m b below meth c G J A Q k n σ d μ 1480 [(0, .ref b), (1, .ref (ha G 0)), (2, .ref (gh J)), (3, .int i)] [] := by
  obtain ⟨r, σ', d', μ', hc, hm, hrel, hg1, hg2⟩ := hP
  have hf : f0_write σ d (xs (i + 1).toNatClampNeg) (xs (i + 2).toNatClampNeg) (xs (i + 3).toNatClampNeg) = some (r, σ', d') := hc
  have hmf : m_write μ (xs (i + 1).toNatClampNeg) (xs (i + 2).toNatClampNeg) (xs (i + 3).toNatClampNeg) = some (r, μ') := hm
  refine jl_aload_n hk (pc := 1480) dL_law_1480 1 rfl rfl ?_
  refine jl_aload_n hk (pc := 1481) dL_law_1481 0 rfl rfl ?_
  refine jl_iload_n hk (pc := 1482) dL_law_1482 3 rfl rfl ?_
  refine jl_iconst hk (pc := 1483) (v := 1) dL_law_1483 (by decide) ?_
  refine jl_iadd hk (pc := 1484) dL_law_1484 ?_
  refine jl_iald hk (pc := 1485) h1 dL_law_1485 ?_
  refine jl_aload_n hk (pc := 1486) dL_law_1486 0 rfl rfl ?_
  refine jl_iload_n hk (pc := 1487) dL_law_1487 3 rfl rfl ?_
  refine jl_iconst hk (pc := 1488) (v := 2) dL_law_1488 (by decide) ?_
  refine jl_iadd hk (pc := 1489) dL_law_1489 ?_
  refine jl_iald hk (pc := 1490) h2 dL_law_1490 ?_
  refine jl_aload_n hk (pc := 1491) dL_law_1491 0 rfl rfl ?_
  refine jl_iload_n hk (pc := 1492) dL_law_1492 3 rfl rfl ?_
  refine jl_iconst hk (pc := 1493) (v := 3) dL_law_1493 (by decide) ?_
  refine jl_iadd hk (pc := 1494) dL_law_1494 ?_
  refine jl_iald hk (pc := 1495) h3 dL_law_1495 ?_
  refine jl_SW hk (pc := 1496) (np := 3) (r := (r, σ', d')) [.int (xs (i + 1).toNatClampNeg), .int (xs (i + 2).toNatClampNeg), .int (xs (i + 3).toNatClampNeg)] (cc_f0_write l hlt hk.2.1 σ d (xs (i + 1).toNatClampNeg) (xs (i + 2).toNatClampNeg) (xs (i + 3).toNatClampNeg) (r, σ', d') hf) (lw_VW q1231 q1232 q1233 q118 q1234) (by decide +kernel) rfl rfl dL_law_1496 ⟨Nat.le_of_ble_eq_true rfl, Nat.le_of_ble_eq_true rfl⟩ (by (try dsimp only); omega) (by (try dsimp only); omega) (Nat.le_of_ble_eq_true rfl) (fun n2 g1 g2 => ?_)
  refine jl_aload_n hk (pc := 1499) dL_law_1499 2 rfl rfl ?_
  refine jl_aload_n hk (pc := 1500) dL_law_1500 0 rfl rfl ?_
  refine jl_iload_n hk (pc := 1501) dL_law_1501 3 rfl rfl ?_
  refine jl_iconst hk (pc := 1502) (v := 1) dL_law_1502 (by decide) ?_
  refine jl_iadd hk (pc := 1503) dL_law_1503 ?_
  refine jl_iald hk (pc := 1504) h1 dL_law_1504 ?_
  refine jl_aload_n hk (pc := 1505) dL_law_1505 0 rfl rfl ?_
  refine jl_iload_n hk (pc := 1506) dL_law_1506 3 rfl rfl ?_
  refine jl_iconst hk (pc := 1507) (v := 2) dL_law_1507 (by decide) ?_
  refine jl_iadd hk (pc := 1508) dL_law_1508 ?_
  refine jl_iald hk (pc := 1509) h2 dL_law_1509 ?_
  refine jl_aload_n hk (pc := 1510) dL_law_1510 0 rfl rfl ?_
  refine jl_iload_n hk (pc := 1511) dL_law_1511 3 rfl rfl ?_
  refine jl_iconst hk (pc := 1512) (v := 3) dL_law_1512 (by decide) ?_
  refine jl_iadd hk (pc := 1513) dL_law_1513 ?_
  refine jl_iald hk (pc := 1514) h3 dL_law_1514 ?_
  refine jl_mU hk (pc := 1515) (np := 3) (r := (r, μ')) [.int (xs (i + 1).toNatClampNeg), .int (xs (i + 2).toNatClampNeg), .int (xs (i + 3).toNatClampNeg)] (cc_m_write l (jn J n2) μ (xs (i + 1).toNatClampNeg) (xs (i + 2).toNatClampNeg) (xs (i + 3).toNatClampNeg) (r, μ') hmf) (lw_V q2129 q2130 q2131 q127 q2132) (by decide +kernel) rfl rfl dL_law_1515 ⟨Nat.le_of_ble_eq_true rfl, Nat.le_of_ble_eq_true rfl⟩ (by (try dsimp only); omega) (by (try dsimp only); omega) (Nat.le_of_ble_eq_true rfl) ?_
  refine jl_eqT hk (pc := 1518) 1843 dL_law_1518 (by decide) rfl ?_
  refine jl_more (k1 := k + 2600) (n1 := n + 106600) (by (try dsimp only); omega) (by (try dsimp only); omega) ?_
  exact kk _ _ _ (hrel n2 g1 g2)
theorem lc_45 (hk : lk p s m b meth c G KK J A L xs) (hlt : l.stackTraces = false) (h1 : vp_in (i + 1) L) (h2 : vp_in (i + 2) L) (h3 : vp_in (i + 3) L) (h4 : vp_in (i + 4) L) (hk1 : k + 2600 ≤ 699883) (hk2 : n + 106600 ≤ 6971880) (hP : pLaw Rel 45 (xs (i + 1).toNatClampNeg) (xs (i + 2).toNatClampNeg) (xs (i + 3).toNatClampNeg) (xs (i + 4).toNatClampNeg) σ d μ)
    (kk : ∀ σ' d' μ', Rel σ' d' μ' → jl p l e s m b below meth c G J A Q (k + 2600) (n + 106600) σ' d' μ' 1843 [(0, .ref b), (1, .ref (ha G 0)), (2, .ref (gh J)), (3, .int i)] []) : jl p l e s m b below meth c G J A Q k n σ d μ 1523 [(0, .ref b), (1, .ref (ha G 0)), (2, .ref (gh J)), (3, .int i)] [] := by
  obtain ⟨r, σ', d', μ', hc, hm, hrel, hg1, hg2⟩ := hP
  have hf : f0_item σ d (xs (i + 1).toNatClampNeg) (xs (i + 2).toNatClampNeg) (xs (i + 3).toNatClampNeg) = some (r, σ', d') := hc
  obtain ⟨rm, hmf, he2⟩ := Option.map_eq_some_iff.mp (show (m_item μ (xs (i + 1).toNatClampNeg) (xs (i + 2).toNatClampNeg) (xs (i + 3).toNatClampNeg)).map (fun r => (r, μ)) = some (r, μ') from hm)
  obtain ⟨hre, rfl⟩ : rm = r ∧ μ = μ' := ⟨congrArg (·.1) he2, congrArg (·.2) he2⟩
  refine jl_aload_n hk (pc := 1523) dL_law_1523 1 rfl rfl ?_
  refine jl_aload_n hk (pc := 1524) dL_law_1524 0 rfl rfl ?_
  refine jl_iload_n hk (pc := 1525) dL_law_1525 3 rfl rfl ?_
  refine jl_iconst hk (pc := 1526) (v := 1) dL_law_1526 (by decide) ?_
  refine jl_iadd hk (pc := 1527) dL_law_1527 ?_
  refine jl_iald hk (pc := 1528) h1 dL_law_1528 ?_
  refine jl_aload_n hk (pc := 1529) dL_law_1529 0 rfl rfl ?_
  refine jl_iload_n hk (pc := 1530) dL_law_1530 3 rfl rfl ?_
  refine jl_iconst hk (pc := 1531) (v := 2) dL_law_1531 (by decide) ?_
  refine jl_iadd hk (pc := 1532) dL_law_1532 ?_
  refine jl_iald hk (pc := 1533) h2 dL_law_1533 ?_
  refine jl_aload_n hk (pc := 1534) dL_law_1534 0 rfl rfl ?_
  refine jl_iload_n hk (pc := 1535) dL_law_1535 3 rfl rfl ?_
  refine jl_iconst hk (pc := 1536) (v := 3) dL_law_1536 (by decide) ?_
  refine jl_iadd hk (pc := 1537) dL_law_1537 ?_
  refine jl_iald hk (pc := 1538) h3 dL_law_1538 ?_
  refine jl_SW hk (pc := 1539) (np := 3) (r := (r, σ', d')) [.int (xs (i + 1).toNatClampNeg), .int (xs (i + 2).toNatClampNeg), .int (xs (i + 3).toNatClampNeg)] (cc_f0_item l hlt hk.2.1 σ d (xs (i + 1).toNatClampNeg) (xs (i + 2).toNatClampNeg) (xs (i + 3).toNatClampNeg) (r, σ', d') hf) (lw_VW q1251 q1252 q1253 q118 q1254) (by decide +kernel) rfl rfl dL_law_1539 ⟨Nat.le_of_ble_eq_true rfl, Nat.le_of_ble_eq_true rfl⟩ (by (try dsimp only); omega) (by (try dsimp only); omega) (Nat.le_of_ble_eq_true rfl) (fun n2 g1 g2 => ?_)
  refine jl_aload_n hk (pc := 1542) dL_law_1542 2 rfl rfl ?_
  refine jl_aload_n hk (pc := 1543) dL_law_1543 0 rfl rfl ?_
  refine jl_iload_n hk (pc := 1544) dL_law_1544 3 rfl rfl ?_
  refine jl_iconst hk (pc := 1545) (v := 1) dL_law_1545 (by decide) ?_
  refine jl_iadd hk (pc := 1546) dL_law_1546 ?_
  refine jl_iald hk (pc := 1547) h1 dL_law_1547 ?_
  refine jl_aload_n hk (pc := 1548) dL_law_1548 0 rfl rfl ?_
  refine jl_iload_n hk (pc := 1549) dL_law_1549 3 rfl rfl ?_
  refine jl_iconst hk (pc := 1550) (v := 2) dL_law_1550 (by decide) ?_
  refine jl_iadd hk (pc := 1551) dL_law_1551 ?_
  refine jl_iald hk (pc := 1552) h2 dL_law_1552 ?_
  refine jl_aload_n hk (pc := 1553) dL_law_1553 0 rfl rfl ?_
  refine jl_iload_n hk (pc := 1554) dL_law_1554 3 rfl rfl ?_
  refine jl_iconst hk (pc := 1555) (v := 3) dL_law_1555 (by decide) ?_
  refine jl_iadd hk (pc := 1556) dL_law_1556 ?_
  refine jl_iald hk (pc := 1557) h3 dL_law_1557 ?_
  refine jl_mR hk (pc := 1558) (np := 3) (r := rm) [.int (xs (i + 1).toNatClampNeg), .int (xs (i + 2).toNatClampNeg), .int (xs (i + 3).toNatClampNeg)] (cc_m_item l (jn J n2) μ (xs (i + 1).toNatClampNeg) (xs (i + 2).toNatClampNeg) (xs (i + 3).toNatClampNeg) rm hmf) (lw_V q2136 q2137 q2138 q127 q2139) (by decide +kernel) rfl rfl dL_law_1558 ⟨Nat.le_of_ble_eq_true rfl, Nat.le_of_ble_eq_true rfl⟩ (by (try dsimp only); omega) (by (try dsimp only); omega) (Nat.le_of_ble_eq_true rfl) ?_
  refine jl_eqT hk (pc := 1561) 1843 dL_law_1561 (by decide) hre.symm ?_
  refine jl_more (k1 := k + 2600) (n1 := n + 106600) (by (try dsimp only); omega) (by (try dsimp only); omega) ?_
  exact kk _ _ _ (hrel n2 g1 g2)
theorem lc_46 (hk : lk p s m b meth c G KK J A L xs) (hlt : l.stackTraces = false) (h1 : vp_in (i + 1) L) (h2 : vp_in (i + 2) L) (h3 : vp_in (i + 3) L) (h4 : vp_in (i + 4) L) (hk1 : k + 2600 ≤ 699883) (hk2 : n + 106600 ≤ 6971880) (hP : pLaw Rel 46 (xs (i + 1).toNatClampNeg) (xs (i + 2).toNatClampNeg) (xs (i + 3).toNatClampNeg) (xs (i + 4).toNatClampNeg) σ d μ)
    (kk : ∀ σ' d' μ', Rel σ' d' μ' → jl p l e s m b below meth c G J A Q (k + 2600) (n + 106600) σ' d' μ' 1843 [(0, .ref b), (1, .ref (ha G 0)), (2, .ref (gh J)), (3, .int i)] []) : jl p l e s m b below meth c G J A Q k n σ d μ 1566 [(0, .ref b), (1, .ref (ha G 0)), (2, .ref (gh J)), (3, .int i)] [] := by
  obtain ⟨r, σ', d', μ', hc, hm, hrel, hg1, hg2⟩ := hP
  have hf : f0_goAll 1000 σ d (xs (i + 1).toNatClampNeg) (xs (i + 2).toNatClampNeg) (xs (i + 3).toNatClampNeg) = some (r, σ', d') := hc
  have hmf : m_goAll 1000 μ (xs (i + 1).toNatClampNeg) (xs (i + 2).toNatClampNeg) (xs (i + 3).toNatClampNeg) = some (r, μ') := hm
  refine jl_aload_n hk (pc := 1566) dL_law_1566 1 rfl rfl ?_
  refine jl_aload_n hk (pc := 1567) dL_law_1567 0 rfl rfl ?_
  refine jl_iload_n hk (pc := 1568) dL_law_1568 3 rfl rfl ?_
  refine jl_iconst hk (pc := 1569) (v := 1) dL_law_1569 (by decide) ?_
  refine jl_iadd hk (pc := 1570) dL_law_1570 ?_
  refine jl_iald hk (pc := 1571) h1 dL_law_1571 ?_
  refine jl_aload_n hk (pc := 1572) dL_law_1572 0 rfl rfl ?_
  refine jl_iload_n hk (pc := 1573) dL_law_1573 3 rfl rfl ?_
  refine jl_iconst hk (pc := 1574) (v := 2) dL_law_1574 (by decide) ?_
  refine jl_iadd hk (pc := 1575) dL_law_1575 ?_
  refine jl_iald hk (pc := 1576) h2 dL_law_1576 ?_
  refine jl_aload_n hk (pc := 1577) dL_law_1577 0 rfl rfl ?_
  refine jl_iload_n hk (pc := 1578) dL_law_1578 3 rfl rfl ?_
  refine jl_iconst hk (pc := 1579) (v := 3) dL_law_1579 (by decide) ?_
  refine jl_iadd hk (pc := 1580) dL_law_1580 ?_
  refine jl_iald hk (pc := 1581) h3 dL_law_1581 ?_
  refine jl_SW hk (pc := 1582) (np := 3) (r := (r, σ', d')) [.int (xs (i + 1).toNatClampNeg), .int (xs (i + 2).toNatClampNeg), .int (xs (i + 3).toNatClampNeg)] (cc_f0_goAll l hlt hk.2.1 1000 σ d (xs (i + 1).toNatClampNeg) (xs (i + 2).toNatClampNeg) (xs (i + 3).toNatClampNeg) (r, σ', d') hf) (lw_VW q1301 q1302 q1303 q118 q1304) (by decide +kernel) rfl rfl dL_law_1582 ⟨Nat.le_of_ble_eq_true rfl, Nat.le_of_ble_eq_true rfl⟩ (by (try dsimp only); omega) (by (try dsimp only); omega) (Nat.le_of_ble_eq_true rfl) (fun n2 g1 g2 => ?_)
  refine jl_aload_n hk (pc := 1585) dL_law_1585 2 rfl rfl ?_
  refine jl_aload_n hk (pc := 1586) dL_law_1586 0 rfl rfl ?_
  refine jl_iload_n hk (pc := 1587) dL_law_1587 3 rfl rfl ?_
  refine jl_iconst hk (pc := 1588) (v := 1) dL_law_1588 (by decide) ?_
  refine jl_iadd hk (pc := 1589) dL_law_1589 ?_
  refine jl_iald hk (pc := 1590) h1 dL_law_1590 ?_
  refine jl_aload_n hk (pc := 1591) dL_law_1591 0 rfl rfl ?_
  refine jl_iload_n hk (pc := 1592) dL_law_1592 3 rfl rfl ?_
  refine jl_iconst hk (pc := 1593) (v := 2) dL_law_1593 (by decide) ?_
  refine jl_iadd hk (pc := 1594) dL_law_1594 ?_
  refine jl_iald hk (pc := 1595) h2 dL_law_1595 ?_
  refine jl_aload_n hk (pc := 1596) dL_law_1596 0 rfl rfl ?_
  refine jl_iload_n hk (pc := 1597) dL_law_1597 3 rfl rfl ?_
  refine jl_iconst hk (pc := 1598) (v := 3) dL_law_1598 (by decide) ?_
  refine jl_iadd hk (pc := 1599) dL_law_1599 ?_
  refine jl_iald hk (pc := 1600) h3 dL_law_1600 ?_
  refine jl_mU hk (pc := 1601) (np := 3) (r := (r, μ')) [.int (xs (i + 1).toNatClampNeg), .int (xs (i + 2).toNatClampNeg), .int (xs (i + 3).toNatClampNeg)] (cc_m_goAll l (jn J n2) 1000 μ (xs (i + 1).toNatClampNeg) (xs (i + 2).toNatClampNeg) (xs (i + 3).toNatClampNeg) (r, μ') hmf) (lw_V q2144 q2145 q2146 q127 q2147) (by decide +kernel) rfl rfl dL_law_1601 ⟨Nat.le_of_ble_eq_true rfl, Nat.le_of_ble_eq_true rfl⟩ (by (try dsimp only); omega) (by (try dsimp only); omega) (Nat.le_of_ble_eq_true rfl) ?_
  refine jl_eqT hk (pc := 1604) 1843 dL_law_1604 (by decide) rfl ?_
  refine jl_more (k1 := k + 2600) (n1 := n + 106600) (by (try dsimp only); omega) (by (try dsimp only); omega) ?_
  exact kk _ _ _ (hrel n2 g1 g2)
theorem lc_47 (hk : lk p s m b meth c G KK J A L xs) (hlt : l.stackTraces = false) (h1 : vp_in (i + 1) L) (h2 : vp_in (i + 2) L) (h3 : vp_in (i + 3) L) (h4 : vp_in (i + 4) L) (hk1 : k + 2600 ≤ 699883) (hk2 : n + 106600 ≤ 6971880) (hP : pLaw Rel 47 (xs (i + 1).toNatClampNeg) (xs (i + 2).toNatClampNeg) (xs (i + 3).toNatClampNeg) (xs (i + 4).toNatClampNeg) σ d μ)
    (kk : ∀ σ' d' μ', Rel σ' d' μ' → jl p l e s m b below meth c G J A Q (k + 2600) (n + 106600) σ' d' μ' 1843 [(0, .ref b), (1, .ref (ha G 0)), (2, .ref (gh J)), (3, .int i)] []) : jl p l e s m b below meth c G J A Q k n σ d μ 1609 [(0, .ref b), (1, .ref (ha G 0)), (2, .ref (gh J)), (3, .int i)] [] := by
  obtain ⟨r, σ', d', μ', hc, hm, hrel, hg1, hg2⟩ := hP
  have hf : f0_wouldBe 1000 σ d (xs (i + 1).toNatClampNeg) (xs (i + 2).toNatClampNeg) (xs (i + 3).toNatClampNeg) = some (r, σ', d') := hc
  have hmf : m_wouldBe 1000 μ (xs (i + 1).toNatClampNeg) (xs (i + 2).toNatClampNeg) (xs (i + 3).toNatClampNeg) = some (r, μ') := hm
  refine jl_aload_n hk (pc := 1609) dL_law_1609 1 rfl rfl ?_
  refine jl_aload_n hk (pc := 1610) dL_law_1610 0 rfl rfl ?_
  refine jl_iload_n hk (pc := 1611) dL_law_1611 3 rfl rfl ?_
  refine jl_iconst hk (pc := 1612) (v := 1) dL_law_1612 (by decide) ?_
  refine jl_iadd hk (pc := 1613) dL_law_1613 ?_
  refine jl_iald hk (pc := 1614) h1 dL_law_1614 ?_
  refine jl_aload_n hk (pc := 1615) dL_law_1615 0 rfl rfl ?_
  refine jl_iload_n hk (pc := 1616) dL_law_1616 3 rfl rfl ?_
  refine jl_iconst hk (pc := 1617) (v := 2) dL_law_1617 (by decide) ?_
  refine jl_iadd hk (pc := 1618) dL_law_1618 ?_
  refine jl_iald hk (pc := 1619) h2 dL_law_1619 ?_
  refine jl_aload_n hk (pc := 1620) dL_law_1620 0 rfl rfl ?_
  refine jl_iload_n hk (pc := 1621) dL_law_1621 3 rfl rfl ?_
  refine jl_iconst hk (pc := 1622) (v := 3) dL_law_1622 (by decide) ?_
  refine jl_iadd hk (pc := 1623) dL_law_1623 ?_
  refine jl_iald hk (pc := 1624) h3 dL_law_1624 ?_
  refine jl_SW hk (pc := 1625) (np := 3) (r := (r, σ', d')) [.int (xs (i + 1).toNatClampNeg), .int (xs (i + 2).toNatClampNeg), .int (xs (i + 3).toNatClampNeg)] (cc_f0_wouldBe l hlt hk.2.1 1000 σ d (xs (i + 1).toNatClampNeg) (xs (i + 2).toNatClampNeg) (xs (i + 3).toNatClampNeg) (r, σ', d') hf) (lw_VW q1305 q1306 q1307 q118 q1308) (by decide +kernel) rfl rfl dL_law_1625 ⟨Nat.le_of_ble_eq_true rfl, Nat.le_of_ble_eq_true rfl⟩ (by (try dsimp only); omega) (by (try dsimp only); omega) (Nat.le_of_ble_eq_true rfl) (fun n2 g1 g2 => ?_)
  refine jl_aload_n hk (pc := 1628) dL_law_1628 2 rfl rfl ?_
  refine jl_aload_n hk (pc := 1629) dL_law_1629 0 rfl rfl ?_
  refine jl_iload_n hk (pc := 1630) dL_law_1630 3 rfl rfl ?_
  refine jl_iconst hk (pc := 1631) (v := 1) dL_law_1631 (by decide) ?_
  refine jl_iadd hk (pc := 1632) dL_law_1632 ?_
  refine jl_iald hk (pc := 1633) h1 dL_law_1633 ?_
  refine jl_aload_n hk (pc := 1634) dL_law_1634 0 rfl rfl ?_
  refine jl_iload_n hk (pc := 1635) dL_law_1635 3 rfl rfl ?_
  refine jl_iconst hk (pc := 1636) (v := 2) dL_law_1636 (by decide) ?_
  refine jl_iadd hk (pc := 1637) dL_law_1637 ?_
  refine jl_iald hk (pc := 1638) h2 dL_law_1638 ?_
  refine jl_aload_n hk (pc := 1639) dL_law_1639 0 rfl rfl ?_
  refine jl_iload_n hk (pc := 1640) dL_law_1640 3 rfl rfl ?_
  refine jl_iconst hk (pc := 1641) (v := 3) dL_law_1641 (by decide) ?_
  refine jl_iadd hk (pc := 1642) dL_law_1642 ?_
  refine jl_iald hk (pc := 1643) h3 dL_law_1643 ?_
  refine jl_mU hk (pc := 1644) (np := 3) (r := (r, μ')) [.int (xs (i + 1).toNatClampNeg), .int (xs (i + 2).toNatClampNeg), .int (xs (i + 3).toNatClampNeg)] (cc_m_wouldBe l (jn J n2) 1000 μ (xs (i + 1).toNatClampNeg) (xs (i + 2).toNatClampNeg) (xs (i + 3).toNatClampNeg) (r, μ') hmf) (lw_V q2157 q2158 q2159 q127 q2160) (by decide +kernel) rfl rfl dL_law_1644 ⟨Nat.le_of_ble_eq_true rfl, Nat.le_of_ble_eq_true rfl⟩ (by (try dsimp only); omega) (by (try dsimp only); omega) (Nat.le_of_ble_eq_true rfl) ?_
  refine jl_eqT hk (pc := 1647) 1843 dL_law_1647 (by decide) rfl ?_
  refine jl_more (k1 := k + 2600) (n1 := n + 106600) (by (try dsimp only); omega) (by (try dsimp only); omega) ?_
  exact kk _ _ _ (hrel n2 g1 g2)
theorem lc_48 (hk : lk p s m b meth c G KK J A L xs) (hlt : l.stackTraces = false) (h1 : vp_in (i + 1) L) (h2 : vp_in (i + 2) L) (h3 : vp_in (i + 3) L) (h4 : vp_in (i + 4) L) (hk1 : k + 2600 ≤ 699883) (hk2 : n + 106600 ≤ 6971880) (hP : pLaw Rel 48 (xs (i + 1).toNatClampNeg) (xs (i + 2).toNatClampNeg) (xs (i + 3).toNatClampNeg) (xs (i + 4).toNatClampNeg) σ d μ)
    (kk : ∀ σ' d' μ', Rel σ' d' μ' → jl p l e s m b below meth c G J A Q (k + 2600) (n + 106600) σ' d' μ' 1843 [(0, .ref b), (1, .ref (ha G 0)), (2, .ref (gh J)), (3, .int i)] []) : jl p l e s m b below meth c G J A Q k n σ d μ 1652 [(0, .ref b), (1, .ref (ha G 0)), (2, .ref (gh J)), (3, .int i)] [] := by
  obtain ⟨r, σ', d', μ', hc, hm, hrel, hg1, hg2⟩ := hP
  have hf : f0_shelf σ d (xs (i + 1).toNatClampNeg) (xs (i + 2).toNatClampNeg) (xs (i + 3).toNatClampNeg) = some (r, σ', d') := hc
  have hmf : m_shelf μ (xs (i + 1).toNatClampNeg) (xs (i + 2).toNatClampNeg) (xs (i + 3).toNatClampNeg) = some (r, μ') := hm
  refine jl_aload_n hk (pc := 1652) dL_law_1652 1 rfl rfl ?_
  refine jl_aload_n hk (pc := 1653) dL_law_1653 0 rfl rfl ?_
  refine jl_iload_n hk (pc := 1654) dL_law_1654 3 rfl rfl ?_
  refine jl_iconst hk (pc := 1655) (v := 1) dL_law_1655 (by decide) ?_
  refine jl_iadd hk (pc := 1656) dL_law_1656 ?_
  refine jl_iald hk (pc := 1657) h1 dL_law_1657 ?_
  refine jl_aload_n hk (pc := 1658) dL_law_1658 0 rfl rfl ?_
  refine jl_iload_n hk (pc := 1659) dL_law_1659 3 rfl rfl ?_
  refine jl_iconst hk (pc := 1660) (v := 2) dL_law_1660 (by decide) ?_
  refine jl_iadd hk (pc := 1661) dL_law_1661 ?_
  refine jl_iald hk (pc := 1662) h2 dL_law_1662 ?_
  refine jl_aload_n hk (pc := 1663) dL_law_1663 0 rfl rfl ?_
  refine jl_iload_n hk (pc := 1664) dL_law_1664 3 rfl rfl ?_
  refine jl_iconst hk (pc := 1665) (v := 3) dL_law_1665 (by decide) ?_
  refine jl_iadd hk (pc := 1666) dL_law_1666 ?_
  refine jl_iald hk (pc := 1667) h3 dL_law_1667 ?_
  refine jl_A hk (pc := 1668) (np := 3) (r := (r, σ', d')) [.int (xs (i + 1).toNatClampNeg), .int (xs (i + 2).toNatClampNeg), .int (xs (i + 3).toNatClampNeg)] (cc_f0_shelf l hk.2.1 σ d (xs (i + 1).toNatClampNeg) (xs (i + 2).toNatClampNeg) (xs (i + 3).toNatClampNeg) (r, σ', d') hf) (lw_V q1309 q1310 q1311 q118 q1312) (by decide +kernel) rfl rfl dL_law_1668 ⟨Nat.le_of_ble_eq_true rfl, Nat.le_of_ble_eq_true rfl⟩ (by (try dsimp only); omega) (by (try dsimp only); omega) (Nat.le_of_ble_eq_true rfl) (fun n2 g1 g2 => ?_)
  refine jl_aload_n hk (pc := 1671) dL_law_1671 2 rfl rfl ?_
  refine jl_aload_n hk (pc := 1672) dL_law_1672 0 rfl rfl ?_
  refine jl_iload_n hk (pc := 1673) dL_law_1673 3 rfl rfl ?_
  refine jl_iconst hk (pc := 1674) (v := 1) dL_law_1674 (by decide) ?_
  refine jl_iadd hk (pc := 1675) dL_law_1675 ?_
  refine jl_iald hk (pc := 1676) h1 dL_law_1676 ?_
  refine jl_aload_n hk (pc := 1677) dL_law_1677 0 rfl rfl ?_
  refine jl_iload_n hk (pc := 1678) dL_law_1678 3 rfl rfl ?_
  refine jl_iconst hk (pc := 1679) (v := 2) dL_law_1679 (by decide) ?_
  refine jl_iadd hk (pc := 1680) dL_law_1680 ?_
  refine jl_iald hk (pc := 1681) h2 dL_law_1681 ?_
  refine jl_aload_n hk (pc := 1682) dL_law_1682 0 rfl rfl ?_
  refine jl_iload_n hk (pc := 1683) dL_law_1683 3 rfl rfl ?_
  refine jl_iconst hk (pc := 1684) (v := 3) dL_law_1684 (by decide) ?_
  refine jl_iadd hk (pc := 1685) dL_law_1685 ?_
  refine jl_iald hk (pc := 1686) h3 dL_law_1686 ?_
  refine jl_mU hk (pc := 1687) (np := 3) (r := (r, μ')) [.int (xs (i + 1).toNatClampNeg), .int (xs (i + 2).toNatClampNeg), .int (xs (i + 3).toNatClampNeg)] (cc_m_shelf l (jn J n2) μ (xs (i + 1).toNatClampNeg) (xs (i + 2).toNatClampNeg) (xs (i + 3).toNatClampNeg) (r, μ') hmf) (lw_V q2161 q2162 q2163 q127 q2164) (by decide +kernel) rfl rfl dL_law_1687 ⟨Nat.le_of_ble_eq_true rfl, Nat.le_of_ble_eq_true rfl⟩ (by (try dsimp only); omega) (by (try dsimp only); omega) (Nat.le_of_ble_eq_true rfl) ?_
  refine jl_eqT hk (pc := 1690) 1843 dL_law_1690 (by decide) rfl ?_
  refine jl_more (k1 := k + 2600) (n1 := n + 106600) (by (try dsimp only); omega) (by (try dsimp only); omega) ?_
  exact kk _ _ _ (hrel n2 g1 g2)
theorem lc_49 (hk : lk p s m b meth c G KK J A L xs) (hlt : l.stackTraces = false) (h1 : vp_in (i + 1) L) (h2 : vp_in (i + 2) L) (h3 : vp_in (i + 3) L) (h4 : vp_in (i + 4) L) (hk1 : k + 2600 ≤ 699883) (hk2 : n + 106600 ≤ 6971880) (hP : pLaw Rel 49 (xs (i + 1).toNatClampNeg) (xs (i + 2).toNatClampNeg) (xs (i + 3).toNatClampNeg) (xs (i + 4).toNatClampNeg) σ d μ)
    (kk : ∀ σ' d' μ', Rel σ' d' μ' → jl p l e s m b below meth c G J A Q (k + 2600) (n + 106600) σ' d' μ' 1843 [(0, .ref b), (1, .ref (ha G 0)), (2, .ref (gh J)), (3, .int i)] []) : jl p l e s m b below meth c G J A Q k n σ d μ 1695 [(0, .ref b), (1, .ref (ha G 0)), (2, .ref (gh J)), (3, .int i)] [] := by
  obtain ⟨r, σ', d', μ', hc, hm, hrel, hg1, hg2⟩ := hP
  have hf : f0_taken σ d (xs (i + 1).toNatClampNeg) (xs (i + 2).toNatClampNeg) = some (r, σ', d') := hc
  obtain ⟨rm, hmf, he2⟩ := Option.map_eq_some_iff.mp (show (m_taken μ (xs (i + 1).toNatClampNeg) (xs (i + 2).toNatClampNeg)).map (fun r => (r, μ)) = some (r, μ') from hm)
  obtain ⟨hre, rfl⟩ : rm = r ∧ μ = μ' := ⟨congrArg (·.1) he2, congrArg (·.2) he2⟩
  refine jl_aload_n hk (pc := 1695) dL_law_1695 1 rfl rfl ?_
  refine jl_aload_n hk (pc := 1696) dL_law_1696 0 rfl rfl ?_
  refine jl_iload_n hk (pc := 1697) dL_law_1697 3 rfl rfl ?_
  refine jl_iconst hk (pc := 1698) (v := 1) dL_law_1698 (by decide) ?_
  refine jl_iadd hk (pc := 1699) dL_law_1699 ?_
  refine jl_iald hk (pc := 1700) h1 dL_law_1700 ?_
  refine jl_aload_n hk (pc := 1701) dL_law_1701 0 rfl rfl ?_
  refine jl_iload_n hk (pc := 1702) dL_law_1702 3 rfl rfl ?_
  refine jl_iconst hk (pc := 1703) (v := 2) dL_law_1703 (by decide) ?_
  refine jl_iadd hk (pc := 1704) dL_law_1704 ?_
  refine jl_iald hk (pc := 1705) h2 dL_law_1705 ?_
  refine jl_SW hk (pc := 1706) (np := 2) (r := (r, σ', d')) [.int (xs (i + 1).toNatClampNeg), .int (xs (i + 2).toNatClampNeg)] (cc_f0_taken l hlt hk.2.1 σ d (xs (i + 1).toNatClampNeg) (xs (i + 2).toNatClampNeg) (r, σ', d') hf) (lw_VW q1324 q1325 q1326 q118 q1327) (by decide +kernel) rfl rfl dL_law_1706 ⟨Nat.le_of_ble_eq_true rfl, Nat.le_of_ble_eq_true rfl⟩ (by (try dsimp only); omega) (by (try dsimp only); omega) (Nat.le_of_ble_eq_true rfl) (fun n2 g1 g2 => ?_)
  refine jl_aload_n hk (pc := 1709) dL_law_1709 2 rfl rfl ?_
  refine jl_aload_n hk (pc := 1710) dL_law_1710 0 rfl rfl ?_
  refine jl_iload_n hk (pc := 1711) dL_law_1711 3 rfl rfl ?_
  refine jl_iconst hk (pc := 1712) (v := 1) dL_law_1712 (by decide) ?_
  refine jl_iadd hk (pc := 1713) dL_law_1713 ?_
  refine jl_iald hk (pc := 1714) h1 dL_law_1714 ?_
  refine jl_aload_n hk (pc := 1715) dL_law_1715 0 rfl rfl ?_
  refine jl_iload_n hk (pc := 1716) dL_law_1716 3 rfl rfl ?_
  refine jl_iconst hk (pc := 1717) (v := 2) dL_law_1717 (by decide) ?_
  refine jl_iadd hk (pc := 1718) dL_law_1718 ?_
  refine jl_iald hk (pc := 1719) h2 dL_law_1719 ?_
  refine jl_mR hk (pc := 1720) (np := 2) (r := rm) [.int (xs (i + 1).toNatClampNeg), .int (xs (i + 2).toNatClampNeg)] (cc_m_taken l (jn J n2) μ (xs (i + 1).toNatClampNeg) (xs (i + 2).toNatClampNeg) rm hmf) (lw_V q2165 q2166 q2167 q127 q2168) (by decide +kernel) rfl rfl dL_law_1720 ⟨Nat.le_of_ble_eq_true rfl, Nat.le_of_ble_eq_true rfl⟩ (by (try dsimp only); omega) (by (try dsimp only); omega) (Nat.le_of_ble_eq_true rfl) ?_
  refine jl_eqT hk (pc := 1723) 1843 dL_law_1723 (by decide) hre.symm ?_
  refine jl_more (k1 := k + 2600) (n1 := n + 106600) (by (try dsimp only); omega) (by (try dsimp only); omega) ?_
  exact kk _ _ _ (hrel n2 g1 g2)
theorem lc_50 (hk : lk p s m b meth c G KK J A L xs) (hlt : l.stackTraces = false) (h1 : vp_in (i + 1) L) (h2 : vp_in (i + 2) L) (h3 : vp_in (i + 3) L) (h4 : vp_in (i + 4) L) (hk1 : k + 2600 ≤ 699883) (hk2 : n + 106600 ≤ 6971880) (hP : pLaw Rel 50 (xs (i + 1).toNatClampNeg) (xs (i + 2).toNatClampNeg) (xs (i + 3).toNatClampNeg) (xs (i + 4).toNatClampNeg) σ d μ)
    (kk : ∀ σ' d' μ', Rel σ' d' μ' → jl p l e s m b below meth c G J A Q (k + 2600) (n + 106600) σ' d' μ' 1843 [(0, .ref b), (1, .ref (ha G 0)), (2, .ref (gh J)), (3, .int i)] []) : jl p l e s m b below meth c G J A Q k n σ d μ 1728 [(0, .ref b), (1, .ref (ha G 0)), (2, .ref (gh J)), (3, .int i)] [] := by
  obtain ⟨r, σ', d', μ', hc, hm, hrel, hg1, hg2⟩ := hP
  have hf : f0_act σ d (xs (i + 1).toNatClampNeg) (xs (i + 2).toNatClampNeg) (xs (i + 3).toNatClampNeg) = some (r, σ', d') := hc
  have hmf : m_act μ (xs (i + 1).toNatClampNeg) (xs (i + 2).toNatClampNeg) (xs (i + 3).toNatClampNeg) = some (r, μ') := hm
  refine jl_aload_n hk (pc := 1728) dL_law_1728 1 rfl rfl ?_
  refine jl_aload_n hk (pc := 1729) dL_law_1729 0 rfl rfl ?_
  refine jl_iload_n hk (pc := 1730) dL_law_1730 3 rfl rfl ?_
  refine jl_iconst hk (pc := 1731) (v := 1) dL_law_1731 (by decide) ?_
  refine jl_iadd hk (pc := 1732) dL_law_1732 ?_
  refine jl_iald hk (pc := 1733) h1 dL_law_1733 ?_
  refine jl_aload_n hk (pc := 1734) dL_law_1734 0 rfl rfl ?_
  refine jl_iload_n hk (pc := 1735) dL_law_1735 3 rfl rfl ?_
  refine jl_iconst hk (pc := 1736) (v := 2) dL_law_1736 (by decide) ?_
  refine jl_iadd hk (pc := 1737) dL_law_1737 ?_
  refine jl_iald hk (pc := 1738) h2 dL_law_1738 ?_
  refine jl_aload_n hk (pc := 1739) dL_law_1739 0 rfl rfl ?_
  refine jl_iload_n hk (pc := 1740) dL_law_1740 3 rfl rfl ?_
  refine jl_iconst hk (pc := 1741) (v := 3) dL_law_1741 (by decide) ?_
  refine jl_iadd hk (pc := 1742) dL_law_1742 ?_
  refine jl_iald hk (pc := 1743) h3 dL_law_1743 ?_
  refine jl_SW hk (pc := 1744) (np := 3) (r := (r, σ', d')) [.int (xs (i + 1).toNatClampNeg), .int (xs (i + 2).toNatClampNeg), .int (xs (i + 3).toNatClampNeg)] (cc_f0_act l hlt hk.2.1 σ d (xs (i + 1).toNatClampNeg) (xs (i + 2).toNatClampNeg) (xs (i + 3).toNatClampNeg) (r, σ', d') hf) (lw_VW q1347 q1348 q1349 q118 q1350) (by decide +kernel) rfl rfl dL_law_1744 ⟨Nat.le_of_ble_eq_true rfl, Nat.le_of_ble_eq_true rfl⟩ (by (try dsimp only); omega) (by (try dsimp only); omega) (Nat.le_of_ble_eq_true rfl) (fun n2 g1 g2 => ?_)
  refine jl_aload_n hk (pc := 1747) dL_law_1747 2 rfl rfl ?_
  refine jl_aload_n hk (pc := 1748) dL_law_1748 0 rfl rfl ?_
  refine jl_iload_n hk (pc := 1749) dL_law_1749 3 rfl rfl ?_
  refine jl_iconst hk (pc := 1750) (v := 1) dL_law_1750 (by decide) ?_
  refine jl_iadd hk (pc := 1751) dL_law_1751 ?_
  refine jl_iald hk (pc := 1752) h1 dL_law_1752 ?_
  refine jl_aload_n hk (pc := 1753) dL_law_1753 0 rfl rfl ?_
  refine jl_iload_n hk (pc := 1754) dL_law_1754 3 rfl rfl ?_
  refine jl_iconst hk (pc := 1755) (v := 2) dL_law_1755 (by decide) ?_
  refine jl_iadd hk (pc := 1756) dL_law_1756 ?_
  refine jl_iald hk (pc := 1757) h2 dL_law_1757 ?_
  refine jl_aload_n hk (pc := 1758) dL_law_1758 0 rfl rfl ?_
  refine jl_iload_n hk (pc := 1759) dL_law_1759 3 rfl rfl ?_
  refine jl_iconst hk (pc := 1760) (v := 3) dL_law_1760 (by decide) ?_
  refine jl_iadd hk (pc := 1761) dL_law_1761 ?_
  refine jl_iald hk (pc := 1762) h3 dL_law_1762 ?_
  refine jl_mU hk (pc := 1763) (np := 3) (r := (r, μ')) [.int (xs (i + 1).toNatClampNeg), .int (xs (i + 2).toNatClampNeg), .int (xs (i + 3).toNatClampNeg)] (cc_m_act l (jn J n2) μ (xs (i + 1).toNatClampNeg) (xs (i + 2).toNatClampNeg) (xs (i + 3).toNatClampNeg) (r, μ') hmf) (lw_V q2175 q2176 q2177 q127 q2178) (by decide +kernel) rfl rfl dL_law_1763 ⟨Nat.le_of_ble_eq_true rfl, Nat.le_of_ble_eq_true rfl⟩ (by (try dsimp only); omega) (by (try dsimp only); omega) (Nat.le_of_ble_eq_true rfl) ?_
  refine jl_eqT hk (pc := 1766) 1843 dL_law_1766 (by decide) rfl ?_
  refine jl_more (k1 := k + 2600) (n1 := n + 106600) (by (try dsimp only); omega) (by (try dsimp only); omega) ?_
  exact kk _ _ _ (hrel n2 g1 g2)
theorem lc_51 (hk : lk p s m b meth c G KK J A L xs) (hlt : l.stackTraces = false) (h1 : vp_in (i + 1) L) (h2 : vp_in (i + 2) L) (h3 : vp_in (i + 3) L) (h4 : vp_in (i + 4) L) (hk1 : k + 2600 ≤ 699883) (hk2 : n + 106600 ≤ 6971880) (hP : pLaw Rel 51 (xs (i + 1).toNatClampNeg) (xs (i + 2).toNatClampNeg) (xs (i + 3).toNatClampNeg) (xs (i + 4).toNatClampNeg) σ d μ)
    (kk : ∀ σ' d' μ', Rel σ' d' μ' → jl p l e s m b below meth c G J A Q (k + 2600) (n + 106600) σ' d' μ' 1843 [(0, .ref b), (1, .ref (ha G 0)), (2, .ref (gh J)), (3, .int i)] []) : jl p l e s m b below meth c G J A Q k n σ d μ 1771 [(0, .ref b), (1, .ref (ha G 0)), (2, .ref (gh J)), (3, .int i)] [] := by
  obtain ⟨r, σ', d', μ', hc, hm, hrel, hg1, hg2⟩ := hP
  obtain ⟨rc, hf, he⟩ := Option.map_eq_some_iff.mp (show (f0_trace σ (xs (i + 1).toNatClampNeg)).map (fun r => (r, σ, d)) = some (r, σ', d') from hc)
  obtain ⟨rfl, rfl, rfl⟩ : rc = r ∧ σ = σ' ∧ d = d' := ⟨congrArg (·.1) he, congrArg (·.2.1) he, congrArg (·.2.2) he⟩
  obtain ⟨rm, hmf, he2⟩ := Option.map_eq_some_iff.mp (show (m_trace μ (xs (i + 1).toNatClampNeg)).map (fun r => (r, μ)) = some (rc, μ') from hm)
  obtain ⟨hre, rfl⟩ : rm = rc ∧ μ = μ' := ⟨congrArg (·.1) he2, congrArg (·.2) he2⟩
  refine jl_aload_n hk (pc := 1771) dL_law_1771 1 rfl rfl ?_
  refine jl_aload_n hk (pc := 1772) dL_law_1772 0 rfl rfl ?_
  refine jl_iload_n hk (pc := 1773) dL_law_1773 3 rfl rfl ?_
  refine jl_iconst hk (pc := 1774) (v := 1) dL_law_1774 (by decide) ?_
  refine jl_iadd hk (pc := 1775) dL_law_1775 ?_
  refine jl_iald hk (pc := 1776) h1 dL_law_1776 ?_
  refine jl_R hk (pc := 1777) (np := 1) (r := rc) [.int (xs (i + 1).toNatClampNeg)] (cc_f0_trace l hk.2.1 d σ (xs (i + 1).toNatClampNeg) rc hf) (lw_V q1521 q1522 q1523 q118 q1524) (by decide +kernel) rfl rfl dL_law_1777 ⟨Nat.le_of_ble_eq_true rfl, Nat.le_of_ble_eq_true rfl⟩ (by (try dsimp only); omega) (by (try dsimp only); omega) (Nat.le_of_ble_eq_true rfl) (fun n2 g1 g2 => ?_)
  refine jl_aload_n hk (pc := 1780) dL_law_1780 2 rfl rfl ?_
  refine jl_aload_n hk (pc := 1781) dL_law_1781 0 rfl rfl ?_
  refine jl_iload_n hk (pc := 1782) dL_law_1782 3 rfl rfl ?_
  refine jl_iconst hk (pc := 1783) (v := 1) dL_law_1783 (by decide) ?_
  refine jl_iadd hk (pc := 1784) dL_law_1784 ?_
  refine jl_iald hk (pc := 1785) h1 dL_law_1785 ?_
  refine jl_mR hk (pc := 1786) (np := 1) (r := rm) [.int (xs (i + 1).toNatClampNeg)] (cc_m_trace l (jn J n2) μ (xs (i + 1).toNatClampNeg) rm hmf) (lw_V q2203 q2204 q2205 q127 q2206) (by decide +kernel) rfl rfl dL_law_1786 ⟨Nat.le_of_ble_eq_true rfl, Nat.le_of_ble_eq_true rfl⟩ (by (try dsimp only); omega) (by (try dsimp only); omega) (Nat.le_of_ble_eq_true rfl) ?_
  refine jl_eqT hk (pc := 1789) 1843 dL_law_1789 (by decide) hre.symm ?_
  refine jl_more (k1 := k + 2600) (n1 := n + 106600) (by (try dsimp only); omega) (by (try dsimp only); omega) ?_
  exact kk _ _ _ (hrel n2 g1 g2)
theorem lc_52 (hk : lk p s m b meth c G KK J A L xs) (hlt : l.stackTraces = false) (h1 : vp_in (i + 1) L) (h2 : vp_in (i + 2) L) (h3 : vp_in (i + 3) L) (h4 : vp_in (i + 4) L) (hk1 : k + 2600 ≤ 699883) (hk2 : n + 106600 ≤ 6971880) (hP : pLaw Rel 52 (xs (i + 1).toNatClampNeg) (xs (i + 2).toNatClampNeg) (xs (i + 3).toNatClampNeg) (xs (i + 4).toNatClampNeg) σ d μ)
    (kk : ∀ σ' d' μ', Rel σ' d' μ' → jl p l e s m b below meth c G J A Q (k + 2600) (n + 106600) σ' d' μ' 1843 [(0, .ref b), (1, .ref (ha G 0)), (2, .ref (gh J)), (3, .int i)] []) : jl p l e s m b below meth c G J A Q k n σ d μ 1794 [(0, .ref b), (1, .ref (ha G 0)), (2, .ref (gh J)), (3, .int i)] [] := by
  obtain ⟨r, σ', d', μ', hc, hm, hrel, hg1, hg2⟩ := hP
  obtain ⟨rc, hf, he⟩ := Option.map_eq_some_iff.mp (show (f0_many 1000 d σ (xs (i + 1).toNatClampNeg)).map (fun r => (r, σ, d)) = some (r, σ', d') from hc)
  obtain ⟨rfl, rfl, rfl⟩ : rc = r ∧ σ = σ' ∧ d = d' := ⟨congrArg (·.1) he, congrArg (·.2.1) he, congrArg (·.2.2) he⟩
  obtain ⟨rm, hmf, he2⟩ := Option.map_eq_some_iff.mp (show (m_many 1000 μ (xs (i + 1).toNatClampNeg)).map (fun r => (r, μ)) = some (rc, μ') from hm)
  obtain ⟨hre, rfl⟩ : rm = rc ∧ μ = μ' := ⟨congrArg (·.1) he2, congrArg (·.2) he2⟩
  refine jl_aload_n hk (pc := 1794) dL_law_1794 1 rfl rfl ?_
  refine jl_aload_n hk (pc := 1795) dL_law_1795 0 rfl rfl ?_
  refine jl_iload_n hk (pc := 1796) dL_law_1796 3 rfl rfl ?_
  refine jl_iconst hk (pc := 1797) (v := 1) dL_law_1797 (by decide) ?_
  refine jl_iadd hk (pc := 1798) dL_law_1798 ?_
  refine jl_iald hk (pc := 1799) h1 dL_law_1799 ?_
  refine jl_R hk (pc := 1800) (np := 1) (r := rc) [.int (xs (i + 1).toNatClampNeg)] (cc_f0_many l hk.2.1 d 1000 σ (xs (i + 1).toNatClampNeg) rc hf) (lw_V q1525 q1526 q1527 q118 q1528) (by decide +kernel) rfl rfl dL_law_1800 ⟨Nat.le_of_ble_eq_true rfl, Nat.le_of_ble_eq_true rfl⟩ (by (try dsimp only); omega) (by (try dsimp only); omega) (Nat.le_of_ble_eq_true rfl) (fun n2 g1 g2 => ?_)
  refine jl_aload_n hk (pc := 1803) dL_law_1803 2 rfl rfl ?_
  refine jl_aload_n hk (pc := 1804) dL_law_1804 0 rfl rfl ?_
  refine jl_iload_n hk (pc := 1805) dL_law_1805 3 rfl rfl ?_
  refine jl_iconst hk (pc := 1806) (v := 1) dL_law_1806 (by decide) ?_
  refine jl_iadd hk (pc := 1807) dL_law_1807 ?_
  refine jl_iald hk (pc := 1808) h1 dL_law_1808 ?_
  refine jl_mR hk (pc := 1809) (np := 1) (r := rm) [.int (xs (i + 1).toNatClampNeg)] (cc_m_many l (jn J n2) 1000 μ (xs (i + 1).toNatClampNeg) rm hmf) (lw_V q2211 q2212 q2213 q127 q2214) (by decide +kernel) rfl rfl dL_law_1809 ⟨Nat.le_of_ble_eq_true rfl, Nat.le_of_ble_eq_true rfl⟩ (by (try dsimp only); omega) (by (try dsimp only); omega) (Nat.le_of_ble_eq_true rfl) ?_
  refine jl_eqT hk (pc := 1812) 1843 dL_law_1812 (by decide) hre.symm ?_
  refine jl_more (k1 := k + 2600) (n1 := n + 106600) (by (try dsimp only); omega) (by (try dsimp only); omega) ?_
  exact kk _ _ _ (hrel n2 g1 g2)
theorem lc_53 (hk : lk p s m b meth c G KK J A L xs) (hlt : l.stackTraces = false) (h1 : vp_in (i + 1) L) (h2 : vp_in (i + 2) L) (h3 : vp_in (i + 3) L) (h4 : vp_in (i + 4) L) (hk1 : k + 2600 ≤ 699883) (hk2 : n + 106600 ≤ 6971880) (hP : pLaw Rel 53 (xs (i + 1).toNatClampNeg) (xs (i + 2).toNatClampNeg) (xs (i + 3).toNatClampNeg) (xs (i + 4).toNatClampNeg) σ d μ)
    (kk : ∀ σ' d' μ', Rel σ' d' μ' → jl p l e s m b below meth c G J A Q (k + 2600) (n + 106600) σ' d' μ' 1843 [(0, .ref b), (1, .ref (ha G 0)), (2, .ref (gh J)), (3, .int i)] []) : jl p l e s m b below meth c G J A Q k n σ d μ 1817 [(0, .ref b), (1, .ref (ha G 0)), (2, .ref (gh J)), (3, .int i)] [] := by
  obtain ⟨r, σ', d', μ', hc, hm, hrel, hg1, hg2⟩ := hP
  obtain ⟨rc, hf, he⟩ := Option.map_eq_some_iff.mp (show (f0_keep σ).map (fun r => (r.1, r.2, d)) = some (r, σ', d') from hc)
  obtain ⟨rfl, rfl, rfl⟩ : rc.1 = r ∧ rc.2 = σ' ∧ d = d' := ⟨congrArg (·.1) he, congrArg (·.2.1) he, congrArg (·.2.2) he⟩
  have hmf : m_keep 1000 μ = some (rc.1, μ') := hm
  refine jl_aload_n hk (pc := 1817) dL_law_1817 1 rfl rfl ?_
  refine jl_U hk (pc := 1818) (np := 0) (r := rc) [] (cc_f0_keep l hk.2.1 d σ rc hf) (lw_V q1533 q1534 q1535 q118 q1536) (by decide +kernel) rfl rfl dL_law_1818 ⟨Nat.le_of_ble_eq_true rfl, Nat.le_of_ble_eq_true rfl⟩ (by (try dsimp only); omega) (by (try dsimp only); omega) (Nat.le_of_ble_eq_true rfl) (fun n2 g1 g2 => ?_)
  refine jl_aload_n hk (pc := 1821) dL_law_1821 2 rfl rfl ?_
  refine jl_mU hk (pc := 1822) (np := 0) (r := (rc.1, μ')) [] (cc_m_keep l (jn J n2) 1000 μ (rc.1, μ') hmf) (lw_V q2219 q2220 q2221 q127 q2222) (by decide +kernel) rfl rfl dL_law_1822 ⟨Nat.le_of_ble_eq_true rfl, Nat.le_of_ble_eq_true rfl⟩ (by (try dsimp only); omega) (by (try dsimp only); omega) (Nat.le_of_ble_eq_true rfl) ?_
  refine jl_eqT hk (pc := 1825) 1843 dL_law_1825 (by decide) rfl ?_
  refine jl_more (k1 := k + 2600) (n1 := n + 106600) (by (try dsimp only); omega) (by (try dsimp only); omega) ?_
  exact kk _ _ _ (hrel n2 g1 g2)
theorem lc_54 (hk : lk p s m b meth c G KK J A L xs) (hlt : l.stackTraces = false) (h1 : vp_in (i + 1) L) (h2 : vp_in (i + 2) L) (h3 : vp_in (i + 3) L) (h4 : vp_in (i + 4) L) (hk1 : k + 2600 ≤ 699883) (hk2 : n + 106600 ≤ 6971880) (hP : pLaw Rel 54 (xs (i + 1).toNatClampNeg) (xs (i + 2).toNatClampNeg) (xs (i + 3).toNatClampNeg) (xs (i + 4).toNatClampNeg) σ d μ)
    (kk : ∀ σ' d' μ', Rel σ' d' μ' → jl p l e s m b below meth c G J A Q (k + 2600) (n + 106600) σ' d' μ' 1843 [(0, .ref b), (1, .ref (ha G 0)), (2, .ref (gh J)), (3, .int i)] []) : jl p l e s m b below meth c G J A Q k n σ d μ 1830 [(0, .ref b), (1, .ref (ha G 0)), (2, .ref (gh J)), (3, .int i)] [] := by
  obtain ⟨r, σ', d', μ', hc, hm, hrel, hg1, hg2⟩ := hP
  have hf : f0_again 1000 σ d = some (r, σ', d') := hc
  have hmf : m_again 1000 μ = some (r, μ') := hm
  refine jl_aload_n hk (pc := 1830) dL_law_1830 1 rfl rfl ?_
  refine jl_A hk (pc := 1831) (np := 0) (r := (r, σ', d')) [] (cc_f0_again l hk.2.1 1000 σ d (r, σ', d') hf) (lw_V q1537 q1538 q1539 q118 q1540) (by decide +kernel) rfl rfl dL_law_1831 ⟨Nat.le_of_ble_eq_true rfl, Nat.le_of_ble_eq_true rfl⟩ (by (try dsimp only); omega) (by (try dsimp only); omega) (Nat.le_of_ble_eq_true rfl) (fun n2 g1 g2 => ?_)
  refine jl_aload_n hk (pc := 1834) dL_law_1834 2 rfl rfl ?_
  refine jl_mU hk (pc := 1835) (np := 0) (r := (r, μ')) [] (cc_m_again l (jn J n2) 1000 μ (r, μ') hmf) (lw_V q2223 q2224 q2225 q127 q2226) (by decide +kernel) rfl rfl dL_law_1835 ⟨Nat.le_of_ble_eq_true rfl, Nat.le_of_ble_eq_true rfl⟩ (by (try dsimp only); omega) (by (try dsimp only); omega) (Nat.le_of_ble_eq_true rfl) ?_
  refine jl_eqT hk (pc := 1838) 1843 dL_law_1838 (by decide) rfl ?_
  refine jl_more (k1 := k + 2600) (n1 := n + 106600) (by (try dsimp only); omega) (by (try dsimp only); omega) ?_
  exact kk _ _ _ (hrel n2 g1 g2)
end
