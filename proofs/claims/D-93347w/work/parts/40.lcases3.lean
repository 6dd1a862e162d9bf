/-! THE LAW, CASE BY CASE -/
set_option maxRecDepth 100000
set_option maxHeartbeats 1000000
section
variable {p : Program} {l : Launch} {e : Env} {s : State} {m : MethodId} {b : Nat} {below : List Frame} {meth : Method} {c : Code} {G : cG} {KK : State → Prop} {J : jG} {A : Nat → Prop} {L : Nat} {xs : Nat → Int32} {Q : State → Prop} {k n : Nat} {σ : SS} {d : DS} {μ : MS} {i : Int32} {Rel : SS → DS → MS → Prop}
theorem lc_28 (hk : lk p s m b meth c G KK J A L xs) (hlt : l.stackTraces = false) (h1 : vp_in (i + 1) L) (h2 : vp_in (i + 2) L) (h3 : vp_in (i + 3) L) (h4 : vp_in (i + 4) L) (hk1 : k + 2600 ≤ 699883) (hk2 : n + 106600 ≤ 6971880) (hP : pLaw Rel 28 (xs (i + 1).toNatClampNeg) (xs (i + 2).toNatClampNeg) (xs (i + 3).toNatClampNeg) (xs (i + 4).toNatClampNeg) σ d μ)
    (kk : ∀ σ' d' μ', Rel σ' d' μ' → jl p l e s m b below meth c G J A Q (k + 2600) (n + 106600) σ' d' μ' 1843 [(0, .ref b), (1, .ref (ha G 0)), (2, .ref (gh J)), (3, .int i)] []) : jl p l e s m b below meth c G J A Q k n σ d μ 1042 [(0, .ref b), (1, .ref (ha G 0)), (2, .ref (gh J)), (3, .int i)] [] := by
  obtain ⟨r, σ', d', μ', hc, hm, hrel, hg1, hg2⟩ := hP
  obtain ⟨rc, hf, he⟩ := Option.map_eq_some_iff.mp (show (f0_life 1000 d σ (xs (i + 1).toNatClampNeg) (xs (i + 2).toNatClampNeg)).map (fun r => (r.1, r.2, d)) = some (r, σ', d') from hc)
  obtain ⟨rfl, rfl, rfl⟩ : rc.1 = r ∧ rc.2 = σ' ∧ d = d' := ⟨congrArg (·.1) he, congrArg (·.2.1) he, congrArg (·.2.2) he⟩
  have hmf : m_life 1000 μ (xs (i + 1).toNatClampNeg) (xs (i + 2).toNatClampNeg) = some (rc.1, μ') := hm
  refine jl_aload_n hk (pc := 1042) dL_law_1042 1 rfl rfl ?_
  refine jl_aload_n hk (pc := 1043) dL_law_1043 0 rfl rfl ?_
  refine jl_iload_n hk (pc := 1044) dL_law_1044 3 rfl rfl ?_
  refine jl_iconst hk (pc := 1045) (v := 1) dL_law_1045 (by decide) ?_
  refine jl_iadd hk (pc := 1046) dL_law_1046 ?_
  refine jl_iald hk (pc := 1047) h1 dL_law_1047 ?_
  refine jl_aload_n hk (pc := 1048) dL_law_1048 0 rfl rfl ?_
  refine jl_iload_n hk (pc := 1049) dL_law_1049 3 rfl rfl ?_
  refine jl_iconst hk (pc := 1050) (v := 2) dL_law_1050 (by decide) ?_
  refine jl_iadd hk (pc := 1051) dL_law_1051 ?_
  refine jl_iald hk (pc := 1052) h2 dL_law_1052 ?_
  refine jl_U hk (pc := 1053) (np := 2) (r := rc) [.int (xs (i + 1).toNatClampNeg), .int (xs (i + 2).toNatClampNeg)] (cc_f0_life l hk.2.1 d 1000 σ (xs (i + 1).toNatClampNeg) (xs (i + 2).toNatClampNeg) rc hf) (lw_V q1079 q1080 q1081 q118 q1082) (by decide +kernel) rfl rfl dL_law_1053 ⟨Nat.le_of_ble_eq_true rfl, Nat.le_of_ble_eq_true rfl⟩ (by (try dsimp only); omega) (by (try dsimp only); omega) (Nat.le_of_ble_eq_true rfl) (fun n2 g1 g2 => ?_)
  refine jl_aload_n hk (pc := 1056) dL_law_1056 2 rfl rfl ?_
  refine jl_aload_n hk (pc := 1057) dL_law_1057 0 rfl rfl ?_
  refine jl_iload_n hk (pc := 1058) dL_law_1058 3 rfl rfl ?_
  refine jl_iconst hk (pc := 1059) (v := 1) dL_law_1059 (by decide) ?_
  refine jl_iadd hk (pc := 1060) dL_law_1060 ?_
  refine jl_iald hk (pc := 1061) h1 dL_law_1061 ?_
  refine jl_aload_n hk (pc := 1062) dL_law_1062 0 rfl rfl ?_
  refine jl_iload_n hk (pc := 1063) dL_law_1063 3 rfl rfl ?_
  refine jl_iconst hk (pc := 1064) (v := 2) dL_law_1064 (by decide) ?_
  refine jl_iadd hk (pc := 1065) dL_law_1065 ?_
  refine jl_iald hk (pc := 1066) h2 dL_law_1066 ?_
  refine jl_mU hk (pc := 1067) (np := 2) (r := (rc.1, μ')) [.int (xs (i + 1).toNatClampNeg), .int (xs (i + 2).toNatClampNeg)] (cc_m_life l (jn J n2) 1000 μ (xs (i + 1).toNatClampNeg) (xs (i + 2).toNatClampNeg) (rc.1, μ') hmf) (lw_V q1929 q1930 q1931 q127 q1932) (by decide +kernel) rfl rfl dL_law_1067 ⟨Nat.le_of_ble_eq_true rfl, Nat.le_of_ble_eq_true rfl⟩ (by (try dsimp only); omega) (by (try dsimp only); omega) (Nat.le_of_ble_eq_true rfl) ?_
  refine jl_eqT hk (pc := 1070) 1843 dL_law_1070 (by decide) rfl ?_
  refine jl_more (k1 := k + 2600) (n1 := n + 106600) (by (try dsimp only); omega) (by (try dsimp only); omega) ?_
  exact kk _ _ _ (hrel n2 g1 g2)
theorem lc_29 (hk : lk p s m b meth c G KK J A L xs) (hlt : l.stackTraces = false) (h1 : vp_in (i + 1) L) (h2 : vp_in (i + 2) L) (h3 : vp_in (i + 3) L) (h4 : vp_in (i + 4) L) (hk1 : k + 2600 ≤ 699883) (hk2 : n + 106600 ≤ 6971880) (hP : pLaw Rel 29 (xs (i + 1).toNatClampNeg) (xs (i + 2).toNatClampNeg) (xs (i + 3).toNatClampNeg) (xs (i + 4).toNatClampNeg) σ d μ)
    (kk : ∀ σ' d' μ', Rel σ' d' μ' → jl p l e s m b below meth c G J A Q (k + 2600) (n + 106600) σ' d' μ' 1843 [(0, .ref b), (1, .ref (ha G 0)), (2, .ref (gh J)), (3, .int i)] []) : jl p l e s m b below meth c G J A Q k n σ d μ 1075 [(0, .ref b), (1, .ref (ha G 0)), (2, .ref (gh J)), (3, .int i)] [] := by
  obtain ⟨r, σ', d', μ', hc, hm, hrel, hg1, hg2⟩ := hP
  obtain ⟨rc, hf, he⟩ := Option.map_eq_some_iff.mp (show (f0_bars 1000 d σ (xs (i + 1).toNatClampNeg) (xs (i + 2).toNatClampNeg)).map (fun r => (r.1, r.2, d)) = some (r, σ', d') from hc)
  obtain ⟨rfl, rfl, rfl⟩ : rc.1 = r ∧ rc.2 = σ' ∧ d = d' := ⟨congrArg (·.1) he, congrArg (·.2.1) he, congrArg (·.2.2) he⟩
  have hmf : m_bars 1000 μ (xs (i + 1).toNatClampNeg) (xs (i + 2).toNatClampNeg) = some (rc.1, μ') := hm
  refine jl_aload_n hk (pc := 1075) dL_law_1075 1 rfl rfl ?_
  refine jl_aload_n hk (pc := 1076) dL_law_1076 0 rfl rfl ?_
  refine jl_iload_n hk (pc := 1077) dL_law_1077 3 rfl rfl ?_
  refine jl_iconst hk (pc := 1078) (v := 1) dL_law_1078 (by decide) ?_
  refine jl_iadd hk (pc := 1079) dL_law_1079 ?_
  refine jl_iald hk (pc := 1080) h1 dL_law_1080 ?_
  refine jl_aload_n hk (pc := 1081) dL_law_1081 0 rfl rfl ?_
  refine jl_iload_n hk (pc := 1082) dL_law_1082 3 rfl rfl ?_
  refine jl_iconst hk (pc := 1083) (v := 2) dL_law_1083 (by decide) ?_
  refine jl_iadd hk (pc := 1084) dL_law_1084 ?_
  refine jl_iald hk (pc := 1085) h2 dL_law_1085 ?_
  refine jl_U hk (pc := 1086) (np := 2) (r := rc) [.int (xs (i + 1).toNatClampNeg), .int (xs (i + 2).toNatClampNeg)] (cc_f0_bars l hk.2.1 d 1000 σ (xs (i + 1).toNatClampNeg) (xs (i + 2).toNatClampNeg) rc hf) (lw_V q1098 q1099 q1100 q118 q1101) (by decide +kernel) rfl rfl dL_law_1086 ⟨Nat.le_of_ble_eq_true rfl, Nat.le_of_ble_eq_true rfl⟩ (by (try dsimp only); omega) (by (try dsimp only); omega) (Nat.le_of_ble_eq_true rfl) (fun n2 g1 g2 => ?_)
  refine jl_aload_n hk (pc := 1089) dL_law_1089 2 rfl rfl ?_
  refine jl_aload_n hk (pc := 1090) dL_law_1090 0 rfl rfl ?_
  refine jl_iload_n hk (pc := 1091) dL_law_1091 3 rfl rfl ?_
  refine jl_iconst hk (pc := 1092) (v := 1) dL_law_1092 (by decide) ?_
  refine jl_iadd hk (pc := 1093) dL_law_1093 ?_
  refine jl_iald hk (pc := 1094) h1 dL_law_1094 ?_
  refine jl_aload_n hk (pc := 1095) dL_law_1095 0 rfl rfl ?_
  refine jl_iload_n hk (pc := 1096) dL_law_1096 3 rfl rfl ?_
  refine jl_iconst hk (pc := 1097) (v := 2) dL_law_1097 (by decide) ?_
  refine jl_iadd hk (pc := 1098) dL_law_1098 ?_
  refine jl_iald hk (pc := 1099) h2 dL_law_1099 ?_
  refine jl_mU hk (pc := 1100) (np := 2) (r := (rc.1, μ')) [.int (xs (i + 1).toNatClampNeg), .int (xs (i + 2).toNatClampNeg)] (cc_m_bars l (jn J n2) 1000 μ (xs (i + 1).toNatClampNeg) (xs (i + 2).toNatClampNeg) (rc.1, μ') hmf) (lw_V q1937 q1938 q1939 q127 q1940) (by decide +kernel) rfl rfl dL_law_1100 ⟨Nat.le_of_ble_eq_true rfl, Nat.le_of_ble_eq_true rfl⟩ (by (try dsimp only); omega) (by (try dsimp only); omega) (Nat.le_of_ble_eq_true rfl) ?_
  refine jl_eqT hk (pc := 1103) 1843 dL_law_1103 (by decide) rfl ?_
  refine jl_more (k1 := k + 2600) (n1 := n + 106600) (by (try dsimp only); omega) (by (try dsimp only); omega) ?_
  exact kk _ _ _ (hrel n2 g1 g2)
theorem lc_30 (hk : lk p s m b meth c G KK J A L xs) (hlt : l.stackTraces = false) (h1 : vp_in (i + 1) L) (h2 : vp_in (i + 2) L) (h3 : vp_in (i + 3) L) (h4 : vp_in (i + 4) L) (hk1 : k + 2600 ≤ 699883) (hk2 : n + 106600 ≤ 6971880) (hP : pLaw Rel 30 (xs (i + 1).toNatClampNeg) (xs (i + 2).toNatClampNeg) (xs (i + 3).toNatClampNeg) (xs (i + 4).toNatClampNeg) σ d μ)
    (kk : ∀ σ' d' μ', Rel σ' d' μ' → jl p l e s m b below meth c G J A Q (k + 2600) (n + 106600) σ' d' μ' 1843 [(0, .ref b), (1, .ref (ha G 0)), (2, .ref (gh J)), (3, .int i)] []) : jl p l e s m b below meth c G J A Q k n σ d μ 1108 [(0, .ref b), (1, .ref (ha G 0)), (2, .ref (gh J)), (3, .int i)] [] := by
  obtain ⟨r, σ', d', μ', hc, hm, hrel, hg1, hg2⟩ := hP
  obtain ⟨rc, hf, he⟩ := Option.map_eq_some_iff.mp (show (f0_game 1000 d σ (xs (i + 1).toNatClampNeg)).map (fun r => (r.1, r.2, d)) = some (r, σ', d') from hc)
  obtain ⟨rfl, rfl, rfl⟩ : rc.1 = r ∧ rc.2 = σ' ∧ d = d' := ⟨congrArg (·.1) he, congrArg (·.2.1) he, congrArg (·.2.2) he⟩
  have hmf : m_game 1000 μ (xs (i + 1).toNatClampNeg) = some (rc.1, μ') := hm
  refine jl_aload_n hk (pc := 1108) dL_law_1108 1 rfl rfl ?_
  refine jl_aload_n hk (pc := 1109) dL_law_1109 0 rfl rfl ?_
  refine jl_iload_n hk (pc := 1110) dL_law_1110 3 rfl rfl ?_
  refine jl_iconst hk (pc := 1111) (v := 1) dL_law_1111 (by decide) ?_
  refine jl_iadd hk (pc := 1112) dL_law_1112 ?_
  refine jl_iald hk (pc := 1113) h1 dL_law_1113 ?_
  refine jl_U hk (pc := 1114) (np := 1) (r := rc) [.int (xs (i + 1).toNatClampNeg)] (cc_f0_game l hk.2.1 d 1000 σ (xs (i + 1).toNatClampNeg) rc hf) (lw_V q1106 q1107 q1108 q118 q1109) (by decide +kernel) rfl rfl dL_law_1114 ⟨Nat.le_of_ble_eq_true rfl, Nat.le_of_ble_eq_true rfl⟩ (by (try dsimp only); omega) (by (try dsimp only); omega) (Nat.le_of_ble_eq_true rfl) (fun n2 g1 g2 => ?_)
  refine jl_aload_n hk (pc := 1117) dL_law_1117 2 rfl rfl ?_
  refine jl_aload_n hk (pc := 1118) dL_law_1118 0 rfl rfl ?_
  refine jl_iload_n hk (pc := 1119) dL_law_1119 3 rfl rfl ?_
  refine jl_iconst hk (pc := 1120) (v := 1) dL_law_1120 (by decide) ?_
  refine jl_iadd hk (pc := 1121) dL_law_1121 ?_
  refine jl_iald hk (pc := 1122) h1 dL_law_1122 ?_
  refine jl_mU hk (pc := 1123) (np := 1) (r := (rc.1, μ')) [.int (xs (i + 1).toNatClampNeg)] (cc_m_game l (jn J n2) 1000 μ (xs (i + 1).toNatClampNeg) (rc.1, μ') hmf) (lw_V q1941 q1942 q1943 q127 q1944) (by decide +kernel) rfl rfl dL_law_1123 ⟨Nat.le_of_ble_eq_true rfl, Nat.le_of_ble_eq_true rfl⟩ (by (try dsimp only); omega) (by (try dsimp only); omega) (Nat.le_of_ble_eq_true rfl) ?_
  refine jl_eqT hk (pc := 1126) 1843 dL_law_1126 (by decide) rfl ?_
  refine jl_more (k1 := k + 2600) (n1 := n + 106600) (by (try dsimp only); omega) (by (try dsimp only); omega) ?_
  exact kk _ _ _ (hrel n2 g1 g2)
theorem lc_31 (hk : lk p s m b meth c G KK J A L xs) (hlt : l.stackTraces = false) (h1 : vp_in (i + 1) L) (h2 : vp_in (i + 2) L) (h3 : vp_in (i + 3) L) (h4 : vp_in (i + 4) L) (hk1 : k + 2600 ≤ 699883) (hk2 : n + 106600 ≤ 6971880) (hP : pLaw Rel 31 (xs (i + 1).toNatClampNeg) (xs (i + 2).toNatClampNeg) (xs (i + 3).toNatClampNeg) (xs (i + 4).toNatClampNeg) σ d μ)
    (kk : ∀ σ' d' μ', Rel σ' d' μ' → jl p l e s m b below meth c G J A Q (k + 2600) (n + 106600) σ' d' μ' 1843 [(0, .ref b), (1, .ref (ha G 0)), (2, .ref (gh J)), (3, .int i)] []) : jl p l e s m b below meth c G J A Q k n σ d μ 1131 [(0, .ref b), (1, .ref (ha G 0)), (2, .ref (gh J)), (3, .int i)] [] := by
  obtain ⟨r, σ', d', μ', hc, hm, hrel, hg1, hg2⟩ := hP
  obtain ⟨rc, hf, he⟩ := Option.map_eq_some_iff.mp (show (f0_play 1000 d σ (xs (i + 1).toNatClampNeg)).map (fun r => (r.1, r.2, d)) = some (r, σ', d') from hc)
  obtain ⟨rfl, rfl, rfl⟩ : rc.1 = r ∧ rc.2 = σ' ∧ d = d' := ⟨congrArg (·.1) he, congrArg (·.2.1) he, congrArg (·.2.2) he⟩
  have hmf : m_play 1000 μ (xs (i + 1).toNatClampNeg) = some (rc.1, μ') := hm
  refine jl_aload_n hk (pc := 1131) dL_law_1131 1 rfl rfl ?_
  refine jl_aload_n hk (pc := 1132) dL_law_1132 0 rfl rfl ?_
  refine jl_iload_n hk (pc := 1133) dL_law_1133 3 rfl rfl ?_
  refine jl_iconst hk (pc := 1134) (v := 1) dL_law_1134 (by decide) ?_
  refine jl_iadd hk (pc := 1135) dL_law_1135 ?_
  refine jl_iald hk (pc := 1136) h1 dL_law_1136 ?_
  refine jl_U hk (pc := 1137) (np := 1) (r := rc) [.int (xs (i + 1).toNatClampNeg)] (cc_f0_play l hk.2.1 d 1000 σ (xs (i + 1).toNatClampNeg) rc hf) (lw_V q1114 q1115 q1116 q118 q1117) (by decide +kernel) rfl rfl dL_law_1137 ⟨Nat.le_of_ble_eq_true rfl, Nat.le_of_ble_eq_true rfl⟩ (by (try dsimp only); omega) (by (try dsimp only); omega) (Nat.le_of_ble_eq_true rfl) (fun n2 g1 g2 => ?_)
  refine jl_aload_n hk (pc := 1140) dL_law_1140 2 rfl rfl ?_
  refine jl_aload_n hk (pc := 1141) dL_law_1141 0 rfl rfl ?_
  refine jl_iload_n hk (pc := 1142) dL_law_1142 3 rfl rfl ?_
  refine jl_iconst hk (pc := 1143) (v := 1) dL_law_1143 (by decide) ?_
  refine jl_iadd hk (pc := 1144) dL_law_1144 ?_
  refine jl_iald hk (pc := 1145) h1 dL_law_1145 ?_
  refine jl_mU hk (pc := 1146) (np := 1) (r := (rc.1, μ')) [.int (xs (i + 1).toNatClampNeg)] (cc_m_play l (jn J n2) 1000 μ (xs (i + 1).toNatClampNeg) (rc.1, μ') hmf) (lw_V q1949 q1950 q1951 q127 q1952) (by decide +kernel) rfl rfl dL_law_1146 ⟨Nat.le_of_ble_eq_true rfl, Nat.le_of_ble_eq_true rfl⟩ (by (try dsimp only); omega) (by (try dsimp only); omega) (Nat.le_of_ble_eq_true rfl) ?_
  refine jl_eqT hk (pc := 1149) 1843 dL_law_1149 (by decide) rfl ?_
  refine jl_more (k1 := k + 2600) (n1 := n + 106600) (by (try dsimp only); omega) (by (try dsimp only); omega) ?_
  exact kk _ _ _ (hrel n2 g1 g2)
theorem lc_32 (hk : lk p s m b meth c G KK J A L xs) (hlt : l.stackTraces = false) (h1 : vp_in (i + 1) L) (h2 : vp_in (i + 2) L) (h3 : vp_in (i + 3) L) (h4 : vp_in (i + 4) L) (hk1 : k + 2600 ≤ 699883) (hk2 : n + 106600 ≤ 6971880) (hP : pLaw Rel 32 (xs (i + 1).toNatClampNeg) (xs (i + 2).toNatClampNeg) (xs (i + 3).toNatClampNeg) (xs (i + 4).toNatClampNeg) σ d μ)
    (kk : ∀ σ' d' μ', Rel σ' d' μ' → jl p l e s m b below meth c G J A Q (k + 2600) (n + 106600) σ' d' μ' 1843 [(0, .ref b), (1, .ref (ha G 0)), (2, .ref (gh J)), (3, .int i)] []) : jl p l e s m b below meth c G J A Q k n σ d μ 1154 [(0, .ref b), (1, .ref (ha G 0)), (2, .ref (gh J)), (3, .int i)] [] := by
  obtain ⟨r, σ', d', μ', hc, hm, hrel, hg1, hg2⟩ := hP
  obtain ⟨rc, hf, he⟩ := Option.map_eq_some_iff.mp (show (f0_report σ (xs (i + 1).toNatClampNeg) (xs (i + 2).toNatClampNeg) (xs (i + 3).toNatClampNeg) (xs (i + 4).toNatClampNeg)).map (fun r => (r.1, r.2, d)) = some (r, σ', d') from hc)
  obtain ⟨rfl, rfl, rfl⟩ : rc.1 = r ∧ rc.2 = σ' ∧ d = d' := ⟨congrArg (·.1) he, congrArg (·.2.1) he, congrArg (·.2.2) he⟩
  have hmf : m_report μ (xs (i + 1).toNatClampNeg) (xs (i + 2).toNatClampNeg) (xs (i + 3).toNatClampNeg) (xs (i + 4).toNatClampNeg) = some (rc.1, μ') := hm
  refine jl_aload_n hk (pc := 1154) dL_law_1154 1 rfl rfl ?_
  refine jl_aload_n hk (pc := 1155) dL_law_1155 0 rfl rfl ?_
  refine jl_iload_n hk (pc := 1156) dL_law_1156 3 rfl rfl ?_
  refine jl_iconst hk (pc := 1157) (v := 1) dL_law_1157 (by decide) ?_
  refine jl_iadd hk (pc := 1158) dL_law_1158 ?_
  refine jl_iald hk (pc := 1159) h1 dL_law_1159 ?_
  refine jl_aload_n hk (pc := 1160) dL_law_1160 0 rfl rfl ?_
  refine jl_iload_n hk (pc := 1161) dL_law_1161 3 rfl rfl ?_
  refine jl_iconst hk (pc := 1162) (v := 2) dL_law_1162 (by decide) ?_
  refine jl_iadd hk (pc := 1163) dL_law_1163 ?_
  refine jl_iald hk (pc := 1164) h2 dL_law_1164 ?_
  refine jl_aload_n hk (pc := 1165) dL_law_1165 0 rfl rfl ?_
  refine jl_iload_n hk (pc := 1166) dL_law_1166 3 rfl rfl ?_
  refine jl_iconst hk (pc := 1167) (v := 3) dL_law_1167 (by decide) ?_
  refine jl_iadd hk (pc := 1168) dL_law_1168 ?_
  refine jl_iald hk (pc := 1169) h3 dL_law_1169 ?_
  refine jl_aload_n hk (pc := 1170) dL_law_1170 0 rfl rfl ?_
  refine jl_iload_n hk (pc := 1171) dL_law_1171 3 rfl rfl ?_
  refine jl_iconst hk (pc := 1172) (v := 4) dL_law_1172 (by decide) ?_
  refine jl_iadd hk (pc := 1173) dL_law_1173 ?_
  refine jl_iald hk (pc := 1174) h4 dL_law_1174 ?_
  refine jl_U hk (pc := 1175) (np := 4) (r := rc) [.int (xs (i + 1).toNatClampNeg), .int (xs (i + 2).toNatClampNeg), .int (xs (i + 3).toNatClampNeg), .int (xs (i + 4).toNatClampNeg)] (cc_f0_report l hk.2.1 d σ (xs (i + 1).toNatClampNeg) (xs (i + 2).toNatClampNeg) (xs (i + 3).toNatClampNeg) (xs (i + 4).toNatClampNeg) rc hf) (lw_V q1118 q1119 q1120 q118 q1121) (by decide +kernel) rfl rfl dL_law_1175 ⟨Nat.le_of_ble_eq_true rfl, Nat.le_of_ble_eq_true rfl⟩ (by (try dsimp only); omega) (by (try dsimp only); omega) (Nat.le_of_ble_eq_true rfl) (fun n2 g1 g2 => ?_)
  refine jl_aload_n hk (pc := 1178) dL_law_1178 2 rfl rfl ?_
  refine jl_aload_n hk (pc := 1179) dL_law_1179 0 rfl rfl ?_
  refine jl_iload_n hk (pc := 1180) dL_law_1180 3 rfl rfl ?_
  refine jl_iconst hk (pc := 1181) (v := 1) dL_law_1181 (by decide) ?_
  refine jl_iadd hk (pc := 1182) dL_law_1182 ?_
  refine jl_iald hk (pc := 1183) h1 dL_law_1183 ?_
  refine jl_aload_n hk (pc := 1184) dL_law_1184 0 rfl rfl ?_
  refine jl_iload_n hk (pc := 1185) dL_law_1185 3 rfl rfl ?_
  refine jl_iconst hk (pc := 1186) (v := 2) dL_law_1186 (by decide) ?_
  refine jl_iadd hk (pc := 1187) dL_law_1187 ?_
  refine jl_iald hk (pc := 1188) h2 dL_law_1188 ?_
  refine jl_aload_n hk (pc := 1189) dL_law_1189 0 rfl rfl ?_
  refine jl_iload_n hk (pc := 1190) dL_law_1190 3 rfl rfl ?_
  refine jl_iconst hk (pc := 1191) (v := 3) dL_law_1191 (by decide) ?_
  refine jl_iadd hk (pc := 1192) dL_law_1192 ?_
  refine jl_iald hk (pc := 1193) h3 dL_law_1193 ?_
  refine jl_aload_n hk (pc := 1194) dL_law_1194 0 rfl rfl ?_
  refine jl_iload_n hk (pc := 1195) dL_law_1195 3 rfl rfl ?_
  refine jl_iconst hk (pc := 1196) (v := 4) dL_law_1196 (by decide) ?_
  refine jl_iadd hk (pc := 1197) dL_law_1197 ?_
  refine jl_iald hk (pc := 1198) h4 dL_law_1198 ?_
  refine jl_mU hk (pc := 1199) (np := 4) (r := (rc.1, μ')) [.int (xs (i + 1).toNatClampNeg), .int (xs (i + 2).toNatClampNeg), .int (xs (i + 3).toNatClampNeg), .int (xs (i + 4).toNatClampNeg)] (cc_m_report l (jn J n2) μ (xs (i + 1).toNatClampNeg) (xs (i + 2).toNatClampNeg) (xs (i + 3).toNatClampNeg) (xs (i + 4).toNatClampNeg) (rc.1, μ') hmf) (lw_V q1953 q1954 q1955 q127 q1956) (by decide +kernel) rfl rfl dL_law_1199 ⟨Nat.le_of_ble_eq_true rfl, Nat.le_of_ble_eq_true rfl⟩ (by (try dsimp only); omega) (by (try dsimp only); omega) (Nat.le_of_ble_eq_true rfl) ?_
  refine jl_eqT hk (pc := 1202) 1843 dL_law_1202 (by decide) rfl ?_
  refine jl_more (k1 := k + 2600) (n1 := n + 106600) (by (try dsimp only); omega) (by (try dsimp only); omega) ?_
  exact kk _ _ _ (hrel n2 g1 g2)
theorem lc_33 (hk : lk p s m b meth c G KK J A L xs) (hlt : l.stackTraces = false) (h1 : vp_in (i + 1) L) (h2 : vp_in (i + 2) L) (h3 : vp_in (i + 3) L) (h4 : vp_in (i + 4) L) (hk1 : k + 2600 ≤ 699883) (hk2 : n + 106600 ≤ 6971880) (hP : pLaw Rel 33 (xs (i + 1).toNatClampNeg) (xs (i + 2).toNatClampNeg) (xs (i + 3).toNatClampNeg) (xs (i + 4).toNatClampNeg) σ d μ)
    (kk : ∀ σ' d' μ', Rel σ' d' μ' → jl p l e s m b below meth c G J A Q (k + 2600) (n + 106600) σ' d' μ' 1843 [(0, .ref b), (1, .ref (ha G 0)), (2, .ref (gh J)), (3, .int i)] []) : jl p l e s m b below meth c G J A Q k n σ d μ 1207 [(0, .ref b), (1, .ref (ha G 0)), (2, .ref (gh J)), (3, .int i)] [] := by
  obtain ⟨r, σ', d', μ', hc, hm, hrel, hg1, hg2⟩ := hP
  obtain ⟨rc, hf, he⟩ := Option.map_eq_some_iff.mp (show (f0_forget σ).map (fun r => (r.1, r.2, d)) = some (r, σ', d') from hc)
  obtain ⟨rfl, rfl, rfl⟩ : rc.1 = r ∧ rc.2 = σ' ∧ d = d' := ⟨congrArg (·.1) he, congrArg (·.2.1) he, congrArg (·.2.2) he⟩
  have hmf : m_forget μ = some (rc.1, μ') := hm
  refine jl_aload_n hk (pc := 1207) dL_law_1207 1 rfl rfl ?_
  refine jl_U hk (pc := 1208) (np := 0) (r := rc) [] (cc_f0_forget l hk.2.1 d σ rc hf) (lw_V q1122 q1123 q1124 q118 q1125) (by decide +kernel) rfl rfl dL_law_1208 ⟨Nat.le_of_ble_eq_true rfl, Nat.le_of_ble_eq_true rfl⟩ (by (try dsimp only); omega) (by (try dsimp only); omega) (Nat.le_of_ble_eq_true rfl) (fun n2 g1 g2 => ?_)
  refine jl_aload_n hk (pc := 1211) dL_law_1211 2 rfl rfl ?_
  refine jl_mU hk (pc := 1212) (np := 0) (r := (rc.1, μ')) [] (cc_m_forget l (jn J n2) μ (rc.1, μ') hmf) (lw_V q1958 q1959 q1960 q127 q1961) (by decide +kernel) rfl rfl dL_law_1212 ⟨Nat.le_of_ble_eq_true rfl, Nat.le_of_ble_eq_true rfl⟩ (by (try dsimp only); omega) (by (try dsimp only); omega) (Nat.le_of_ble_eq_true rfl) ?_
  refine jl_eqT hk (pc := 1215) 1843 dL_law_1215 (by decide) rfl ?_
  refine jl_more (k1 := k + 2600) (n1 := n + 106600) (by (try dsimp only); omega) (by (try dsimp only); omega) ?_
  exact kk _ _ _ (hrel n2 g1 g2)
theorem lc_34 (hk : lk p s m b meth c G KK J A L xs) (hlt : l.stackTraces = false) (h1 : vp_in (i + 1) L) (h2 : vp_in (i + 2) L) (h3 : vp_in (i + 3) L) (h4 : vp_in (i + 4) L) (hk1 : k + 2600 ≤ 699883) (hk2 : n + 106600 ≤ 6971880) (hP : pLaw Rel 34 (xs (i + 1).toNatClampNeg) (xs (i + 2).toNatClampNeg) (xs (i + 3).toNatClampNeg) (xs (i + 4).toNatClampNeg) σ d μ)
    (kk : ∀ σ' d' μ', Rel σ' d' μ' → jl p l e s m b below meth c G J A Q (k + 2600) (n + 106600) σ' d' μ' 1843 [(0, .ref b), (1, .ref (ha G 0)), (2, .ref (gh J)), (3, .int i)] []) : jl p l e s m b below meth c G J A Q k n σ d μ 1220 [(0, .ref b), (1, .ref (ha G 0)), (2, .ref (gh J)), (3, .int i)] [] := by
  obtain ⟨r, σ', d', μ', hc, hm, hrel, hg1, hg2⟩ := hP
  have hf : f0_span 1000 σ d (xs (i + 1).toNatClampNeg) = some (r, σ', d') := hc
  have hmf : m_span 1000 μ (xs (i + 1).toNatClampNeg) = some (r, μ') := hm
  refine jl_aload_n hk (pc := 1220) dL_law_1220 1 rfl rfl ?_
  refine jl_aload_n hk (pc := 1221) dL_law_1221 0 rfl rfl ?_
  refine jl_iload_n hk (pc := 1222) dL_law_1222 3 rfl rfl ?_
  refine jl_iconst hk (pc := 1223) (v := 1) dL_law_1223 (by decide) ?_
  refine jl_iadd hk (pc := 1224) dL_law_1224 ?_
  refine jl_iald hk (pc := 1225) h1 dL_law_1225 ?_
  refine jl_A hk (pc := 1226) (np := 1) (r := (r, σ', d')) [.int (xs (i + 1).toNatClampNeg)] (cc_f0_span l hk.2.1 1000 σ d (xs (i + 1).toNatClampNeg) (r, σ', d') hf) (lw_V q1126 q1127 q1128 q118 q1129) (by decide +kernel) rfl rfl dL_law_1226 ⟨Nat.le_of_ble_eq_true rfl, Nat.le_of_ble_eq_true rfl⟩ (by (try dsimp only); omega) (by (try dsimp only); omega) (Nat.le_of_ble_eq_true rfl) (fun n2 g1 g2 => ?_)
  refine jl_aload_n hk (pc := 1229) dL_law_1229 2 rfl rfl ?_
  refine jl_aload_n hk (pc := 1230) dL_law_1230 0 rfl rfl ?_
  refine jl_iload_n hk (pc := 1231) dL_law_1231 3 rfl rfl ?_
  refine jl_iconst hk (pc := 1232) (v := 1) dL_law_1232 (by decide) ?_
  refine jl_iadd hk (pc := 1233) dL_law_1233 ?_
  refine jl_iald hk (pc := 1234) h1 dL_law_1234 ?_
  refine jl_mU hk (pc := 1235) (np := 1) (r := (r, μ')) [.int (xs (i + 1).toNatClampNeg)] (cc_m_span l (jn J n2) 1000 μ (xs (i + 1).toNatClampNeg) (r, μ') hmf) (lw_V q1962 q1963 q1964 q127 q1965) (by decide +kernel) rfl rfl dL_law_1235 ⟨Nat.le_of_ble_eq_true rfl, Nat.le_of_ble_eq_true rfl⟩ (by (try dsimp only); omega) (by (try dsimp only); omega) (Nat.le_of_ble_eq_true rfl) ?_
  refine jl_eqT hk (pc := 1238) 1843 dL_law_1238 (by decide) rfl ?_
  refine jl_more (k1 := k + 2600) (n1 := n + 106600) (by (try dsimp only); omega) (by (try dsimp only); omega) ?_
  exact kk _ _ _ (hrel n2 g1 g2)
theorem lc_35 (hk : lk p s m b meth c G KK J A L xs) (hlt : l.stackTraces = false) (h1 : vp_in (i + 1) L) (h2 : vp_in (i + 2) L) (h3 : vp_in (i + 3) L) (h4 : vp_in (i + 4) L) (hk1 : k + 2600 ≤ 699883) (hk2 : n + 106600 ≤ 6971880) (hP : pLaw Rel 35 (xs (i + 1).toNatClampNeg) (xs (i + 2).toNatClampNeg) (xs (i + 3).toNatClampNeg) (xs (i + 4).toNatClampNeg) σ d μ)
    (kk : ∀ σ' d' μ', Rel σ' d' μ' → jl p l e s m b below meth c G J A Q (k + 2600) (n + 106600) σ' d' μ' 1843 [(0, .ref b), (1, .ref (ha G 0)), (2, .ref (gh J)), (3, .int i)] []) : jl p l e s m b below meth c G J A Q k n σ d μ 1243 [(0, .ref b), (1, .ref (ha G 0)), (2, .ref (gh J)), (3, .int i)] [] := by
  obtain ⟨r, σ', d', μ', hc, hm, hrel, hg1, hg2⟩ := hP
  have hf : f0_liar 1000 σ d = some (r, σ', d') := hc
  have hmf : m_liar 1000 μ = some (r, μ') := hm
  refine jl_aload_n hk (pc := 1243) dL_law_1243 1 rfl rfl ?_
  refine jl_A hk (pc := 1244) (np := 0) (r := (r, σ', d')) [] (cc_f0_liar l hk.2.1 1000 σ d (r, σ', d') hf) (lw_V q1142 q1143 q1144 q118 q1145) (by decide +kernel) rfl rfl dL_law_1244 ⟨Nat.le_of_ble_eq_true rfl, Nat.le_of_ble_eq_true rfl⟩ (by (try dsimp only); omega) (by (try dsimp only); omega) (Nat.le_of_ble_eq_true rfl) (fun n2 g1 g2 => ?_)
  refine jl_aload_n hk (pc := 1247) dL_law_1247 2 rfl rfl ?_
  refine jl_mU hk (pc := 1248) (np := 0) (r := (r, μ')) [] (cc_m_liar l (jn J n2) 1000 μ (r, μ') hmf) (lw_V q1978 q1979 q1980 q127 q1981) (by decide +kernel) rfl rfl dL_law_1248 ⟨Nat.le_of_ble_eq_true rfl, Nat.le_of_ble_eq_true rfl⟩ (by (try dsimp only); omega) (by (try dsimp only); omega) (Nat.le_of_ble_eq_true rfl) ?_
  refine jl_eqT hk (pc := 1251) 1843 dL_law_1251 (by decide) rfl ?_
  refine jl_more (k1 := k + 2600) (n1 := n + 106600) (by (try dsimp only); omega) (by (try dsimp only); omega) ?_
  exact kk _ _ _ (hrel n2 g1 g2)
theorem lc_36 (hk : lk p s m b meth c G KK J A L xs) (hlt : l.stackTraces = false) (h1 : vp_in (i + 1) L) (h2 : vp_in (i + 2) L) (h3 : vp_in (i + 3) L) (h4 : vp_in (i + 4) L) (hk1 : k + 2600 ≤ 699883) (hk2 : n + 106600 ≤ 6971880) (hP : pLaw Rel 36 (xs (i + 1).toNatClampNeg) (xs (i + 2).toNatClampNeg) (xs (i + 3).toNatClampNeg) (xs (i + 4).toNatClampNeg) σ d μ)
    (kk : ∀ σ' d' μ', Rel σ' d' μ' → jl p l e s m b below meth c G J A Q (k + 2600) (n + 106600) σ' d' μ' 1843 [(0, .ref b), (1, .ref (ha G 0)), (2, .ref (gh J)), (3, .int i)] []) : jl p l e s m b below meth c G J A Q k n σ d μ 1256 [(0, .ref b), (1, .ref (ha G 0)), (2, .ref (gh J)), (3, .int i)] [] := by
  obtain ⟨r, σ', d', μ', hc, hm, hrel, hg1, hg2⟩ := hP
  obtain ⟨rc, hf, he⟩ := Option.map_eq_some_iff.mp (show (f0_seed σ (xs (i + 1).toNatClampNeg)).map (fun r => (r.1, r.2, d)) = some (r, σ', d') from hc)
  obtain ⟨rfl, rfl, rfl⟩ : rc.1 = r ∧ rc.2 = σ' ∧ d = d' := ⟨congrArg (·.1) he, congrArg (·.2.1) he, congrArg (·.2.2) he⟩
  have hmf : m_seed μ (xs (i + 1).toNatClampNeg) = some (rc.1, μ') := hm
  refine jl_aload_n hk (pc := 1256) dL_law_1256 1 rfl rfl ?_
  refine jl_aload_n hk (pc := 1257) dL_law_1257 0 rfl rfl ?_
  refine jl_iload_n hk (pc := 1258) dL_law_1258 3 rfl rfl ?_
  refine jl_iconst hk (pc := 1259) (v := 1) dL_law_1259 (by decide) ?_
  refine jl_iadd hk (pc := 1260) dL_law_1260 ?_
  refine jl_iald hk (pc := 1261) h1 dL_law_1261 ?_
  refine jl_U hk (pc := 1262) (np := 1) (r := rc) [.int (xs (i + 1).toNatClampNeg)] (cc_f0_seed l hk.2.1 d σ (xs (i + 1).toNatClampNeg) rc hf) (lw_V q1146 q1147 q1148 q118 q1149) (by decide +kernel) rfl rfl dL_law_1262 ⟨Nat.le_of_ble_eq_true rfl, Nat.le_of_ble_eq_true rfl⟩ (by (try dsimp only); omega) (by (try dsimp only); omega) (Nat.le_of_ble_eq_true rfl) (fun n2 g1 g2 => ?_)
  refine jl_aload_n hk (pc := 1265) dL_law_1265 2 rfl rfl ?_
  refine jl_aload_n hk (pc := 1266) dL_law_1266 0 rfl rfl ?_
  refine jl_iload_n hk (pc := 1267) dL_law_1267 3 rfl rfl ?_
  refine jl_iconst hk (pc := 1268) (v := 1) dL_law_1268 (by decide) ?_
  refine jl_iadd hk (pc := 1269) dL_law_1269 ?_
  refine jl_iald hk (pc := 1270) h1 dL_law_1270 ?_
  refine jl_mU hk (pc := 1271) (np := 1) (r := (rc.1, μ')) [.int (xs (i + 1).toNatClampNeg)] (cc_m_seed l (jn J n2) μ (xs (i + 1).toNatClampNeg) (rc.1, μ') hmf) (lw_V q1982 q1983 q1984 q127 q1985) (by decide +kernel) rfl rfl dL_law_1271 ⟨Nat.le_of_ble_eq_true rfl, Nat.le_of_ble_eq_true rfl⟩ (by (try dsimp only); omega) (by (try dsimp only); omega) (Nat.le_of_ble_eq_true rfl) ?_
  refine jl_eqT hk (pc := 1274) 1843 dL_law_1274 (by decide) rfl ?_
  refine jl_more (k1 := k + 2600) (n1 := n + 106600) (by (try dsimp only); omega) (by (try dsimp only); omega) ?_
  exact kk _ _ _ (hrel n2 g1 g2)
theorem lc_37 (hk : lk p s m b meth c G KK J A L xs) (hlt : l.stackTraces = false) (h1 : vp_in (i + 1) L) (h2 : vp_in (i + 2) L) (h3 : vp_in (i + 3) L) (h4 : vp_in (i + 4) L) (hk1 : k + 2600 ≤ 699883) (hk2 : n + 106600 ≤ 6971880) (hP : pLaw Rel 37 (xs (i + 1).toNatClampNeg) (xs (i + 2).toNatClampNeg) (xs (i + 3).toNatClampNeg) (xs (i + 4).toNatClampNeg) σ d μ)
    (kk : ∀ σ' d' μ', Rel σ' d' μ' → jl p l e s m b below meth c G J A Q (k + 2600) (n + 106600) σ' d' μ' 1843 [(0, .ref b), (1, .ref (ha G 0)), (2, .ref (gh J)), (3, .int i)] []) : jl p l e s m b below meth c G J A Q k n σ d μ 1279 [(0, .ref b), (1, .ref (ha G 0)), (2, .ref (gh J)), (3, .int i)] [] := by
  obtain ⟨r, σ', d', μ', hc, hm, hrel, hg1, hg2⟩ := hP
  obtain ⟨rc, hf, he⟩ := Option.map_eq_some_iff.mp (show (f0_lot 1000 d σ).map (fun r => (r.1, r.2, d)) = some (r, σ', d') from hc)
  obtain ⟨rfl, rfl, rfl⟩ : rc.1 = r ∧ rc.2 = σ' ∧ d = d' := ⟨congrArg (·.1) he, congrArg (·.2.1) he, congrArg (·.2.2) he⟩
  have hmf : m_lot 1000 μ = some (rc.1, μ') := hm
  refine jl_aload_n hk (pc := 1279) dL_law_1279 1 rfl rfl ?_
  refine jl_U hk (pc := 1280) (np := 0) (r := rc) [] (cc_f0_lot l hk.2.1 d 1000 σ rc hf) (lw_V q1150 q1151 q1152 q118 q1153) (by decide +kernel) rfl rfl dL_law_1280 ⟨Nat.le_of_ble_eq_true rfl, Nat.le_of_ble_eq_true rfl⟩ (by (try dsimp only); omega) (by (try dsimp only); omega) (Nat.le_of_ble_eq_true rfl) (fun n2 g1 g2 => ?_)
  refine jl_aload_n hk (pc := 1283) dL_law_1283 2 rfl rfl ?_
  refine jl_mU hk (pc := 1284) (np := 0) (r := (rc.1, μ')) [] (cc_m_lot l (jn J n2) 1000 μ (rc.1, μ') hmf) (lw_V q1986 q1987 q1988 q127 q1989) (by decide +kernel) rfl rfl dL_law_1284 ⟨Nat.le_of_ble_eq_true rfl, Nat.le_of_ble_eq_true rfl⟩ (by (try dsimp only); omega) (by (try dsimp only); omega) (Nat.le_of_ble_eq_true rfl) ?_
  refine jl_eqT hk (pc := 1287) 1843 dL_law_1287 (by decide) rfl ?_
  refine jl_more (k1 := k + 2600) (n1 := n + 106600) (by (try dsimp only); omega) (by (try dsimp only); omega) ?_
  exact kk _ _ _ (hrel n2 g1 g2)
theorem lc_38 (hk : lk p s m b meth c G KK J A L xs) (hlt : l.stackTraces = false) (h1 : vp_in (i + 1) L) (h2 : vp_in (i + 2) L) (h3 : vp_in (i + 3) L) (h4 : vp_in (i + 4) L) (hk1 : k + 2600 ≤ 699883) (hk2 : n + 106600 ≤ 6971880) (hP : pLaw Rel 38 (xs (i + 1).toNatClampNeg) (xs (i + 2).toNatClampNeg) (xs (i + 3).toNatClampNeg) (xs (i + 4).toNatClampNeg) σ d μ)
    (kk : ∀ σ' d' μ', Rel σ' d' μ' → jl p l e s m b below meth c G J A Q (k + 2600) (n + 106600) σ' d' μ' 1843 [(0, .ref b), (1, .ref (ha G 0)), (2, .ref (gh J)), (3, .int i)] []) : jl p l e s m b below meth c G J A Q k n σ d μ 1292 [(0, .ref b), (1, .ref (ha G 0)), (2, .ref (gh J)), (3, .int i)] [] := by
  obtain ⟨r, σ', d', μ', hc, hm, hrel, hg1, hg2⟩ := hP
  obtain ⟨rc, hf, he⟩ := Option.map_eq_some_iff.mp (show (f0_often 1000 d σ (xs (i + 1).toNatClampNeg) (xs (i + 2).toNatClampNeg)).map (fun r => (r.1, r.2, d)) = some (r, σ', d') from hc)
  obtain ⟨rfl, rfl, rfl⟩ : rc.1 = r ∧ rc.2 = σ' ∧ d = d' := ⟨congrArg (·.1) he, congrArg (·.2.1) he, congrArg (·.2.2) he⟩
  have hmf : m_often 1000 μ (xs (i + 1).toNatClampNeg) (xs (i + 2).toNatClampNeg) = some (rc.1, μ') := hm
  refine jl_aload_n hk (pc := 1292) dL_law_1292 1 rfl rfl ?_
  refine jl_aload_n hk (pc := 1293) dL_law_1293 0 rfl rfl ?_
  refine jl_iload_n hk (pc := 1294) dL_law_1294 3 rfl rfl ?_
  refine jl_iconst hk (pc := 1295) (v := 1) dL_law_1295 (by decide) ?_
  refine jl_iadd hk (pc := 1296) dL_law_1296 ?_
  refine jl_iald hk (pc := 1297) h1 dL_law_1297 ?_
  refine jl_aload_n hk (pc := 1298) dL_law_1298 0 rfl rfl ?_
  refine jl_iload_n hk (pc := 1299) dL_law_1299 3 rfl rfl ?_
  refine jl_iconst hk (pc := 1300) (v := 2) dL_law_1300 (by decide) ?_
  refine jl_iadd hk (pc := 1301) dL_law_1301 ?_
  refine jl_iald hk (pc := 1302) h2 dL_law_1302 ?_
  refine jl_UW hk (pc := 1303) (np := 2) (r := rc) [.int (xs (i + 1).toNatClampNeg), .int (xs (i + 2).toNatClampNeg)] (cc_f0_often l hk.2.1 d 1000 σ (xs (i + 1).toNatClampNeg) (xs (i + 2).toNatClampNeg) rc hf) (lw_VW q1159 q1160 q1161 q118 q1162) (by decide +kernel) rfl rfl dL_law_1303 ⟨Nat.le_of_ble_eq_true rfl, Nat.le_of_ble_eq_true rfl⟩ (by (try dsimp only); omega) (by (try dsimp only); omega) (Nat.le_of_ble_eq_true rfl) (fun n2 g1 g2 => ?_)
  refine jl_aload_n hk (pc := 1306) dL_law_1306 2 rfl rfl ?_
  refine jl_aload_n hk (pc := 1307) dL_law_1307 0 rfl rfl ?_
  refine jl_iload_n hk (pc := 1308) dL_law_1308 3 rfl rfl ?_
  refine jl_iconst hk (pc := 1309) (v := 1) dL_law_1309 (by decide) ?_
  refine jl_iadd hk (pc := 1310) dL_law_1310 ?_
  refine jl_iald hk (pc := 1311) h1 dL_law_1311 ?_
  refine jl_aload_n hk (pc := 1312) dL_law_1312 0 rfl rfl ?_
  refine jl_iload_n hk (pc := 1313) dL_law_1313 3 rfl rfl ?_
  refine jl_iconst hk (pc := 1314) (v := 2) dL_law_1314 (by decide) ?_
  refine jl_iadd hk (pc := 1315) dL_law_1315 ?_
  refine jl_iald hk (pc := 1316) h2 dL_law_1316 ?_
  refine jl_mU hk (pc := 1317) (np := 2) (r := (rc.1, μ')) [.int (xs (i + 1).toNatClampNeg), .int (xs (i + 2).toNatClampNeg)] (cc_m_often l (jn J n2) 1000 μ (xs (i + 1).toNatClampNeg) (xs (i + 2).toNatClampNeg) (rc.1, μ') hmf) (lw_V q1995 q1996 q1997 q127 q1998) (by decide +kernel) rfl rfl dL_law_1317 ⟨Nat.le_of_ble_eq_true rfl, Nat.le_of_ble_eq_true rfl⟩ (by (try dsimp only); omega) (by (try dsimp only); omega) (Nat.le_of_ble_eq_true rfl) ?_
  refine jl_eqT hk (pc := 1320) 1843 dL_law_1320 (by decide) rfl ?_
  refine jl_more (k1 := k + 2600) (n1 := n + 106600) (by (try dsimp only); omega) (by (try dsimp only); omega) ?_
  exact kk _ _ _ (hrel n2 g1 g2)
theorem lc_39 (hk : lk p s m b meth c G KK J A L xs) (hlt : l.stackTraces = false) (h1 : vp_in (i + 1) L) (h2 : vp_in (i + 2) L) (h3 : vp_in (i + 3) L) (h4 : vp_in (i + 4) L) (hk1 : k + 2600 ≤ 699883) (hk2 : n + 106600 ≤ 6971880) (hP : pLaw Rel 39 (xs (i + 1).toNatClampNeg) (xs (i + 2).toNatClampNeg) (xs (i + 3).toNatClampNeg) (xs (i + 4).toNatClampNeg) σ d μ)
    (kk : ∀ σ' d' μ', Rel σ' d' μ' → jl p l e s m b below meth c G J A Q (k + 2600) (n + 106600) σ' d' μ' 1843 [(0, .ref b), (1, .ref (ha G 0)), (2, .ref (gh J)), (3, .int i)] []) : jl p l e s m b below meth c G J A Q k n σ d μ 1325 [(0, .ref b), (1, .ref (ha G 0)), (2, .ref (gh J)), (3, .int i)] [] := by
  obtain ⟨r, σ', d', μ', hc, hm, hrel, hg1, hg2⟩ := hP
  obtain ⟨rc, hf, he⟩ := Option.map_eq_some_iff.mp (show (f0_prove 1000 d σ (xs (i + 1).toNatClampNeg)).map (fun r => (r.1, r.2, d)) = some (r, σ', d') from hc)
  obtain ⟨rfl, rfl, rfl⟩ : rc.1 = r ∧ rc.2 = σ' ∧ d = d' := ⟨congrArg (·.1) he, congrArg (·.2.1) he, congrArg (·.2.2) he⟩
  have hmf : m_prove 1000 μ (xs (i + 1).toNatClampNeg) = some (rc.1, μ') := hm
  refine jl_aload_n hk (pc := 1325) dL_law_1325 1 rfl rfl ?_
  refine jl_aload_n hk (pc := 1326) dL_law_1326 0 rfl rfl ?_
  refine jl_iload_n hk (pc := 1327) dL_law_1327 3 rfl rfl ?_
  refine jl_iconst hk (pc := 1328) (v := 1) dL_law_1328 (by decide) ?_
  refine jl_iadd hk (pc := 1329) dL_law_1329 ?_
  refine jl_iald hk (pc := 1330) h1 dL_law_1330 ?_
  refine jl_U hk (pc := 1331) (np := 1) (r := rc) [.int (xs (i + 1).toNatClampNeg)] (cc_f0_prove l hk.2.1 d 1000 σ (xs (i + 1).toNatClampNeg) rc hf) (lw_V q1167 q1168 q1169 q118 q1170) (by decide +kernel) rfl rfl dL_law_1331 ⟨Nat.le_of_ble_eq_true rfl, Nat.le_of_ble_eq_true rfl⟩ (by (try dsimp only); omega) (by (try dsimp only); omega) (Nat.le_of_ble_eq_true rfl) (fun n2 g1 g2 => ?_)
  refine jl_aload_n hk (pc := 1334) dL_law_1334 2 rfl rfl ?_
  refine jl_aload_n hk (pc := 1335) dL_law_1335 0 rfl rfl ?_
  refine jl_iload_n hk (pc := 1336) dL_law_1336 3 rfl rfl ?_
  refine jl_iconst hk (pc := 1337) (v := 1) dL_law_1337 (by decide) ?_
  refine jl_iadd hk (pc := 1338) dL_law_1338 ?_
  refine jl_iald hk (pc := 1339) h1 dL_law_1339 ?_
  refine jl_mU hk (pc := 1340) (np := 1) (r := (rc.1, μ')) [.int (xs (i + 1).toNatClampNeg)] (cc_m_prove l (jn J n2) 1000 μ (xs (i + 1).toNatClampNeg) (rc.1, μ') hmf) (lw_V q2001 q2002 q2003 q127 q2004) (by decide +kernel) rfl rfl dL_law_1340 ⟨Nat.le_of_ble_eq_true rfl, Nat.le_of_ble_eq_true rfl⟩ (by (try dsimp only); omega) (by (try dsimp only); omega) (Nat.le_of_ble_eq_true rfl) ?_
  refine jl_eqT hk (pc := 1343) 1843 dL_law_1343 (by decide) rfl ?_
  refine jl_more (k1 := k + 2600) (n1 := n + 106600) (by (try dsimp only); omega) (by (try dsimp only); omega) ?_
  exact kk _ _ _ (hrel n2 g1 g2)
theorem lc_40 (hk : lk p s m b meth c G KK J A L xs) (hlt : l.stackTraces = false) (h1 : vp_in (i + 1) L) (h2 : vp_in (i + 2) L) (h3 : vp_in (i + 3) L) (h4 : vp_in (i + 4) L) (hk1 : k + 2600 ≤ 699883) (hk2 : n + 106600 ≤ 6971880) (hP : pLaw Rel 40 (xs (i + 1).toNatClampNeg) (xs (i + 2).toNatClampNeg) (xs (i + 3).toNatClampNeg) (xs (i + 4).toNatClampNeg) σ d μ)
    (kk : ∀ σ' d' μ', Rel σ' d' μ' → jl p l e s m b below meth c G J A Q (k + 2600) (n + 106600) σ' d' μ' 1843 [(0, .ref b), (1, .ref (ha G 0)), (2, .ref (gh J)), (3, .int i)] []) : jl p l e s m b below meth c G J A Q k n σ d μ 1348 [(0, .ref b), (1, .ref (ha G 0)), (2, .ref (gh J)), (3, .int i)] [] := by
  obtain ⟨r, σ', d', μ', hc, hm, hrel, hg1, hg2⟩ := hP
  obtain ⟨rc, hf, he⟩ := Option.map_eq_some_iff.mp (show (f0_row σ (xs (i + 1).toNatClampNeg) (xs (i + 2).toNatClampNeg)).map (fun r => (r, σ, d)) = some (r, σ', d') from hc)
  obtain ⟨rfl, rfl, rfl⟩ : rc = r ∧ σ = σ' ∧ d = d' := ⟨congrArg (·.1) he, congrArg (·.2.1) he, congrArg (·.2.2) he⟩
  obtain ⟨rm, hmf, he2⟩ := Option.map_eq_some_iff.mp (show (m_row μ (xs (i + 1).toNatClampNeg) (xs (i + 2).toNatClampNeg)).map (fun r => (r, μ)) = some (rc, μ') from hm)
  obtain ⟨hre, rfl⟩ : rm = rc ∧ μ = μ' := ⟨congrArg (·.1) he2, congrArg (·.2) he2⟩
  refine jl_aload_n hk (pc := 1348) dL_law_1348 1 rfl rfl ?_
  refine jl_aload_n hk (pc := 1349) dL_law_1349 0 rfl rfl ?_
  refine jl_iload_n hk (pc := 1350) dL_law_1350 3 rfl rfl ?_
  refine jl_iconst hk (pc := 1351) (v := 1) dL_law_1351 (by decide) ?_
  refine jl_iadd hk (pc := 1352) dL_law_1352 ?_
  refine jl_iald hk (pc := 1353) h1 dL_law_1353 ?_
  refine jl_aload_n hk (pc := 1354) dL_law_1354 0 rfl rfl ?_
  refine jl_iload_n hk (pc := 1355) dL_law_1355 3 rfl rfl ?_
  refine jl_iconst hk (pc := 1356) (v := 2) dL_law_1356 (by decide) ?_
  refine jl_iadd hk (pc := 1357) dL_law_1357 ?_
  refine jl_iald hk (pc := 1358) h2 dL_law_1358 ?_
  refine jl_R hk (pc := 1359) (np := 2) (r := rc) [.int (xs (i + 1).toNatClampNeg), .int (xs (i + 2).toNatClampNeg)] (cc_f0_row l hk.2.1 d σ (xs (i + 1).toNatClampNeg) (xs (i + 2).toNatClampNeg) rc hf) (lw_V q1171 q1172 q1173 q118 q1174) (by decide +kernel) rfl rfl dL_law_1359 ⟨Nat.le_of_ble_eq_true rfl, Nat.le_of_ble_eq_true rfl⟩ (by (try dsimp only); omega) (by (try dsimp only); omega) (Nat.le_of_ble_eq_true rfl) (fun n2 g1 g2 => ?_)
  refine jl_aload_n hk (pc := 1362) dL_law_1362 2 rfl rfl ?_
  refine jl_aload_n hk (pc := 1363) dL_law_1363 0 rfl rfl ?_
  refine jl_iload_n hk (pc := 1364) dL_law_1364 3 rfl rfl ?_
  refine jl_iconst hk (pc := 1365) (v := 1) dL_law_1365 (by decide) ?_
  refine jl_iadd hk (pc := 1366) dL_law_1366 ?_
  refine jl_iald hk (pc := 1367) h1 dL_law_1367 ?_
  refine jl_aload_n hk (pc := 1368) dL_law_1368 0 rfl rfl ?_
  refine jl_iload_n hk (pc := 1369) dL_law_1369 3 rfl rfl ?_
  refine jl_iconst hk (pc := 1370) (v := 2) dL_law_1370 (by decide) ?_
  refine jl_iadd hk (pc := 1371) dL_law_1371 ?_
  refine jl_iald hk (pc := 1372) h2 dL_law_1372 ?_
  refine jl_mR hk (pc := 1373) (np := 2) (r := rm) [.int (xs (i + 1).toNatClampNeg), .int (xs (i + 2).toNatClampNeg)] (cc_m_row l (jn J n2) μ (xs (i + 1).toNatClampNeg) (xs (i + 2).toNatClampNeg) rm hmf) (lw_V q2005 q2006 q2007 q127 q2008) (by decide +kernel) rfl rfl dL_law_1373 ⟨Nat.le_of_ble_eq_true rfl, Nat.le_of_ble_eq_true rfl⟩ (by (try dsimp only); omega) (by (try dsimp only); omega) (Nat.le_of_ble_eq_true rfl) ?_
  refine jl_eqT hk (pc := 1376) 1843 dL_law_1376 (by decide) hre.symm ?_
  refine jl_more (k1 := k + 2600) (n1 := n + 106600) (by (try dsimp only); omega) (by (try dsimp only); omega) ?_
  exact kk _ _ _ (hrel n2 g1 g2)
theorem lc_41 (hk : lk p s m b meth c G KK J A L xs) (hlt : l.stackTraces = false) (h1 : vp_in (i + 1) L) (h2 : vp_in (i + 2) L) (h3 : vp_in (i + 3) L) (h4 : vp_in (i + 4) L) (hk1 : k + 2600 ≤ 699883) (hk2 : n + 106600 ≤ 6971880) (hP : pLaw Rel 41 (xs (i + 1).toNatClampNeg) (xs (i + 2).toNatClampNeg) (xs (i + 3).toNatClampNeg) (xs (i + 4).toNatClampNeg) σ d μ)
    (kk : ∀ σ' d' μ', Rel σ' d' μ' → jl p l e s m b below meth c G J A Q (k + 2600) (n + 106600) σ' d' μ' 1843 [(0, .ref b), (1, .ref (ha G 0)), (2, .ref (gh J)), (3, .int i)] []) : jl p l e s m b below meth c G J A Q k n σ d μ 1381 [(0, .ref b), (1, .ref (ha G 0)), (2, .ref (gh J)), (3, .int i)] [] := by
  obtain ⟨r, σ', d', μ', hc, hm, hrel, hg1, hg2⟩ := hP
  obtain ⟨rc, hf, he⟩ := Option.map_eq_some_iff.mp (show (f0_alterRow σ (xs (i + 1).toNatClampNeg) (xs (i + 2).toNatClampNeg) (xs (i + 3).toNatClampNeg)).map (fun r => (r.1, r.2, d)) = some (r, σ', d') from hc)
  obtain ⟨rfl, rfl, rfl⟩ : rc.1 = r ∧ rc.2 = σ' ∧ d = d' := ⟨congrArg (·.1) he, congrArg (·.2.1) he, congrArg (·.2.2) he⟩
  have hmf : m_alterRow μ (xs (i + 1).toNatClampNeg) (xs (i + 2).toNatClampNeg) (xs (i + 3).toNatClampNeg) = some (rc.1, μ') := hm
  refine jl_aload_n hk (pc := 1381) dL_law_1381 1 rfl rfl ?_
  refine jl_aload_n hk (pc := 1382) dL_law_1382 0 rfl rfl ?_
  refine jl_iload_n hk (pc := 1383) dL_law_1383 3 rfl rfl ?_
  refine jl_iconst hk (pc := 1384) (v := 1) dL_law_1384 (by decide) ?_
  refine jl_iadd hk (pc := 1385) dL_law_1385 ?_
  refine jl_iald hk (pc := 1386) h1 dL_law_1386 ?_
  refine jl_aload_n hk (pc := 1387) dL_law_1387 0 rfl rfl ?_
  refine jl_iload_n hk (pc := 1388) dL_law_1388 3 rfl rfl ?_
  refine jl_iconst hk (pc := 1389) (v := 2) dL_law_1389 (by decide) ?_
  refine jl_iadd hk (pc := 1390) dL_law_1390 ?_
  refine jl_iald hk (pc := 1391) h2 dL_law_1391 ?_
  refine jl_aload_n hk (pc := 1392) dL_law_1392 0 rfl rfl ?_
  refine jl_iload_n hk (pc := 1393) dL_law_1393 3 rfl rfl ?_
  refine jl_iconst hk (pc := 1394) (v := 3) dL_law_1394 (by decide) ?_
  refine jl_iadd hk (pc := 1395) dL_law_1395 ?_
  refine jl_iald hk (pc := 1396) h3 dL_law_1396 ?_
  refine jl_U hk (pc := 1397) (np := 3) (r := rc) [.int (xs (i + 1).toNatClampNeg), .int (xs (i + 2).toNatClampNeg), .int (xs (i + 3).toNatClampNeg)] (cc_f0_alterRow l hk.2.1 d σ (xs (i + 1).toNatClampNeg) (xs (i + 2).toNatClampNeg) (xs (i + 3).toNatClampNeg) rc hf) (lw_V q1179 q1180 q1181 q118 q1182) (by decide +kernel) rfl rfl dL_law_1397 ⟨Nat.le_of_ble_eq_true rfl, Nat.le_of_ble_eq_true rfl⟩ (by (try dsimp only); omega) (by (try dsimp only); omega) (Nat.le_of_ble_eq_true rfl) (fun n2 g1 g2 => ?_)
  refine jl_aload_n hk (pc := 1400) dL_law_1400 2 rfl rfl ?_
  refine jl_aload_n hk (pc := 1401) dL_law_1401 0 rfl rfl ?_
  refine jl_iload_n hk (pc := 1402) dL_law_1402 3 rfl rfl ?_
  refine jl_iconst hk (pc := 1403) (v := 1) dL_law_1403 (by decide) ?_
  refine jl_iadd hk (pc := 1404) dL_law_1404 ?_
  refine jl_iald hk (pc := 1405) h1 dL_law_1405 ?_
  refine jl_aload_n hk (pc := 1406) dL_law_1406 0 rfl rfl ?_
  refine jl_iload_n hk (pc := 1407) dL_law_1407 3 rfl rfl ?_
  refine jl_iconst hk (pc := 1408) (v := 2) dL_law_1408 (by decide) ?_
  refine jl_iadd hk (pc := 1409) dL_law_1409 ?_
  refine jl_iald hk (pc := 1410) h2 dL_law_1410 ?_
  refine jl_aload_n hk (pc := 1411) dL_law_1411 0 rfl rfl ?_
  refine jl_iload_n hk (pc := 1412) dL_law_1412 3 rfl rfl ?_
  refine jl_iconst hk (pc := 1413) (v := 3) dL_law_1413 (by decide) ?_
  refine jl_iadd hk (pc := 1414) dL_law_1414 ?_
  refine jl_iald hk (pc := 1415) h3 dL_law_1415 ?_
  refine jl_mU hk (pc := 1416) (np := 3) (r := (rc.1, μ')) [.int (xs (i + 1).toNatClampNeg), .int (xs (i + 2).toNatClampNeg), .int (xs (i + 3).toNatClampNeg)] (cc_m_alterRow l (jn J n2) μ (xs (i + 1).toNatClampNeg) (xs (i + 2).toNatClampNeg) (xs (i + 3).toNatClampNeg) (rc.1, μ') hmf) (lw_V q2013 q2014 q2015 q127 q2016) (by decide +kernel) rfl rfl dL_law_1416 ⟨Nat.le_of_ble_eq_true rfl, Nat.le_of_ble_eq_true rfl⟩ (by (try dsimp only); omega) (by (try dsimp only); omega) (Nat.le_of_ble_eq_true rfl) ?_
  refine jl_eqT hk (pc := 1419) 1843 dL_law_1419 (by decide) rfl ?_
  refine jl_more (k1 := k + 2600) (n1 := n + 106600) (by (try dsimp only); omega) (by (try dsimp only); omega) ?_
  exact kk _ _ _ (hrel n2 g1 g2)
end
