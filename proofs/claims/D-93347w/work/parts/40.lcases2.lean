/-! THE LAW, CASE BY CASE -/
set_option maxRecDepth 100000
set_option maxHeartbeats 1000000
section
variable {p : Program} {l : Launch} {e : Env} {s : State} {m : MethodId} {b : Nat} {below : List Frame} {meth : Method} {c : Code} {G : cG} {KK : State → Prop} {J : jG} {A : Nat → Prop} {L : Nat} {xs : Nat → Int32} {Q : State → Prop} {k n : Nat} {σ : SS} {d : DS} {μ : MS} {i : Int32} {Rel : SS → DS → MS → Prop}
theorem lc_14 (hk : lk p s m b meth c G KK J A L xs) (hlt : l.stackTraces = false) (h1 : vp_in (i + 1) L) (h2 : vp_in (i + 2) L) (h3 : vp_in (i + 3) L) (h4 : vp_in (i + 4) L) (hk1 : k + 2600 ≤ 699883) (hk2 : n + 106600 ≤ 6971880) (hP : pLaw Rel 14 (xs (i + 1).toNatClampNeg) (xs (i + 2).toNatClampNeg) (xs (i + 3).toNatClampNeg) (xs (i + 4).toNatClampNeg) σ d μ)
    (kk : ∀ σ' d' μ', Rel σ' d' μ' → jl p l e s m b below meth c G J A Q (k + 2600) (n + 106600) σ' d' μ' 1843 [(0, .ref b), (1, .ref (ha G 0)), (2, .ref (gh J)), (3, .int i)] []) : jl p l e s m b below meth c G J A Q k n σ d μ 700 [(0, .ref b), (1, .ref (ha G 0)), (2, .ref (gh J)), (3, .int i)] [] := by
  obtain ⟨r, σ', d', μ', hc, hm, hrel, hg1, hg2⟩ := hP
  obtain ⟨rc, hf, he⟩ := Option.map_eq_some_iff.mp (show (f0_on 1000 d σ (xs (i + 1).toNatClampNeg)).map (fun r => (r.1, r.2, d)) = some (r, σ', d') from hc)
  obtain ⟨rfl, rfl, rfl⟩ : rc.1 = r ∧ rc.2 = σ' ∧ d = d' := ⟨congrArg (·.1) he, congrArg (·.2.1) he, congrArg (·.2.2) he⟩
  have hmf : m_on 1000 μ (xs (i + 1).toNatClampNeg) = some (rc.1, μ') := hm
  refine jl_aload_n hk (pc := 700) dL_law_700 1 rfl rfl ?_
  refine jl_aload_n hk (pc := 701) dL_law_701 0 rfl rfl ?_
  refine jl_iload_n hk (pc := 702) dL_law_702 3 rfl rfl ?_
  refine jl_iconst hk (pc := 703) (v := 1) dL_law_703 (by decide) ?_
  refine jl_iadd hk (pc := 704) dL_law_704 ?_
  refine jl_iald hk (pc := 705) h1 dL_law_705 ?_
  refine jl_U hk (pc := 706) (np := 1) (r := rc) [.int (xs (i + 1).toNatClampNeg)] (cc_f0_on l hk.2.1 d 1000 σ (xs (i + 1).toNatClampNeg) rc hf) (lw_V q978 q979 q980 q118 q981) (by decide +kernel) rfl rfl dL_law_706 ⟨Nat.le_of_ble_eq_true rfl, Nat.le_of_ble_eq_true rfl⟩ (by (try dsimp only); omega) (by (try dsimp only); omega) (Nat.le_of_ble_eq_true rfl) (fun n2 g1 g2 => ?_)
  refine jl_aload_n hk (pc := 709) dL_law_709 2 rfl rfl ?_
  refine jl_aload_n hk (pc := 710) dL_law_710 0 rfl rfl ?_
  refine jl_iload_n hk (pc := 711) dL_law_711 3 rfl rfl ?_
  refine jl_iconst hk (pc := 712) (v := 1) dL_law_712 (by decide) ?_
  refine jl_iadd hk (pc := 713) dL_law_713 ?_
  refine jl_iald hk (pc := 714) h1 dL_law_714 ?_
  refine jl_mU hk (pc := 715) (np := 1) (r := (rc.1, μ')) [.int (xs (i + 1).toNatClampNeg)] (cc_m_on l (jn J n2) 1000 μ (xs (i + 1).toNatClampNeg) (rc.1, μ') hmf) (lw_V q1824 q1825 q1826 q127 q1827) (by decide +kernel) rfl rfl dL_law_715 ⟨Nat.le_of_ble_eq_true rfl, Nat.le_of_ble_eq_true rfl⟩ (by (try dsimp only); omega) (by (try dsimp only); omega) (Nat.le_of_ble_eq_true rfl) ?_
  refine jl_eqT hk (pc := 718) 1843 dL_law_718 (by decide) rfl ?_
  refine jl_more (k1 := k + 2600) (n1 := n + 106600) (by (try dsimp only); omega) (by (try dsimp only); omega) ?_
  exact kk _ _ _ (hrel n2 g1 g2)
theorem lc_15 (hk : lk p s m b meth c G KK J A L xs) (hlt : l.stackTraces = false) (h1 : vp_in (i + 1) L) (h2 : vp_in (i + 2) L) (h3 : vp_in (i + 3) L) (h4 : vp_in (i + 4) L) (hk1 : k + 2600 ≤ 699883) (hk2 : n + 106600 ≤ 6971880) (hP : pLaw Rel 15 (xs (i + 1).toNatClampNeg) (xs (i + 2).toNatClampNeg) (xs (i + 3).toNatClampNeg) (xs (i + 4).toNatClampNeg) σ d μ)
    (kk : ∀ σ' d' μ', Rel σ' d' μ' → jl p l e s m b below meth c G J A Q (k + 2600) (n + 106600) σ' d' μ' 1843 [(0, .ref b), (1, .ref (ha G 0)), (2, .ref (gh J)), (3, .int i)] []) : jl p l e s m b below meth c G J A Q k n σ d μ 723 [(0, .ref b), (1, .ref (ha G 0)), (2, .ref (gh J)), (3, .int i)] [] := by
  obtain ⟨r, σ', d', μ', hc, hm, hrel, hg1, hg2⟩ := hP
  obtain ⟨rc, hf, he⟩ := Option.map_eq_some_iff.mp (show (f0_until 1000 d σ (xs (i + 1).toNatClampNeg)).map (fun r => (r.1, r.2, d)) = some (r, σ', d') from hc)
  obtain ⟨rfl, rfl, rfl⟩ : rc.1 = r ∧ rc.2 = σ' ∧ d = d' := ⟨congrArg (·.1) he, congrArg (·.2.1) he, congrArg (·.2.2) he⟩
  have hmf : m_until 1000 μ (xs (i + 1).toNatClampNeg) = some (rc.1, μ') := hm
  refine jl_aload_n hk (pc := 723) dL_law_723 1 rfl rfl ?_
  refine jl_aload_n hk (pc := 724) dL_law_724 0 rfl rfl ?_
  refine jl_iload_n hk (pc := 725) dL_law_725 3 rfl rfl ?_
  refine jl_iconst hk (pc := 726) (v := 1) dL_law_726 (by decide) ?_
  refine jl_iadd hk (pc := 727) dL_law_727 ?_
  refine jl_iald hk (pc := 728) h1 dL_law_728 ?_
  refine jl_U hk (pc := 729) (np := 1) (r := rc) [.int (xs (i + 1).toNatClampNeg)] (cc_f0_until l hk.2.1 d 1000 σ (xs (i + 1).toNatClampNeg) rc hf) (lw_V q982 q983 q984 q118 q985) (by decide +kernel) rfl rfl dL_law_729 ⟨Nat.le_of_ble_eq_true rfl, Nat.le_of_ble_eq_true rfl⟩ (by (try dsimp only); omega) (by (try dsimp only); omega) (Nat.le_of_ble_eq_true rfl) (fun n2 g1 g2 => ?_)
  refine jl_aload_n hk (pc := 732) dL_law_732 2 rfl rfl ?_
  refine jl_aload_n hk (pc := 733) dL_law_733 0 rfl rfl ?_
  refine jl_iload_n hk (pc := 734) dL_law_734 3 rfl rfl ?_
  refine jl_iconst hk (pc := 735) (v := 1) dL_law_735 (by decide) ?_
  refine jl_iadd hk (pc := 736) dL_law_736 ?_
  refine jl_iald hk (pc := 737) h1 dL_law_737 ?_
  refine jl_mU hk (pc := 738) (np := 1) (r := (rc.1, μ')) [.int (xs (i + 1).toNatClampNeg)] (cc_m_until l (jn J n2) 1000 μ (xs (i + 1).toNatClampNeg) (rc.1, μ') hmf) (lw_V q1828 q1829 q1830 q127 q1831) (by decide +kernel) rfl rfl dL_law_738 ⟨Nat.le_of_ble_eq_true rfl, Nat.le_of_ble_eq_true rfl⟩ (by (try dsimp only); omega) (by (try dsimp only); omega) (Nat.le_of_ble_eq_true rfl) ?_
  refine jl_eqT hk (pc := 741) 1843 dL_law_741 (by decide) rfl ?_
  refine jl_more (k1 := k + 2600) (n1 := n + 106600) (by (try dsimp only); omega) (by (try dsimp only); omega) ?_
  exact kk _ _ _ (hrel n2 g1 g2)
theorem lc_16 (hk : lk p s m b meth c G KK J A L xs) (hlt : l.stackTraces = false) (h1 : vp_in (i + 1) L) (h2 : vp_in (i + 2) L) (h3 : vp_in (i + 3) L) (h4 : vp_in (i + 4) L) (hk1 : k + 2600 ≤ 699883) (hk2 : n + 106600 ≤ 6971880) (hP : pLaw Rel 16 (xs (i + 1).toNatClampNeg) (xs (i + 2).toNatClampNeg) (xs (i + 3).toNatClampNeg) (xs (i + 4).toNatClampNeg) σ d μ)
    (kk : ∀ σ' d' μ', Rel σ' d' μ' → jl p l e s m b below meth c G J A Q (k + 2600) (n + 106600) σ' d' μ' 1843 [(0, .ref b), (1, .ref (ha G 0)), (2, .ref (gh J)), (3, .int i)] []) : jl p l e s m b below meth c G J A Q k n σ d μ 746 [(0, .ref b), (1, .ref (ha G 0)), (2, .ref (gh J)), (3, .int i)] [] := by
  obtain ⟨r, σ', d', μ', hc, hm, hrel, hg1, hg2⟩ := hP
  obtain ⟨rc, hf, he⟩ := Option.map_eq_some_iff.mp (show (f0_overdue 1000 d σ).map (fun r => (r.1, r.2, d)) = some (r, σ', d') from hc)
  obtain ⟨rfl, rfl, rfl⟩ : rc.1 = r ∧ rc.2 = σ' ∧ d = d' := ⟨congrArg (·.1) he, congrArg (·.2.1) he, congrArg (·.2.2) he⟩
  have hmf : m_overdue 1000 μ = some (rc.1, μ') := hm
  refine jl_aload_n hk (pc := 746) dL_law_746 1 rfl rfl ?_
  refine jl_U hk (pc := 747) (np := 0) (r := rc) [] (cc_f0_overdue l hk.2.1 d 1000 σ rc hf) (lw_V q986 q987 q988 q118 q989) (by decide +kernel) rfl rfl dL_law_747 ⟨Nat.le_of_ble_eq_true rfl, Nat.le_of_ble_eq_true rfl⟩ (by (try dsimp only); omega) (by (try dsimp only); omega) (Nat.le_of_ble_eq_true rfl) (fun n2 g1 g2 => ?_)
  refine jl_aload_n hk (pc := 750) dL_law_750 2 rfl rfl ?_
  refine jl_mU hk (pc := 751) (np := 0) (r := (rc.1, μ')) [] (cc_m_overdue l (jn J n2) 1000 μ (rc.1, μ') hmf) (lw_V q1836 q1837 q1838 q127 q1839) (by decide +kernel) rfl rfl dL_law_751 ⟨Nat.le_of_ble_eq_true rfl, Nat.le_of_ble_eq_true rfl⟩ (by (try dsimp only); omega) (by (try dsimp only); omega) (Nat.le_of_ble_eq_true rfl) ?_
  refine jl_eqT hk (pc := 754) 1843 dL_law_754 (by decide) rfl ?_
  refine jl_more (k1 := k + 2600) (n1 := n + 106600) (by (try dsimp only); omega) (by (try dsimp only); omega) ?_
  exact kk _ _ _ (hrel n2 g1 g2)
theorem lc_17 (hk : lk p s m b meth c G KK J A L xs) (hlt : l.stackTraces = false) (h1 : vp_in (i + 1) L) (h2 : vp_in (i + 2) L) (h3 : vp_in (i + 3) L) (h4 : vp_in (i + 4) L) (hk1 : k + 2600 ≤ 699883) (hk2 : n + 106600 ≤ 6971880) (hP : pLaw Rel 17 (xs (i + 1).toNatClampNeg) (xs (i + 2).toNatClampNeg) (xs (i + 3).toNatClampNeg) (xs (i + 4).toNatClampNeg) σ d μ)
    (kk : ∀ σ' d' μ', Rel σ' d' μ' → jl p l e s m b below meth c G J A Q (k + 2600) (n + 106600) σ' d' μ' 1843 [(0, .ref b), (1, .ref (ha G 0)), (2, .ref (gh J)), (3, .int i)] []) : jl p l e s m b below meth c G J A Q k n σ d μ 759 [(0, .ref b), (1, .ref (ha G 0)), (2, .ref (gh J)), (3, .int i)] [] := by
  obtain ⟨r, σ', d', μ', hc, hm, hrel, hg1, hg2⟩ := hP
  obtain ⟨rc, hf, he⟩ := Option.map_eq_some_iff.mp (show (f0_falls 1000 σ (xs (i + 1).toNatClampNeg)).map (fun r => (r.1, r.2, d)) = some (r, σ', d') from hc)
  obtain ⟨rfl, rfl, rfl⟩ : rc.1 = r ∧ rc.2 = σ' ∧ d = d' := ⟨congrArg (·.1) he, congrArg (·.2.1) he, congrArg (·.2.2) he⟩
  have hmf : m_falls 1000 μ (xs (i + 1).toNatClampNeg) = some (rc.1, μ') := hm
  refine jl_aload_n hk (pc := 759) dL_law_759 1 rfl rfl ?_
  refine jl_aload_n hk (pc := 760) dL_law_760 0 rfl rfl ?_
  refine jl_iload_n hk (pc := 761) dL_law_761 3 rfl rfl ?_
  refine jl_iconst hk (pc := 762) (v := 1) dL_law_762 (by decide) ?_
  refine jl_iadd hk (pc := 763) dL_law_763 ?_
  refine jl_iald hk (pc := 764) h1 dL_law_764 ?_
  refine jl_U hk (pc := 765) (np := 1) (r := rc) [.int (xs (i + 1).toNatClampNeg)] (cc_f0_falls l hk.2.1 d 1000 σ (xs (i + 1).toNatClampNeg) rc hf) (lw_V q994 q995 q996 q118 q997) (by decide +kernel) rfl rfl dL_law_765 ⟨Nat.le_of_ble_eq_true rfl, Nat.le_of_ble_eq_true rfl⟩ (by (try dsimp only); omega) (by (try dsimp only); omega) (Nat.le_of_ble_eq_true rfl) (fun n2 g1 g2 => ?_)
  refine jl_aload_n hk (pc := 768) dL_law_768 2 rfl rfl ?_
  refine jl_aload_n hk (pc := 769) dL_law_769 0 rfl rfl ?_
  refine jl_iload_n hk (pc := 770) dL_law_770 3 rfl rfl ?_
  refine jl_iconst hk (pc := 771) (v := 1) dL_law_771 (by decide) ?_
  refine jl_iadd hk (pc := 772) dL_law_772 ?_
  refine jl_iald hk (pc := 773) h1 dL_law_773 ?_
  refine jl_mU hk (pc := 774) (np := 1) (r := (rc.1, μ')) [.int (xs (i + 1).toNatClampNeg)] (cc_m_falls l (jn J n2) 1000 μ (xs (i + 1).toNatClampNeg) (rc.1, μ') hmf) (lw_V q1844 q1845 q1846 q127 q1847) (by decide +kernel) rfl rfl dL_law_774 ⟨Nat.le_of_ble_eq_true rfl, Nat.le_of_ble_eq_true rfl⟩ (by (try dsimp only); omega) (by (try dsimp only); omega) (Nat.le_of_ble_eq_true rfl) ?_
  refine jl_eqT hk (pc := 777) 1843 dL_law_777 (by decide) rfl ?_
  refine jl_more (k1 := k + 2600) (n1 := n + 106600) (by (try dsimp only); omega) (by (try dsimp only); omega) ?_
  exact kk _ _ _ (hrel n2 g1 g2)
theorem lc_18 (hk : lk p s m b meth c G KK J A L xs) (hlt : l.stackTraces = false) (h1 : vp_in (i + 1) L) (h2 : vp_in (i + 2) L) (h3 : vp_in (i + 3) L) (h4 : vp_in (i + 4) L) (hk1 : k + 2600 ≤ 699883) (hk2 : n + 106600 ≤ 6971880) (hP : pLaw Rel 18 (xs (i + 1).toNatClampNeg) (xs (i + 2).toNatClampNeg) (xs (i + 3).toNatClampNeg) (xs (i + 4).toNatClampNeg) σ d μ)
    (kk : ∀ σ' d' μ', Rel σ' d' μ' → jl p l e s m b below meth c G J A Q (k + 2600) (n + 106600) σ' d' μ' 1843 [(0, .ref b), (1, .ref (ha G 0)), (2, .ref (gh J)), (3, .int i)] []) : jl p l e s m b below meth c G J A Q k n σ d μ 782 [(0, .ref b), (1, .ref (ha G 0)), (2, .ref (gh J)), (3, .int i)] [] := by
  obtain ⟨r, σ', d', μ', hc, hm, hrel, hg1, hg2⟩ := hP
  have hf : f0_graceFor 1000 σ d (xs (i + 1).toNatClampNeg) = some (r, σ', d') := hc
  have hmf : m_graceFor 1000 μ (xs (i + 1).toNatClampNeg) = some (r, μ') := hm
  refine jl_aload_n hk (pc := 782) dL_law_782 1 rfl rfl ?_
  refine jl_aload_n hk (pc := 783) dL_law_783 0 rfl rfl ?_
  refine jl_iload_n hk (pc := 784) dL_law_784 3 rfl rfl ?_
  refine jl_iconst hk (pc := 785) (v := 1) dL_law_785 (by decide) ?_
  refine jl_iadd hk (pc := 786) dL_law_786 ?_
  refine jl_iald hk (pc := 787) h1 dL_law_787 ?_
  refine jl_AW hk (pc := 788) (np := 1) (r := (r, σ', d')) [.int (xs (i + 1).toNatClampNeg)] (cc_f0_graceFor l hk.2.1 1000 σ d (xs (i + 1).toNatClampNeg) (r, σ', d') hf) (lw_VW q1002 q1003 q1004 q118 q1005) (by decide +kernel) rfl rfl dL_law_788 ⟨Nat.le_of_ble_eq_true rfl, Nat.le_of_ble_eq_true rfl⟩ (by (try dsimp only); omega) (by (try dsimp only); omega) (Nat.le_of_ble_eq_true rfl) (fun n2 g1 g2 => ?_)
  refine jl_aload_n hk (pc := 791) dL_law_791 2 rfl rfl ?_
  refine jl_aload_n hk (pc := 792) dL_law_792 0 rfl rfl ?_
  refine jl_iload_n hk (pc := 793) dL_law_793 3 rfl rfl ?_
  refine jl_iconst hk (pc := 794) (v := 1) dL_law_794 (by decide) ?_
  refine jl_iadd hk (pc := 795) dL_law_795 ?_
  refine jl_iald hk (pc := 796) h1 dL_law_796 ?_
  refine jl_mU hk (pc := 797) (np := 1) (r := (r, μ')) [.int (xs (i + 1).toNatClampNeg)] (cc_m_graceFor l (jn J n2) 1000 μ (xs (i + 1).toNatClampNeg) (r, μ') hmf) (lw_V q1848 q1849 q1850 q127 q1851) (by decide +kernel) rfl rfl dL_law_797 ⟨Nat.le_of_ble_eq_true rfl, Nat.le_of_ble_eq_true rfl⟩ (by (try dsimp only); omega) (by (try dsimp only); omega) (Nat.le_of_ble_eq_true rfl) ?_
  refine jl_eqT hk (pc := 800) 1843 dL_law_800 (by decide) rfl ?_
  refine jl_more (k1 := k + 2600) (n1 := n + 106600) (by (try dsimp only); omega) (by (try dsimp only); omega) ?_
  exact kk _ _ _ (hrel n2 g1 g2)
theorem lc_19 (hk : lk p s m b meth c G KK J A L xs) (hlt : l.stackTraces = false) (h1 : vp_in (i + 1) L) (h2 : vp_in (i + 2) L) (h3 : vp_in (i + 3) L) (h4 : vp_in (i + 4) L) (hk1 : k + 2600 ≤ 699883) (hk2 : n + 106600 ≤ 6971880) (hP : pLaw Rel 19 (xs (i + 1).toNatClampNeg) (xs (i + 2).toNatClampNeg) (xs (i + 3).toNatClampNeg) (xs (i + 4).toNatClampNeg) σ d μ)
    (kk : ∀ σ' d' μ', Rel σ' d' μ' → jl p l e s m b below meth c G J A Q (k + 2600) (n + 106600) σ' d' μ' 1843 [(0, .ref b), (1, .ref (ha G 0)), (2, .ref (gh J)), (3, .int i)] []) : jl p l e s m b below meth c G J A Q k n σ d μ 805 [(0, .ref b), (1, .ref (ha G 0)), (2, .ref (gh J)), (3, .int i)] [] := by
  obtain ⟨r, σ', d', μ', hc, hm, hrel, hg1, hg2⟩ := hP
  obtain ⟨rc, hf, he⟩ := Option.map_eq_some_iff.mp (show (f0_strengthFor 1000 d σ (xs (i + 1).toNatClampNeg)).map (fun r => (r.1, r.2, d)) = some (r, σ', d') from hc)
  obtain ⟨rfl, rfl, rfl⟩ : rc.1 = r ∧ rc.2 = σ' ∧ d = d' := ⟨congrArg (·.1) he, congrArg (·.2.1) he, congrArg (·.2.2) he⟩
  have hmf : m_strengthFor 1000 μ (xs (i + 1).toNatClampNeg) = some (rc.1, μ') := hm
  refine jl_aload_n hk (pc := 805) dL_law_805 1 rfl rfl ?_
  refine jl_aload_n hk (pc := 806) dL_law_806 0 rfl rfl ?_
  refine jl_iload_n hk (pc := 807) dL_law_807 3 rfl rfl ?_
  refine jl_iconst hk (pc := 808) (v := 1) dL_law_808 (by decide) ?_
  refine jl_iadd hk (pc := 809) dL_law_809 ?_
  refine jl_iald hk (pc := 810) h1 dL_law_810 ?_
  refine jl_UW hk (pc := 811) (np := 1) (r := rc) [.int (xs (i + 1).toNatClampNeg)] (cc_f0_strengthFor l hk.2.1 d 1000 σ (xs (i + 1).toNatClampNeg) rc hf) (lw_VW q1013 q1014 q1015 q118 q1016) (by decide +kernel) rfl rfl dL_law_811 ⟨Nat.le_of_ble_eq_true rfl, Nat.le_of_ble_eq_true rfl⟩ (by (try dsimp only); omega) (by (try dsimp only); omega) (Nat.le_of_ble_eq_true rfl) (fun n2 g1 g2 => ?_)
  refine jl_aload_n hk (pc := 814) dL_law_814 2 rfl rfl ?_
  refine jl_aload_n hk (pc := 815) dL_law_815 0 rfl rfl ?_
  refine jl_iload_n hk (pc := 816) dL_law_816 3 rfl rfl ?_
  refine jl_iconst hk (pc := 817) (v := 1) dL_law_817 (by decide) ?_
  refine jl_iadd hk (pc := 818) dL_law_818 ?_
  refine jl_iald hk (pc := 819) h1 dL_law_819 ?_
  refine jl_mU hk (pc := 820) (np := 1) (r := (rc.1, μ')) [.int (xs (i + 1).toNatClampNeg)] (cc_m_strengthFor l (jn J n2) 1000 μ (xs (i + 1).toNatClampNeg) (rc.1, μ') hmf) (lw_V q1852 q1853 q1854 q127 q1855) (by decide +kernel) rfl rfl dL_law_820 ⟨Nat.le_of_ble_eq_true rfl, Nat.le_of_ble_eq_true rfl⟩ (by (try dsimp only); omega) (by (try dsimp only); omega) (Nat.le_of_ble_eq_true rfl) ?_
  refine jl_eqT hk (pc := 823) 1843 dL_law_823 (by decide) rfl ?_
  refine jl_more (k1 := k + 2600) (n1 := n + 106600) (by (try dsimp only); omega) (by (try dsimp only); omega) ?_
  exact kk _ _ _ (hrel n2 g1 g2)
theorem lc_20 (hk : lk p s m b meth c G KK J A L xs) (hlt : l.stackTraces = false) (h1 : vp_in (i + 1) L) (h2 : vp_in (i + 2) L) (h3 : vp_in (i + 3) L) (h4 : vp_in (i + 4) L) (hk1 : k + 2600 ≤ 699883) (hk2 : n + 106600 ≤ 6971880) (hP : pLaw Rel 20 (xs (i + 1).toNatClampNeg) (xs (i + 2).toNatClampNeg) (xs (i + 3).toNatClampNeg) (xs (i + 4).toNatClampNeg) σ d μ)
    (kk : ∀ σ' d' μ', Rel σ' d' μ' → jl p l e s m b below meth c G J A Q (k + 2600) (n + 106600) σ' d' μ' 1843 [(0, .ref b), (1, .ref (ha G 0)), (2, .ref (gh J)), (3, .int i)] []) : jl p l e s m b below meth c G J A Q k n σ d μ 828 [(0, .ref b), (1, .ref (ha G 0)), (2, .ref (gh J)), (3, .int i)] [] := by
  obtain ⟨r, σ', d', μ', hc, hm, hrel, hg1, hg2⟩ := hP
  obtain ⟨rc, hf, he⟩ := Option.map_eq_some_iff.mp (show (f0_owe σ (xs (i + 1).toNatClampNeg) (xs (i + 2).toNatClampNeg) (xs (i + 3).toNatClampNeg)).map (fun r => (r.1, r.2, d)) = some (r, σ', d') from hc)
  obtain ⟨rfl, rfl, rfl⟩ : rc.1 = r ∧ rc.2 = σ' ∧ d = d' := ⟨congrArg (·.1) he, congrArg (·.2.1) he, congrArg (·.2.2) he⟩
  have hmf : m_owe μ (xs (i + 1).toNatClampNeg) (xs (i + 2).toNatClampNeg) (xs (i + 3).toNatClampNeg) = some (rc.1, μ') := hm
  refine jl_aload_n hk (pc := 828) dL_law_828 1 rfl rfl ?_
  refine jl_aload_n hk (pc := 829) dL_law_829 0 rfl rfl ?_
  refine jl_iload_n hk (pc := 830) dL_law_830 3 rfl rfl ?_
  refine jl_iconst hk (pc := 831) (v := 1) dL_law_831 (by decide) ?_
  refine jl_iadd hk (pc := 832) dL_law_832 ?_
  refine jl_iald hk (pc := 833) h1 dL_law_833 ?_
  refine jl_aload_n hk (pc := 834) dL_law_834 0 rfl rfl ?_
  refine jl_iload_n hk (pc := 835) dL_law_835 3 rfl rfl ?_
  refine jl_iconst hk (pc := 836) (v := 2) dL_law_836 (by decide) ?_
  refine jl_iadd hk (pc := 837) dL_law_837 ?_
  refine jl_iald hk (pc := 838) h2 dL_law_838 ?_
  refine jl_aload_n hk (pc := 839) dL_law_839 0 rfl rfl ?_
  refine jl_iload_n hk (pc := 840) dL_law_840 3 rfl rfl ?_
  refine jl_iconst hk (pc := 841) (v := 3) dL_law_841 (by decide) ?_
  refine jl_iadd hk (pc := 842) dL_law_842 ?_
  refine jl_iald hk (pc := 843) h3 dL_law_843 ?_
  refine jl_U hk (pc := 844) (np := 3) (r := rc) [.int (xs (i + 1).toNatClampNeg), .int (xs (i + 2).toNatClampNeg), .int (xs (i + 3).toNatClampNeg)] (cc_f0_owe l hk.2.1 d σ (xs (i + 1).toNatClampNeg) (xs (i + 2).toNatClampNeg) (xs (i + 3).toNatClampNeg) rc hf) (lw_V q1017 q1018 q1019 q118 q1020) (by decide +kernel) rfl rfl dL_law_844 ⟨Nat.le_of_ble_eq_true rfl, Nat.le_of_ble_eq_true rfl⟩ (by (try dsimp only); omega) (by (try dsimp only); omega) (Nat.le_of_ble_eq_true rfl) (fun n2 g1 g2 => ?_)
  refine jl_aload_n hk (pc := 847) dL_law_847 2 rfl rfl ?_
  refine jl_aload_n hk (pc := 848) dL_law_848 0 rfl rfl ?_
  refine jl_iload_n hk (pc := 849) dL_law_849 3 rfl rfl ?_
  refine jl_iconst hk (pc := 850) (v := 1) dL_law_850 (by decide) ?_
  refine jl_iadd hk (pc := 851) dL_law_851 ?_
  refine jl_iald hk (pc := 852) h1 dL_law_852 ?_
  refine jl_aload_n hk (pc := 853) dL_law_853 0 rfl rfl ?_
  refine jl_iload_n hk (pc := 854) dL_law_854 3 rfl rfl ?_
  refine jl_iconst hk (pc := 855) (v := 2) dL_law_855 (by decide) ?_
  refine jl_iadd hk (pc := 856) dL_law_856 ?_
  refine jl_iald hk (pc := 857) h2 dL_law_857 ?_
  refine jl_aload_n hk (pc := 858) dL_law_858 0 rfl rfl ?_
  refine jl_iload_n hk (pc := 859) dL_law_859 3 rfl rfl ?_
  refine jl_iconst hk (pc := 860) (v := 3) dL_law_860 (by decide) ?_
  refine jl_iadd hk (pc := 861) dL_law_861 ?_
  refine jl_iald hk (pc := 862) h3 dL_law_862 ?_
  refine jl_mU hk (pc := 863) (np := 3) (r := (rc.1, μ')) [.int (xs (i + 1).toNatClampNeg), .int (xs (i + 2).toNatClampNeg), .int (xs (i + 3).toNatClampNeg)] (cc_m_owe l (jn J n2) μ (xs (i + 1).toNatClampNeg) (xs (i + 2).toNatClampNeg) (xs (i + 3).toNatClampNeg) (rc.1, μ') hmf) (lw_V q1856 q1857 q1858 q127 q1859) (by decide +kernel) rfl rfl dL_law_863 ⟨Nat.le_of_ble_eq_true rfl, Nat.le_of_ble_eq_true rfl⟩ (by (try dsimp only); omega) (by (try dsimp only); omega) (Nat.le_of_ble_eq_true rfl) ?_
  refine jl_eqT hk (pc := 866) 1843 dL_law_866 (by decide) rfl ?_
  refine jl_more (k1 := k + 2600) (n1 := n + 106600) (by (try dsimp only); omega) (by (try dsimp only); omega) ?_
  exact kk _ _ _ (hrel n2 g1 g2)
theorem lc_21 (hk : lk p s m b meth c G KK J A L xs) (hlt : l.stackTraces = false) (h1 : vp_in (i + 1) L) (h2 : vp_in (i + 2) L) (h3 : vp_in (i + 3) L) (h4 : vp_in (i + 4) L) (hk1 : k + 2600 ≤ 699883) (hk2 : n + 106600 ≤ 6971880) (hP : pLaw Rel 21 (xs (i + 1).toNatClampNeg) (xs (i + 2).toNatClampNeg) (xs (i + 3).toNatClampNeg) (xs (i + 4).toNatClampNeg) σ d μ)
    (kk : ∀ σ' d' μ', Rel σ' d' μ' → jl p l e s m b below meth c G J A Q (k + 2600) (n + 106600) σ' d' μ' 1843 [(0, .ref b), (1, .ref (ha G 0)), (2, .ref (gh J)), (3, .int i)] []) : jl p l e s m b below meth c G J A Q k n σ d μ 871 [(0, .ref b), (1, .ref (ha G 0)), (2, .ref (gh J)), (3, .int i)] [] := by
  obtain ⟨r, σ', d', μ', hc, hm, hrel, hg1, hg2⟩ := hP
  obtain ⟨rc, hf, he⟩ := Option.map_eq_some_iff.mp (show (f0_owes σ (xs (i + 1).toNatClampNeg) (xs (i + 2).toNatClampNeg)).map (fun r => (r, σ, d)) = some (r, σ', d') from hc)
  obtain ⟨rfl, rfl, rfl⟩ : rc = r ∧ σ = σ' ∧ d = d' := ⟨congrArg (·.1) he, congrArg (·.2.1) he, congrArg (·.2.2) he⟩
  obtain ⟨rm, hmf, he2⟩ := Option.map_eq_some_iff.mp (show (m_owes μ (xs (i + 1).toNatClampNeg) (xs (i + 2).toNatClampNeg)).map (fun r => (r, μ)) = some (rc, μ') from hm)
  obtain ⟨hre, rfl⟩ : rm = rc ∧ μ = μ' := ⟨congrArg (·.1) he2, congrArg (·.2) he2⟩
  refine jl_aload_n hk (pc := 871) dL_law_871 1 rfl rfl ?_
  refine jl_aload_n hk (pc := 872) dL_law_872 0 rfl rfl ?_
  refine jl_iload_n hk (pc := 873) dL_law_873 3 rfl rfl ?_
  refine jl_iconst hk (pc := 874) (v := 1) dL_law_874 (by decide) ?_
  refine jl_iadd hk (pc := 875) dL_law_875 ?_
  refine jl_iald hk (pc := 876) h1 dL_law_876 ?_
  refine jl_aload_n hk (pc := 877) dL_law_877 0 rfl rfl ?_
  refine jl_iload_n hk (pc := 878) dL_law_878 3 rfl rfl ?_
  refine jl_iconst hk (pc := 879) (v := 2) dL_law_879 (by decide) ?_
  refine jl_iadd hk (pc := 880) dL_law_880 ?_
  refine jl_iald hk (pc := 881) h2 dL_law_881 ?_
  refine jl_R hk (pc := 882) (np := 2) (r := rc) [.int (xs (i + 1).toNatClampNeg), .int (xs (i + 2).toNatClampNeg)] (cc_f0_owes l hk.2.1 d σ (xs (i + 1).toNatClampNeg) (xs (i + 2).toNatClampNeg) rc hf) (lw_V q1025 q1026 q1027 q118 q1028) (by decide +kernel) rfl rfl dL_law_882 ⟨Nat.le_of_ble_eq_true rfl, Nat.le_of_ble_eq_true rfl⟩ (by (try dsimp only); omega) (by (try dsimp only); omega) (Nat.le_of_ble_eq_true rfl) (fun n2 g1 g2 => ?_)
  refine jl_aload_n hk (pc := 885) dL_law_885 2 rfl rfl ?_
  refine jl_aload_n hk (pc := 886) dL_law_886 0 rfl rfl ?_
  refine jl_iload_n hk (pc := 887) dL_law_887 3 rfl rfl ?_
  refine jl_iconst hk (pc := 888) (v := 1) dL_law_888 (by decide) ?_
  refine jl_iadd hk (pc := 889) dL_law_889 ?_
  refine jl_iald hk (pc := 890) h1 dL_law_890 ?_
  refine jl_aload_n hk (pc := 891) dL_law_891 0 rfl rfl ?_
  refine jl_iload_n hk (pc := 892) dL_law_892 3 rfl rfl ?_
  refine jl_iconst hk (pc := 893) (v := 2) dL_law_893 (by decide) ?_
  refine jl_iadd hk (pc := 894) dL_law_894 ?_
  refine jl_iald hk (pc := 895) h2 dL_law_895 ?_
  refine jl_mR hk (pc := 896) (np := 2) (r := rm) [.int (xs (i + 1).toNatClampNeg), .int (xs (i + 2).toNatClampNeg)] (cc_m_owes l (jn J n2) μ (xs (i + 1).toNatClampNeg) (xs (i + 2).toNatClampNeg) rm hmf) (lw_V q1865 q1866 q1867 q127 q1868) (by decide +kernel) rfl rfl dL_law_896 ⟨Nat.le_of_ble_eq_true rfl, Nat.le_of_ble_eq_true rfl⟩ (by (try dsimp only); omega) (by (try dsimp only); omega) (Nat.le_of_ble_eq_true rfl) ?_
  refine jl_eqT hk (pc := 899) 1843 dL_law_899 (by decide) hre.symm ?_
  refine jl_more (k1 := k + 2600) (n1 := n + 106600) (by (try dsimp only); omega) (by (try dsimp only); omega) ?_
  exact kk _ _ _ (hrel n2 g1 g2)
theorem lc_22 (hk : lk p s m b meth c G KK J A L xs) (hlt : l.stackTraces = false) (h1 : vp_in (i + 1) L) (h2 : vp_in (i + 2) L) (h3 : vp_in (i + 3) L) (h4 : vp_in (i + 4) L) (hk1 : k + 2600 ≤ 699883) (hk2 : n + 106600 ≤ 6971880) (hP : pLaw Rel 22 (xs (i + 1).toNatClampNeg) (xs (i + 2).toNatClampNeg) (xs (i + 3).toNatClampNeg) (xs (i + 4).toNatClampNeg) σ d μ)
    (kk : ∀ σ' d' μ', Rel σ' d' μ' → jl p l e s m b below meth c G J A Q (k + 2600) (n + 106600) σ' d' μ' 1843 [(0, .ref b), (1, .ref (ha G 0)), (2, .ref (gh J)), (3, .int i)] []) : jl p l e s m b below meth c G J A Q k n σ d μ 904 [(0, .ref b), (1, .ref (ha G 0)), (2, .ref (gh J)), (3, .int i)] [] := by
  obtain ⟨r, σ', d', μ', hc, hm, hrel, hg1, hg2⟩ := hP
  obtain ⟨rc, hf, he⟩ := Option.map_eq_some_iff.mp (show (f0_net 1000 σ (xs (i + 1).toNatClampNeg)).map (fun r => (r, σ, d)) = some (r, σ', d') from hc)
  obtain ⟨rfl, rfl, rfl⟩ : rc = r ∧ σ = σ' ∧ d = d' := ⟨congrArg (·.1) he, congrArg (·.2.1) he, congrArg (·.2.2) he⟩
  obtain ⟨rm, hmf, he2⟩ := Option.map_eq_some_iff.mp (show (m_net 1000 μ (xs (i + 1).toNatClampNeg)).map (fun r => (r, μ)) = some (rc, μ') from hm)
  obtain ⟨hre, rfl⟩ : rm = rc ∧ μ = μ' := ⟨congrArg (·.1) he2, congrArg (·.2) he2⟩
  refine jl_aload_n hk (pc := 904) dL_law_904 1 rfl rfl ?_
  refine jl_aload_n hk (pc := 905) dL_law_905 0 rfl rfl ?_
  refine jl_iload_n hk (pc := 906) dL_law_906 3 rfl rfl ?_
  refine jl_iconst hk (pc := 907) (v := 1) dL_law_907 (by decide) ?_
  refine jl_iadd hk (pc := 908) dL_law_908 ?_
  refine jl_iald hk (pc := 909) h1 dL_law_909 ?_
  refine jl_R hk (pc := 910) (np := 1) (r := rc) [.int (xs (i + 1).toNatClampNeg)] (cc_f0_net l hk.2.1 d 1000 σ (xs (i + 1).toNatClampNeg) rc hf) (lw_V q1029 q1030 q1031 q118 q1032) (by decide +kernel) rfl rfl dL_law_910 ⟨Nat.le_of_ble_eq_true rfl, Nat.le_of_ble_eq_true rfl⟩ (by (try dsimp only); omega) (by (try dsimp only); omega) (Nat.le_of_ble_eq_true rfl) (fun n2 g1 g2 => ?_)
  refine jl_aload_n hk (pc := 913) dL_law_913 2 rfl rfl ?_
  refine jl_aload_n hk (pc := 914) dL_law_914 0 rfl rfl ?_
  refine jl_iload_n hk (pc := 915) dL_law_915 3 rfl rfl ?_
  refine jl_iconst hk (pc := 916) (v := 1) dL_law_916 (by decide) ?_
  refine jl_iadd hk (pc := 917) dL_law_917 ?_
  refine jl_iald hk (pc := 918) h1 dL_law_918 ?_
  refine jl_mR hk (pc := 919) (np := 1) (r := rm) [.int (xs (i + 1).toNatClampNeg)] (cc_m_net l (jn J n2) 1000 μ (xs (i + 1).toNatClampNeg) rm hmf) (lw_V q1869 q1870 q1871 q127 q1872) (by decide +kernel) rfl rfl dL_law_919 ⟨Nat.le_of_ble_eq_true rfl, Nat.le_of_ble_eq_true rfl⟩ (by (try dsimp only); omega) (by (try dsimp only); omega) (Nat.le_of_ble_eq_true rfl) ?_
  refine jl_eqT hk (pc := 922) 1843 dL_law_922 (by decide) hre.symm ?_
  refine jl_more (k1 := k + 2600) (n1 := n + 106600) (by (try dsimp only); omega) (by (try dsimp only); omega) ?_
  exact kk _ _ _ (hrel n2 g1 g2)
theorem lc_23 (hk : lk p s m b meth c G KK J A L xs) (hlt : l.stackTraces = false) (h1 : vp_in (i + 1) L) (h2 : vp_in (i + 2) L) (h3 : vp_in (i + 3) L) (h4 : vp_in (i + 4) L) (hk1 : k + 2600 ≤ 699883) (hk2 : n + 106600 ≤ 6971880) (hP : pLaw Rel 23 (xs (i + 1).toNatClampNeg) (xs (i + 2).toNatClampNeg) (xs (i + 3).toNatClampNeg) (xs (i + 4).toNatClampNeg) σ d μ)
    (kk : ∀ σ' d' μ', Rel σ' d' μ' → jl p l e s m b below meth c G J A Q (k + 2600) (n + 106600) σ' d' μ' 1843 [(0, .ref b), (1, .ref (ha G 0)), (2, .ref (gh J)), (3, .int i)] []) : jl p l e s m b below meth c G J A Q k n σ d μ 927 [(0, .ref b), (1, .ref (ha G 0)), (2, .ref (gh J)), (3, .int i)] [] := by
  obtain ⟨r, σ', d', μ', hc, hm, hrel, hg1, hg2⟩ := hP
  obtain ⟨rc, hf, he⟩ := Option.map_eq_some_iff.mp (show (f0_ring 1000 σ (xs (i + 1).toNatClampNeg)).map (fun r => (r, σ, d)) = some (r, σ', d') from hc)
  obtain ⟨rfl, rfl, rfl⟩ : rc = r ∧ σ = σ' ∧ d = d' := ⟨congrArg (·.1) he, congrArg (·.2.1) he, congrArg (·.2.2) he⟩
  obtain ⟨rm, hmf, he2⟩ := Option.map_eq_some_iff.mp (show (m_ring 1000 μ (xs (i + 1).toNatClampNeg)).map (fun r => (r, μ)) = some (rc, μ') from hm)
  obtain ⟨hre, rfl⟩ : rm = rc ∧ μ = μ' := ⟨congrArg (·.1) he2, congrArg (·.2) he2⟩
  refine jl_aload_n hk (pc := 927) dL_law_927 1 rfl rfl ?_
  refine jl_aload_n hk (pc := 928) dL_law_928 0 rfl rfl ?_
  refine jl_iload_n hk (pc := 929) dL_law_929 3 rfl rfl ?_
  refine jl_iconst hk (pc := 930) (v := 1) dL_law_930 (by decide) ?_
  refine jl_iadd hk (pc := 931) dL_law_931 ?_
  refine jl_iald hk (pc := 932) h1 dL_law_932 ?_
  refine jl_R hk (pc := 933) (np := 1) (r := rc) [.int (xs (i + 1).toNatClampNeg)] (cc_f0_ring l hk.2.1 d 1000 σ (xs (i + 1).toNatClampNeg) rc hf) (lw_V q1037 q1038 q1039 q118 q1040) (by decide +kernel) rfl rfl dL_law_933 ⟨Nat.le_of_ble_eq_true rfl, Nat.le_of_ble_eq_true rfl⟩ (by (try dsimp only); omega) (by (try dsimp only); omega) (Nat.le_of_ble_eq_true rfl) (fun n2 g1 g2 => ?_)
  refine jl_aload_n hk (pc := 936) dL_law_936 2 rfl rfl ?_
  refine jl_aload_n hk (pc := 937) dL_law_937 0 rfl rfl ?_
  refine jl_iload_n hk (pc := 938) dL_law_938 3 rfl rfl ?_
  refine jl_iconst hk (pc := 939) (v := 1) dL_law_939 (by decide) ?_
  refine jl_iadd hk (pc := 940) dL_law_940 ?_
  refine jl_iald hk (pc := 941) h1 dL_law_941 ?_
  refine jl_mR hk (pc := 942) (np := 1) (r := rm) [.int (xs (i + 1).toNatClampNeg)] (cc_m_ring l (jn J n2) 1000 μ (xs (i + 1).toNatClampNeg) rm hmf) (lw_V q1877 q1878 q1879 q127 q1880) (by decide +kernel) rfl rfl dL_law_942 ⟨Nat.le_of_ble_eq_true rfl, Nat.le_of_ble_eq_true rfl⟩ (by (try dsimp only); omega) (by (try dsimp only); omega) (Nat.le_of_ble_eq_true rfl) ?_
  refine jl_eqT hk (pc := 945) 1843 dL_law_945 (by decide) hre.symm ?_
  refine jl_more (k1 := k + 2600) (n1 := n + 106600) (by (try dsimp only); omega) (by (try dsimp only); omega) ?_
  exact kk _ _ _ (hrel n2 g1 g2)
theorem lc_24 (hk : lk p s m b meth c G KK J A L xs) (hlt : l.stackTraces = false) (h1 : vp_in (i + 1) L) (h2 : vp_in (i + 2) L) (h3 : vp_in (i + 3) L) (h4 : vp_in (i + 4) L) (hk1 : k + 2600 ≤ 699883) (hk2 : n + 106600 ≤ 6971880) (hP : pLaw Rel 24 (xs (i + 1).toNatClampNeg) (xs (i + 2).toNatClampNeg) (xs (i + 3).toNatClampNeg) (xs (i + 4).toNatClampNeg) σ d μ)
    (kk : ∀ σ' d' μ', Rel σ' d' μ' → jl p l e s m b below meth c G J A Q (k + 2600) (n + 106600) σ' d' μ' 1843 [(0, .ref b), (1, .ref (ha G 0)), (2, .ref (gh J)), (3, .int i)] []) : jl p l e s m b below meth c G J A Q k n σ d μ 950 [(0, .ref b), (1, .ref (ha G 0)), (2, .ref (gh J)), (3, .int i)] [] := by
  obtain ⟨r, σ', d', μ', hc, hm, hrel, hg1, hg2⟩ := hP
  obtain ⟨rc, hf, he⟩ := Option.map_eq_some_iff.mp (show (f0_payments 1000 σ).map (fun r => (r.1, r.2, d)) = some (r, σ', d') from hc)
  obtain ⟨rfl, rfl, rfl⟩ : rc.1 = r ∧ rc.2 = σ' ∧ d = d' := ⟨congrArg (·.1) he, congrArg (·.2.1) he, congrArg (·.2.2) he⟩
  have hmf : m_payments 1000 μ = some (rc.1, μ') := hm
  refine jl_aload_n hk (pc := 950) dL_law_950 1 rfl rfl ?_
  refine jl_U hk (pc := 951) (np := 0) (r := rc) [] (cc_f0_payments l hk.2.1 d 1000 σ rc hf) (lw_V q1045 q1046 q1047 q118 q1048) (by decide +kernel) rfl rfl dL_law_951 ⟨Nat.le_of_ble_eq_true rfl, Nat.le_of_ble_eq_true rfl⟩ (by (try dsimp only); omega) (by (try dsimp only); omega) (Nat.le_of_ble_eq_true rfl) (fun n2 g1 g2 => ?_)
  refine jl_aload_n hk (pc := 954) dL_law_954 2 rfl rfl ?_
  refine jl_mU hk (pc := 955) (np := 0) (r := (rc.1, μ')) [] (cc_m_payments l (jn J n2) 1000 μ (rc.1, μ') hmf) (lw_V q1885 q1886 q1887 q127 q1888) (by decide +kernel) rfl rfl dL_law_955 ⟨Nat.le_of_ble_eq_true rfl, Nat.le_of_ble_eq_true rfl⟩ (by (try dsimp only); omega) (by (try dsimp only); omega) (Nat.le_of_ble_eq_true rfl) ?_
  refine jl_eqT hk (pc := 958) 1843 dL_law_958 (by decide) rfl ?_
  refine jl_more (k1 := k + 2600) (n1 := n + 106600) (by (try dsimp only); omega) (by (try dsimp only); omega) ?_
  exact kk _ _ _ (hrel n2 g1 g2)
theorem lc_25 (hk : lk p s m b meth c G KK J A L xs) (hlt : l.stackTraces = false) (h1 : vp_in (i + 1) L) (h2 : vp_in (i + 2) L) (h3 : vp_in (i + 3) L) (h4 : vp_in (i + 4) L) (hk1 : k + 2600 ≤ 699883) (hk2 : n + 106600 ≤ 6971880) (hP : pLaw Rel 25 (xs (i + 1).toNatClampNeg) (xs (i + 2).toNatClampNeg) (xs (i + 3).toNatClampNeg) (xs (i + 4).toNatClampNeg) σ d μ)
    (kk : ∀ σ' d' μ', Rel σ' d' μ' → jl p l e s m b below meth c G J A Q (k + 2600) (n + 106600) σ' d' μ' 1843 [(0, .ref b), (1, .ref (ha G 0)), (2, .ref (gh J)), (3, .int i)] []) : jl p l e s m b below meth c G J A Q k n σ d μ 963 [(0, .ref b), (1, .ref (ha G 0)), (2, .ref (gh J)), (3, .int i)] [] := by
  obtain ⟨r, σ', d', μ', hc, hm, hrel, hg1, hg2⟩ := hP
  obtain ⟨rc, hf, he⟩ := Option.map_eq_some_iff.mp (show (f0_best 1000 d σ (xs (i + 1).toNatClampNeg)).map (fun r => (r.1, r.2, d)) = some (r, σ', d') from hc)
  obtain ⟨rfl, rfl, rfl⟩ : rc.1 = r ∧ rc.2 = σ' ∧ d = d' := ⟨congrArg (·.1) he, congrArg (·.2.1) he, congrArg (·.2.2) he⟩
  have hmf : m_best 1000 μ (xs (i + 1).toNatClampNeg) = some (rc.1, μ') := hm
  refine jl_aload_n hk (pc := 963) dL_law_963 1 rfl rfl ?_
  refine jl_aload_n hk (pc := 964) dL_law_964 0 rfl rfl ?_
  refine jl_iload_n hk (pc := 965) dL_law_965 3 rfl rfl ?_
  refine jl_iconst hk (pc := 966) (v := 1) dL_law_966 (by decide) ?_
  refine jl_iadd hk (pc := 967) dL_law_967 ?_
  refine jl_iald hk (pc := 968) h1 dL_law_968 ?_
  refine jl_U hk (pc := 969) (np := 1) (r := rc) [.int (xs (i + 1).toNatClampNeg)] (cc_f0_best l hk.2.1 d 1000 σ (xs (i + 1).toNatClampNeg) rc hf) (lw_V q1055 q1056 q1057 q118 q1058) (by decide +kernel) rfl rfl dL_law_969 ⟨Nat.le_of_ble_eq_true rfl, Nat.le_of_ble_eq_true rfl⟩ (by (try dsimp only); omega) (by (try dsimp only); omega) (Nat.le_of_ble_eq_true rfl) (fun n2 g1 g2 => ?_)
  refine jl_aload_n hk (pc := 972) dL_law_972 2 rfl rfl ?_
  refine jl_aload_n hk (pc := 973) dL_law_973 0 rfl rfl ?_
  refine jl_iload_n hk (pc := 974) dL_law_974 3 rfl rfl ?_
  refine jl_iconst hk (pc := 975) (v := 1) dL_law_975 (by decide) ?_
  refine jl_iadd hk (pc := 976) dL_law_976 ?_
  refine jl_iald hk (pc := 977) h1 dL_law_977 ?_
  refine jl_mU hk (pc := 978) (np := 1) (r := (rc.1, μ')) [.int (xs (i + 1).toNatClampNeg)] (cc_m_best l (jn J n2) 1000 μ (xs (i + 1).toNatClampNeg) (rc.1, μ') hmf) (lw_V q1889 q1890 q1891 q127 q1892) (by decide +kernel) rfl rfl dL_law_978 ⟨Nat.le_of_ble_eq_true rfl, Nat.le_of_ble_eq_true rfl⟩ (by (try dsimp only); omega) (by (try dsimp only); omega) (Nat.le_of_ble_eq_true rfl) ?_
  refine jl_eqT hk (pc := 981) 1843 dL_law_981 (by decide) rfl ?_
  refine jl_more (k1 := k + 2600) (n1 := n + 106600) (by (try dsimp only); omega) (by (try dsimp only); omega) ?_
  exact kk _ _ _ (hrel n2 g1 g2)
theorem lc_26 (hk : lk p s m b meth c G KK J A L xs) (hlt : l.stackTraces = false) (h1 : vp_in (i + 1) L) (h2 : vp_in (i + 2) L) (h3 : vp_in (i + 3) L) (h4 : vp_in (i + 4) L) (hk1 : k + 2600 ≤ 699883) (hk2 : n + 106600 ≤ 6971880) (hP : pLaw Rel 26 (xs (i + 1).toNatClampNeg) (xs (i + 2).toNatClampNeg) (xs (i + 3).toNatClampNeg) (xs (i + 4).toNatClampNeg) σ d μ)
    (kk : ∀ σ' d' μ', Rel σ' d' μ' → jl p l e s m b below meth c G J A Q (k + 2600) (n + 106600) σ' d' μ' 1843 [(0, .ref b), (1, .ref (ha G 0)), (2, .ref (gh J)), (3, .int i)] []) : jl p l e s m b below meth c G J A Q k n σ d μ 986 [(0, .ref b), (1, .ref (ha G 0)), (2, .ref (gh J)), (3, .int i)] [] := by
  obtain ⟨r, σ', d', μ', hc, hm, hrel, hg1, hg2⟩ := hP
  obtain ⟨rc, hf, he⟩ := Option.map_eq_some_iff.mp (show (f0_ith 1000 d σ (xs (i + 1).toNatClampNeg) (xs (i + 2).toNatClampNeg)).map (fun r => (r.1, r.2, d)) = some (r, σ', d') from hc)
  obtain ⟨rfl, rfl, rfl⟩ : rc.1 = r ∧ rc.2 = σ' ∧ d = d' := ⟨congrArg (·.1) he, congrArg (·.2.1) he, congrArg (·.2.2) he⟩
  have hmf : m_ith 1000 μ (xs (i + 1).toNatClampNeg) (xs (i + 2).toNatClampNeg) = some (rc.1, μ') := hm
  refine jl_aload_n hk (pc := 986) dL_law_986 1 rfl rfl ?_
  refine jl_aload_n hk (pc := 987) dL_law_987 0 rfl rfl ?_
  refine jl_iload_n hk (pc := 988) dL_law_988 3 rfl rfl ?_
  refine jl_iconst hk (pc := 989) (v := 1) dL_law_989 (by decide) ?_
  refine jl_iadd hk (pc := 990) dL_law_990 ?_
  refine jl_iald hk (pc := 991) h1 dL_law_991 ?_
  refine jl_aload_n hk (pc := 992) dL_law_992 0 rfl rfl ?_
  refine jl_iload_n hk (pc := 993) dL_law_993 3 rfl rfl ?_
  refine jl_iconst hk (pc := 994) (v := 2) dL_law_994 (by decide) ?_
  refine jl_iadd hk (pc := 995) dL_law_995 ?_
  refine jl_iald hk (pc := 996) h2 dL_law_996 ?_
  refine jl_U hk (pc := 997) (np := 2) (r := rc) [.int (xs (i + 1).toNatClampNeg), .int (xs (i + 2).toNatClampNeg)] (cc_f0_ith l hk.2.1 d 1000 σ (xs (i + 1).toNatClampNeg) (xs (i + 2).toNatClampNeg) rc hf) (lw_V q1071 q1072 q1073 q118 q1074) (by decide +kernel) rfl rfl dL_law_997 ⟨Nat.le_of_ble_eq_true rfl, Nat.le_of_ble_eq_true rfl⟩ (by (try dsimp only); omega) (by (try dsimp only); omega) (Nat.le_of_ble_eq_true rfl) (fun n2 g1 g2 => ?_)
  refine jl_aload_n hk (pc := 1000) dL_law_1000 2 rfl rfl ?_
  refine jl_aload_n hk (pc := 1001) dL_law_1001 0 rfl rfl ?_
  refine jl_iload_n hk (pc := 1002) dL_law_1002 3 rfl rfl ?_
  refine jl_iconst hk (pc := 1003) (v := 1) dL_law_1003 (by decide) ?_
  refine jl_iadd hk (pc := 1004) dL_law_1004 ?_
  refine jl_iald hk (pc := 1005) h1 dL_law_1005 ?_
  refine jl_aload_n hk (pc := 1006) dL_law_1006 0 rfl rfl ?_
  refine jl_iload_n hk (pc := 1007) dL_law_1007 3 rfl rfl ?_
  refine jl_iconst hk (pc := 1008) (v := 2) dL_law_1008 (by decide) ?_
  refine jl_iadd hk (pc := 1009) dL_law_1009 ?_
  refine jl_iald hk (pc := 1010) h2 dL_law_1010 ?_
  refine jl_mU hk (pc := 1011) (np := 2) (r := (rc.1, μ')) [.int (xs (i + 1).toNatClampNeg), .int (xs (i + 2).toNatClampNeg)] (cc_m_ith l (jn J n2) 1000 μ (xs (i + 1).toNatClampNeg) (xs (i + 2).toNatClampNeg) (rc.1, μ') hmf) (lw_V q1920 q1921 q1922 q127 q1923) (by decide +kernel) rfl rfl dL_law_1011 ⟨Nat.le_of_ble_eq_true rfl, Nat.le_of_ble_eq_true rfl⟩ (by (try dsimp only); omega) (by (try dsimp only); omega) (Nat.le_of_ble_eq_true rfl) ?_
  refine jl_eqT hk (pc := 1014) 1843 dL_law_1014 (by decide) rfl ?_
  refine jl_more (k1 := k + 2600) (n1 := n + 106600) (by (try dsimp only); omega) (by (try dsimp only); omega) ?_
  exact kk _ _ _ (hrel n2 g1 g2)
theorem lc_27 (hk : lk p s m b meth c G KK J A L xs) (hlt : l.stackTraces = false) (h1 : vp_in (i + 1) L) (h2 : vp_in (i + 2) L) (h3 : vp_in (i + 3) L) (h4 : vp_in (i + 4) L) (hk1 : k + 2600 ≤ 699883) (hk2 : n + 106600 ≤ 6971880) (hP : pLaw Rel 27 (xs (i + 1).toNatClampNeg) (xs (i + 2).toNatClampNeg) (xs (i + 3).toNatClampNeg) (xs (i + 4).toNatClampNeg) σ d μ)
    (kk : ∀ σ' d' μ', Rel σ' d' μ' → jl p l e s m b below meth c G J A Q (k + 2600) (n + 106600) σ' d' μ' 1843 [(0, .ref b), (1, .ref (ha G 0)), (2, .ref (gh J)), (3, .int i)] []) : jl p l e s m b below meth c G J A Q k n σ d μ 1019 [(0, .ref b), (1, .ref (ha G 0)), (2, .ref (gh J)), (3, .int i)] [] := by
  obtain ⟨r, σ', d', μ', hc, hm, hrel, hg1, hg2⟩ := hP
  obtain ⟨rc, hf, he⟩ := Option.map_eq_some_iff.mp (show (f0_ways 1000 d σ (xs (i + 1).toNatClampNeg)).map (fun r => (r.1, r.2, d)) = some (r, σ', d') from hc)
  obtain ⟨rfl, rfl, rfl⟩ : rc.1 = r ∧ rc.2 = σ' ∧ d = d' := ⟨congrArg (·.1) he, congrArg (·.2.1) he, congrArg (·.2.2) he⟩
  have hmf : m_ways 1000 μ (xs (i + 1).toNatClampNeg) = some (rc.1, μ') := hm
  refine jl_aload_n hk (pc := 1019) dL_law_1019 1 rfl rfl ?_
  refine jl_aload_n hk (pc := 1020) dL_law_1020 0 rfl rfl ?_
  refine jl_iload_n hk (pc := 1021) dL_law_1021 3 rfl rfl ?_
  refine jl_iconst hk (pc := 1022) (v := 1) dL_law_1022 (by decide) ?_
  refine jl_iadd hk (pc := 1023) dL_law_1023 ?_
  refine jl_iald hk (pc := 1024) h1 dL_law_1024 ?_
  refine jl_U hk (pc := 1025) (np := 1) (r := rc) [.int (xs (i + 1).toNatClampNeg)] (cc_f0_ways l hk.2.1 d 1000 σ (xs (i + 1).toNatClampNeg) rc hf) (lw_V q1075 q1076 q1077 q118 q1078) (by decide +kernel) rfl rfl dL_law_1025 ⟨Nat.le_of_ble_eq_true rfl, Nat.le_of_ble_eq_true rfl⟩ (by (try dsimp only); omega) (by (try dsimp only); omega) (Nat.le_of_ble_eq_true rfl) (fun n2 g1 g2 => ?_)
  refine jl_aload_n hk (pc := 1028) dL_law_1028 2 rfl rfl ?_
  refine jl_aload_n hk (pc := 1029) dL_law_1029 0 rfl rfl ?_
  refine jl_iload_n hk (pc := 1030) dL_law_1030 3 rfl rfl ?_
  refine jl_iconst hk (pc := 1031) (v := 1) dL_law_1031 (by decide) ?_
  refine jl_iadd hk (pc := 1032) dL_law_1032 ?_
  refine jl_iald hk (pc := 1033) h1 dL_law_1033 ?_
  refine jl_mU hk (pc := 1034) (np := 1) (r := (rc.1, μ')) [.int (xs (i + 1).toNatClampNeg)] (cc_m_ways l (jn J n2) 1000 μ (xs (i + 1).toNatClampNeg) (rc.1, μ') hmf) (lw_V q1925 q1926 q1927 q127 q1928) (by decide +kernel) rfl rfl dL_law_1034 ⟨Nat.le_of_ble_eq_true rfl, Nat.le_of_ble_eq_true rfl⟩ (by (try dsimp only); omega) (by (try dsimp only); omega) (Nat.le_of_ble_eq_true rfl) ?_
  refine jl_eqT hk (pc := 1037) 1843 dL_law_1037 (by decide) rfl ?_
  refine jl_more (k1 := k + 2600) (n1 := n + 106600) (by (try dsimp only); omega) (by (try dsimp only); omega) ?_
  exact kk _ _ _ (hrel n2 g1 g2)
end
