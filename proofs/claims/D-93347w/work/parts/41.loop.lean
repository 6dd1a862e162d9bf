/-! THE LAW's LOOP -/
set_option maxRecDepth 100000
set_option maxHeartbeats 1000000
theorem nJ_add (a b : Nat) : nI a + nI b = nI (a + b) := (Int32.ofNat_add a b).symm
theorem nJ_toInt {n : Nat} (h : n < 2 ^ 31) : (nI n).toInt = n := Int32.toInt_ofNat_of_lt h
theorem nI_le5 {L j : Nat} (hL : L ≤ 320) (hj : j ≤ 320) : (nI L - 5 < nI j) ↔ L < j + 5 := by
  have h5 : nI L - 5 = Int32.ofInt ((L : Int) - 5) := by
    rw [Int32.ofInt_sub]; rfl
  rw [Int32.lt_iff_toInt_lt, nJ_toInt (by omega), h5, Int32.toInt_ofInt_of_le (by omega) (by omega)]
  omega
theorem nJ_in {n L : Nat} (hL : L ≤ 320) (h : n < L) : vp_in (nI n) L := by
  unfold vp_in
  rintro (h1 | h1)
  · rw [Int32.lt_iff_toInt_lt, nJ_toInt (by omega)] at h1
    simp at h1
    omega
  · rw [nI_clamp (by omega)] at h1
    omega
theorem and63 (x : Int32) : ∃ k : Nat, k ≤ 63 ∧ x &&& 63 = nI k := by
  refine ⟨(x.toBitVec &&& 63#32).toNat, ?_, ?_⟩
  · rw [BitVec.toNat_and]
    exact Nat.le_trans Nat.and_le_right (by decide)
  · apply Int32.toBitVec_inj.mp
    rw [Int32.toBitVec_and]
    show x.toBitVec &&& 63#32 = BitVec.ofNat 32 _
    rw [BitVec.ofNat_toNat]
    simp
section
variable {p : Program} {l : Launch} {e : Env} {s : State} {m : MethodId} {b : Nat} {below : List Frame} {meth : Method} {c : Code} {G : cG} {KK : State → Prop} {J : jG} {A : Nat → Prop} {L : Nat} {xs : Nat → Int32}
theorem jl_loop (hk : lk p s m b meth c G KK J A L xs) (hlt : l.stackTraces = false) (hret : meth.sig.returnType = ret) (hlocks : meth.locks = false) (hAs : ∀ q, A q → s.heap.size ≤ q) {Rel : SS → DS → MS → Prop} (hPL : ∀ k a b c d σ δ μ, k < 55 → Rel σ δ μ → pLaw Rel k a b c d σ δ μ) : ∀ (t j k n : Nat) (σ : SS) (d : DS) (μ : MS), 64 ≤ j + t → 5 * j ≤ L → k + 2600 * t ≤ 699883 → n + 106600 * t ≤ 6971880 → Rel σ d μ →
    jl p l e s m b below meth c G J A (lw_Z below #[Value.ref b] s) k n σ d μ 18 [(0, .ref b), (1, .ref (ha G 0)), (2, .ref (gh J)), (3, .int (nI (5 * j)))] [] := by
  intro t
  induction t with
  | zero =>
    intro j k n σ d μ ht hjL hk1 hk2 hrel
    refine jl_iload_n hk (pc := 18) dL_law_18 3 rfl rfl ?_
    refine jl_aload_n hk (pc := 19) dL_law_19 0 rfl rfl ?_
    refine jl_alen hk (pc := 20) dL_law_20 ?_
    refine jl_iconst hk (pc := 21) (v := 5) dL_law_21 (by decide) ?_
    refine jl_isub hk (pc := 22) dL_law_22 ?_
    have hL := hk.2.2.2.2.2.2.2.2
    refine jl_gtT hk (pc := 23) 1849 dL_law_23 (by decide) ((nI_le5 hL (by omega)).mpr (by omega)) ?_
    refine jl_iconst hk (pc := 1849) (v := 1) dL_law_1849 (by decide) ?_
    intro H locs ls hW hM hn hS hl
    exact va_forget (fun q hq => hAs _ (hS.2.2 q hq)) (W.widen (by omega) (by omega) (lw_ret hk.1.1 hk.1.2.1 hret hlocks dL_law_1850))
  | succ t ih =>
    intro j k n σ d μ ht hjL hk1 hk2 hrel
    have hL := hk.2.2.2.2.2.2.2.2
    refine jl_iload_n hk (pc := 18) dL_law_18 3 rfl rfl ?_
    refine jl_aload_n hk (pc := 19) dL_law_19 0 rfl rfl ?_
    refine jl_alen hk (pc := 20) dL_law_20 ?_
    refine jl_iconst hk (pc := 21) (v := 5) dL_law_21 (by decide) ?_
    refine jl_isub hk (pc := 22) dL_law_22 ?_
    by_cases hend : L < 5 * j + 5
    · refine jl_gtT hk (pc := 23) 1849 dL_law_23 (by decide) ((nI_le5 hL (by omega)).mpr hend) ?_
      refine jl_iconst hk (pc := 1849) (v := 1) dL_law_1849 (by decide) ?_
      intro H locs ls hW hM hn hS hl
      exact va_forget (fun q hq => hAs _ (hS.2.2 q hq)) (W.widen (by omega) (by omega) (lw_ret hk.1.1 hk.1.2.1 hret hlocks dL_law_1850))
    · refine jl_gtF hk (pc := 23) 1849 dL_law_23 (by decide) (fun h => hend ((nI_le5 hL (by omega)).mp h)) ?_
      refine jl_aload_n hk (pc := 26) dL_law_26 0 rfl rfl ?_
      refine jl_iload_n hk (pc := 27) dL_law_27 3 rfl rfl ?_
      refine jl_iald hk (pc := 28) (nJ_in hL (by omega)) dL_law_28 ?_
      refine jl_bipush hk (pc := 29) (v := 63) dL_law_29 (by decide) ?_
      refine jl_iand hk (pc := 31) dL_law_31 ?_
      have next : ∀ σ' d' μ', Rel σ' d' μ' → jl p l e s m b below meth c G J A (lw_Z below #[Value.ref b] s) (k + 2600) (n + 106600) σ' d' μ' 1843 [(0, .ref b), (1, .ref (ha G 0)), (2, .ref (gh J)), (3, .int (nI (5 * j)))] [] := by
        intro σ' d' μ' hr
        refine jl_iinc hk (pc := 1843) (v := nI (5 * (j + 1))) [(3, .int (nI (5 * (j + 1)))), (0, .ref b), (1, .ref (ha G 0)), (2, .ref (gh J))] dL_law_1843 3 rfl (by rw [show Int32.ofInt 5 = nI 5 from rfl, nJ_add]; congr 1) (by decide) rfl ?_
        refine jl_goto hk (pc := 1846) 18 dL_law_1846 (by decide) ?_
        refine jl_lv hk (lv' := [(0, .ref b), (1, .ref (ha G 0)), (2, .ref (gh J)), (3, .int (nI (5 * (j + 1))))]) (fun q hq => by
          simp only [List.mem_cons, List.not_mem_nil, or_false] at hq ⊢
          rcases hq with h | h | h | h
          · exact Or.inr (Or.inl h)
          · exact Or.inr (Or.inr (Or.inl h))
          · exact Or.inr (Or.inr (Or.inr h))
          · exact Or.inl h) ?_
        exact ih (j + 1) (k + 2600) (n + 106600) σ' d' μ' (by omega) (by omega) (by omega) (by omega) hr
      have i1 : vp_in (nI (5 * j) + 1) L := by rw [show (1 : Int32) = nI 1 from rfl, nJ_add]; exact nJ_in hL (by omega)
      have i2 : vp_in (nI (5 * j) + 2) L := by rw [show (2 : Int32) = nI 2 from rfl, nJ_add]; exact nJ_in hL (by omega)
      have i3 : vp_in (nI (5 * j) + 3) L := by rw [show (3 : Int32) = nI 3 from rfl, nJ_add]; exact nJ_in hL (by omega)
      have i4 : vp_in (nI (5 * j) + 4) L := by rw [show (4 : Int32) = nI 4 from rfl, nJ_add]; exact nJ_in hL (by omega)
      have hb1 : k + 2600 ≤ 699883 := by omega
      have hb2 : n + 106600 ≤ 6971880 := Nat.le_trans (Nat.add_le_add_left (Nat.le_mul_of_pos_right 106600 (Nat.succ_pos t)) n) hk2
      obtain ⟨v, hv, hve⟩ := and63 (xs (nI (5 * j)).toNatClampNeg)
      rw [hve]
      by_cases h55 : 54 < v
      · refine jl_tOut hk (pc := 32) 1843 dL_law_32 (Or.inr (by rw [nJ_toInt (by omega)]; omega)) (by decide) ?_
        exact jl_more (k1 := k + 2600) (n1 := n + 106600) (by omega) (by omega) (next σ d μ hrel)
      · have hv' : v = 0 ∨ v = 1 ∨ v = 2 ∨ v = 3 ∨ v = 4 ∨ v = 5 ∨ v = 6 ∨ v = 7 ∨ v = 8 ∨ v = 9 ∨ v = 10 ∨ v = 11 ∨ v = 12 ∨ v = 13 ∨ v = 14 ∨ v = 15 ∨ v = 16 ∨ v = 17 ∨ v = 18 ∨ v = 19 ∨ v = 20 ∨ v = 21 ∨ v = 22 ∨ v = 23 ∨ v = 24 ∨ v = 25 ∨ v = 26 ∨ v = 27 ∨ v = 28 ∨ v = 29 ∨ v = 30 ∨ v = 31 ∨ v = 32 ∨ v = 33 ∨ v = 34 ∨ v = 35 ∨ v = 36 ∨ v = 37 ∨ v = 38 ∨ v = 39 ∨ v = 40 ∨ v = 41 ∨ v = 42 ∨ v = 43 ∨ v = 44 ∨ v = 45 ∨ v = 46 ∨ v = 47 ∨ v = 48 ∨ v = 49 ∨ v = 50 ∨ v = 51 ∨ v = 52 ∨ v = 53 ∨ v = 54 := by omega
        rcases hv' with rfl | rfl | rfl | rfl | rfl | rfl | rfl | rfl | rfl | rfl | rfl | rfl | rfl | rfl | rfl | rfl | rfl | rfl | rfl | rfl | rfl | rfl | rfl | rfl | rfl | rfl | rfl | rfl | rfl | rfl | rfl | rfl | rfl | rfl | rfl | rfl | rfl | rfl | rfl | rfl | rfl | rfl | rfl | rfl | rfl | rfl | rfl | rfl | rfl | rfl | rfl | rfl | rfl | rfl | rfl
        · exact jl_tIn hk (pc := 32) 268 dL_law_32 (by decide) (by decide) rfl (by decide) (lc_0 (Rel := Rel) (i := nI (5 * j)) (k := k) (n := n) (σ := σ) (d := d) (μ := μ) hk hlt i1 i2 i3 i4 hb1 hb2 (hPL 0 (xs (nI (5 * j) + 1).toNatClampNeg) (xs (nI (5 * j) + 2).toNatClampNeg) (xs (nI (5 * j) + 3).toNatClampNeg) (xs (nI (5 * j) + 4).toNatClampNeg) σ d μ (by decide) hrel) next)
        · exact jl_tIn hk (pc := 32) 311 dL_law_32 (by decide) (by decide) rfl (by decide) (lc_1 (Rel := Rel) (i := nI (5 * j)) (k := k) (n := n) (σ := σ) (d := d) (μ := μ) hk hlt i1 i2 i3 i4 hb1 hb2 (hPL 1 (xs (nI (5 * j) + 1).toNatClampNeg) (xs (nI (5 * j) + 2).toNatClampNeg) (xs (nI (5 * j) + 3).toNatClampNeg) (xs (nI (5 * j) + 4).toNatClampNeg) σ d μ (by decide) hrel) next)
        · exact jl_tIn hk (pc := 32) 344 dL_law_32 (by decide) (by decide) rfl (by decide) (lc_2 (Rel := Rel) (i := nI (5 * j)) (k := k) (n := n) (σ := σ) (d := d) (μ := μ) hk hlt i1 i2 i3 i4 hb1 hb2 (hPL 2 (xs (nI (5 * j) + 1).toNatClampNeg) (xs (nI (5 * j) + 2).toNatClampNeg) (xs (nI (5 * j) + 3).toNatClampNeg) (xs (nI (5 * j) + 4).toNatClampNeg) σ d μ (by decide) hrel) next)
        · exact jl_tIn hk (pc := 32) 387 dL_law_32 (by decide) (by decide) rfl (by decide) (lc_3 (Rel := Rel) (i := nI (5 * j)) (k := k) (n := n) (σ := σ) (d := d) (μ := μ) hk hlt i1 i2 i3 i4 hb1 hb2 (hPL 3 (xs (nI (5 * j) + 1).toNatClampNeg) (xs (nI (5 * j) + 2).toNatClampNeg) (xs (nI (5 * j) + 3).toNatClampNeg) (xs (nI (5 * j) + 4).toNatClampNeg) σ d μ (by decide) hrel) next)
        · exact jl_tIn hk (pc := 32) 420 dL_law_32 (by decide) (by decide) rfl (by decide) (lc_4 (Rel := Rel) (i := nI (5 * j)) (k := k) (n := n) (σ := σ) (d := d) (μ := μ) hk hlt i1 i2 i3 i4 hb1 hb2 (hPL 4 (xs (nI (5 * j) + 1).toNatClampNeg) (xs (nI (5 * j) + 2).toNatClampNeg) (xs (nI (5 * j) + 3).toNatClampNeg) (xs (nI (5 * j) + 4).toNatClampNeg) σ d μ (by decide) hrel) next)
        · exact jl_tIn hk (pc := 32) 473 dL_law_32 (by decide) (by decide) rfl (by decide) (lc_5 (Rel := Rel) (i := nI (5 * j)) (k := k) (n := n) (σ := σ) (d := d) (μ := μ) hk hlt i1 i2 i3 i4 hb1 hb2 (hPL 5 (xs (nI (5 * j) + 1).toNatClampNeg) (xs (nI (5 * j) + 2).toNatClampNeg) (xs (nI (5 * j) + 3).toNatClampNeg) (xs (nI (5 * j) + 4).toNatClampNeg) σ d μ (by decide) hrel) next)
        · exact jl_tIn hk (pc := 32) 506 dL_law_32 (by decide) (by decide) rfl (by decide) (lc_6 (Rel := Rel) (i := nI (5 * j)) (k := k) (n := n) (σ := σ) (d := d) (μ := μ) hk hlt i1 i2 i3 i4 hb1 hb2 (hPL 6 (xs (nI (5 * j) + 1).toNatClampNeg) (xs (nI (5 * j) + 2).toNatClampNeg) (xs (nI (5 * j) + 3).toNatClampNeg) (xs (nI (5 * j) + 4).toNatClampNeg) σ d μ (by decide) hrel) next)
        · exact jl_tIn hk (pc := 32) 529 dL_law_32 (by decide) (by decide) rfl (by decide) (lc_7 (Rel := Rel) (i := nI (5 * j)) (k := k) (n := n) (σ := σ) (d := d) (μ := μ) hk hlt i1 i2 i3 i4 hb1 hb2 (hPL 7 (xs (nI (5 * j) + 1).toNatClampNeg) (xs (nI (5 * j) + 2).toNatClampNeg) (xs (nI (5 * j) + 3).toNatClampNeg) (xs (nI (5 * j) + 4).toNatClampNeg) σ d μ (by decide) hrel) next)
        · exact jl_tIn hk (pc := 32) 542 dL_law_32 (by decide) (by decide) rfl (by decide) (lc_8 (Rel := Rel) (i := nI (5 * j)) (k := k) (n := n) (σ := σ) (d := d) (μ := μ) hk hlt i1 i2 i3 i4 hb1 hb2 (hPL 8 (xs (nI (5 * j) + 1).toNatClampNeg) (xs (nI (5 * j) + 2).toNatClampNeg) (xs (nI (5 * j) + 3).toNatClampNeg) (xs (nI (5 * j) + 4).toNatClampNeg) σ d μ (by decide) hrel) next)
        · exact jl_tIn hk (pc := 32) 565 dL_law_32 (by decide) (by decide) rfl (by decide) (lc_9 (Rel := Rel) (i := nI (5 * j)) (k := k) (n := n) (σ := σ) (d := d) (μ := μ) hk hlt i1 i2 i3 i4 hb1 hb2 (hPL 9 (xs (nI (5 * j) + 1).toNatClampNeg) (xs (nI (5 * j) + 2).toNatClampNeg) (xs (nI (5 * j) + 3).toNatClampNeg) (xs (nI (5 * j) + 4).toNatClampNeg) σ d μ (by decide) hrel) next)
        · exact jl_tIn hk (pc := 32) 628 dL_law_32 (by decide) (by decide) rfl (by decide) (lc_10 (Rel := Rel) (i := nI (5 * j)) (k := k) (n := n) (σ := σ) (d := d) (μ := μ) hk hlt i1 i2 i3 i4 hb1 hb2 (hPL 10 (xs (nI (5 * j) + 1).toNatClampNeg) (xs (nI (5 * j) + 2).toNatClampNeg) (xs (nI (5 * j) + 3).toNatClampNeg) (xs (nI (5 * j) + 4).toNatClampNeg) σ d μ (by decide) hrel) next)
        · exact jl_tIn hk (pc := 32) 641 dL_law_32 (by decide) (by decide) rfl (by decide) (lc_11 (Rel := Rel) (i := nI (5 * j)) (k := k) (n := n) (σ := σ) (d := d) (μ := μ) hk hlt i1 i2 i3 i4 hb1 hb2 (hPL 11 (xs (nI (5 * j) + 1).toNatClampNeg) (xs (nI (5 * j) + 2).toNatClampNeg) (xs (nI (5 * j) + 3).toNatClampNeg) (xs (nI (5 * j) + 4).toNatClampNeg) σ d μ (by decide) hrel) next)
        · exact jl_tIn hk (pc := 32) 654 dL_law_32 (by decide) (by decide) rfl (by decide) (lc_12 (Rel := Rel) (i := nI (5 * j)) (k := k) (n := n) (σ := σ) (d := d) (μ := μ) hk hlt i1 i2 i3 i4 hb1 hb2 (hPL 12 (xs (nI (5 * j) + 1).toNatClampNeg) (xs (nI (5 * j) + 2).toNatClampNeg) (xs (nI (5 * j) + 3).toNatClampNeg) (xs (nI (5 * j) + 4).toNatClampNeg) σ d μ (by decide) hrel) next)
        · exact jl_tIn hk (pc := 32) 677 dL_law_32 (by decide) (by decide) rfl (by decide) (lc_13 (Rel := Rel) (i := nI (5 * j)) (k := k) (n := n) (σ := σ) (d := d) (μ := μ) hk hlt i1 i2 i3 i4 hb1 hb2 (hPL 13 (xs (nI (5 * j) + 1).toNatClampNeg) (xs (nI (5 * j) + 2).toNatClampNeg) (xs (nI (5 * j) + 3).toNatClampNeg) (xs (nI (5 * j) + 4).toNatClampNeg) σ d μ (by decide) hrel) next)
        · exact jl_tIn hk (pc := 32) 700 dL_law_32 (by decide) (by decide) rfl (by decide) (lc_14 (Rel := Rel) (i := nI (5 * j)) (k := k) (n := n) (σ := σ) (d := d) (μ := μ) hk hlt i1 i2 i3 i4 hb1 hb2 (hPL 14 (xs (nI (5 * j) + 1).toNatClampNeg) (xs (nI (5 * j) + 2).toNatClampNeg) (xs (nI (5 * j) + 3).toNatClampNeg) (xs (nI (5 * j) + 4).toNatClampNeg) σ d μ (by decide) hrel) next)
        · exact jl_tIn hk (pc := 32) 723 dL_law_32 (by decide) (by decide) rfl (by decide) (lc_15 (Rel := Rel) (i := nI (5 * j)) (k := k) (n := n) (σ := σ) (d := d) (μ := μ) hk hlt i1 i2 i3 i4 hb1 hb2 (hPL 15 (xs (nI (5 * j) + 1).toNatClampNeg) (xs (nI (5 * j) + 2).toNatClampNeg) (xs (nI (5 * j) + 3).toNatClampNeg) (xs (nI (5 * j) + 4).toNatClampNeg) σ d μ (by decide) hrel) next)
        · exact jl_tIn hk (pc := 32) 746 dL_law_32 (by decide) (by decide) rfl (by decide) (lc_16 (Rel := Rel) (i := nI (5 * j)) (k := k) (n := n) (σ := σ) (d := d) (μ := μ) hk hlt i1 i2 i3 i4 hb1 hb2 (hPL 16 (xs (nI (5 * j) + 1).toNatClampNeg) (xs (nI (5 * j) + 2).toNatClampNeg) (xs (nI (5 * j) + 3).toNatClampNeg) (xs (nI (5 * j) + 4).toNatClampNeg) σ d μ (by decide) hrel) next)
        · exact jl_tIn hk (pc := 32) 759 dL_law_32 (by decide) (by decide) rfl (by decide) (lc_17 (Rel := Rel) (i := nI (5 * j)) (k := k) (n := n) (σ := σ) (d := d) (μ := μ) hk hlt i1 i2 i3 i4 hb1 hb2 (hPL 17 (xs (nI (5 * j) + 1).toNatClampNeg) (xs (nI (5 * j) + 2).toNatClampNeg) (xs (nI (5 * j) + 3).toNatClampNeg) (xs (nI (5 * j) + 4).toNatClampNeg) σ d μ (by decide) hrel) next)
        · exact jl_tIn hk (pc := 32) 782 dL_law_32 (by decide) (by decide) rfl (by decide) (lc_18 (Rel := Rel) (i := nI (5 * j)) (k := k) (n := n) (σ := σ) (d := d) (μ := μ) hk hlt i1 i2 i3 i4 hb1 hb2 (hPL 18 (xs (nI (5 * j) + 1).toNatClampNeg) (xs (nI (5 * j) + 2).toNatClampNeg) (xs (nI (5 * j) + 3).toNatClampNeg) (xs (nI (5 * j) + 4).toNatClampNeg) σ d μ (by decide) hrel) next)
        · exact jl_tIn hk (pc := 32) 805 dL_law_32 (by decide) (by decide) rfl (by decide) (lc_19 (Rel := Rel) (i := nI (5 * j)) (k := k) (n := n) (σ := σ) (d := d) (μ := μ) hk hlt i1 i2 i3 i4 hb1 hb2 (hPL 19 (xs (nI (5 * j) + 1).toNatClampNeg) (xs (nI (5 * j) + 2).toNatClampNeg) (xs (nI (5 * j) + 3).toNatClampNeg) (xs (nI (5 * j) + 4).toNatClampNeg) σ d μ (by decide) hrel) next)
        · exact jl_tIn hk (pc := 32) 828 dL_law_32 (by decide) (by decide) rfl (by decide) (lc_20 (Rel := Rel) (i := nI (5 * j)) (k := k) (n := n) (σ := σ) (d := d) (μ := μ) hk hlt i1 i2 i3 i4 hb1 hb2 (hPL 20 (xs (nI (5 * j) + 1).toNatClampNeg) (xs (nI (5 * j) + 2).toNatClampNeg) (xs (nI (5 * j) + 3).toNatClampNeg) (xs (nI (5 * j) + 4).toNatClampNeg) σ d μ (by decide) hrel) next)
        · exact jl_tIn hk (pc := 32) 871 dL_law_32 (by decide) (by decide) rfl (by decide) (lc_21 (Rel := Rel) (i := nI (5 * j)) (k := k) (n := n) (σ := σ) (d := d) (μ := μ) hk hlt i1 i2 i3 i4 hb1 hb2 (hPL 21 (xs (nI (5 * j) + 1).toNatClampNeg) (xs (nI (5 * j) + 2).toNatClampNeg) (xs (nI (5 * j) + 3).toNatClampNeg) (xs (nI (5 * j) + 4).toNatClampNeg) σ d μ (by decide) hrel) next)
        · exact jl_tIn hk (pc := 32) 904 dL_law_32 (by decide) (by decide) rfl (by decide) (lc_22 (Rel := Rel) (i := nI (5 * j)) (k := k) (n := n) (σ := σ) (d := d) (μ := μ) hk hlt i1 i2 i3 i4 hb1 hb2 (hPL 22 (xs (nI (5 * j) + 1).toNatClampNeg) (xs (nI (5 * j) + 2).toNatClampNeg) (xs (nI (5 * j) + 3).toNatClampNeg) (xs (nI (5 * j) + 4).toNatClampNeg) σ d μ (by decide) hrel) next)
        · exact jl_tIn hk (pc := 32) 927 dL_law_32 (by decide) (by decide) rfl (by decide) (lc_23 (Rel := Rel) (i := nI (5 * j)) (k := k) (n := n) (σ := σ) (d := d) (μ := μ) hk hlt i1 i2 i3 i4 hb1 hb2 (hPL 23 (xs (nI (5 * j) + 1).toNatClampNeg) (xs (nI (5 * j) + 2).toNatClampNeg) (xs (nI (5 * j) + 3).toNatClampNeg) (xs (nI (5 * j) + 4).toNatClampNeg) σ d μ (by decide) hrel) next)
        · exact jl_tIn hk (pc := 32) 950 dL_law_32 (by decide) (by decide) rfl (by decide) (lc_24 (Rel := Rel) (i := nI (5 * j)) (k := k) (n := n) (σ := σ) (d := d) (μ := μ) hk hlt i1 i2 i3 i4 hb1 hb2 (hPL 24 (xs (nI (5 * j) + 1).toNatClampNeg) (xs (nI (5 * j) + 2).toNatClampNeg) (xs (nI (5 * j) + 3).toNatClampNeg) (xs (nI (5 * j) + 4).toNatClampNeg) σ d μ (by decide) hrel) next)
        · exact jl_tIn hk (pc := 32) 963 dL_law_32 (by decide) (by decide) rfl (by decide) (lc_25 (Rel := Rel) (i := nI (5 * j)) (k := k) (n := n) (σ := σ) (d := d) (μ := μ) hk hlt i1 i2 i3 i4 hb1 hb2 (hPL 25 (xs (nI (5 * j) + 1).toNatClampNeg) (xs (nI (5 * j) + 2).toNatClampNeg) (xs (nI (5 * j) + 3).toNatClampNeg) (xs (nI (5 * j) + 4).toNatClampNeg) σ d μ (by decide) hrel) next)
        · exact jl_tIn hk (pc := 32) 986 dL_law_32 (by decide) (by decide) rfl (by decide) (lc_26 (Rel := Rel) (i := nI (5 * j)) (k := k) (n := n) (σ := σ) (d := d) (μ := μ) hk hlt i1 i2 i3 i4 hb1 hb2 (hPL 26 (xs (nI (5 * j) + 1).toNatClampNeg) (xs (nI (5 * j) + 2).toNatClampNeg) (xs (nI (5 * j) + 3).toNatClampNeg) (xs (nI (5 * j) + 4).toNatClampNeg) σ d μ (by decide) hrel) next)
        · exact jl_tIn hk (pc := 32) 1019 dL_law_32 (by decide) (by decide) rfl (by decide) (lc_27 (Rel := Rel) (i := nI (5 * j)) (k := k) (n := n) (σ := σ) (d := d) (μ := μ) hk hlt i1 i2 i3 i4 hb1 hb2 (hPL 27 (xs (nI (5 * j) + 1).toNatClampNeg) (xs (nI (5 * j) + 2).toNatClampNeg) (xs (nI (5 * j) + 3).toNatClampNeg) (xs (nI (5 * j) + 4).toNatClampNeg) σ d μ (by decide) hrel) next)
        · exact jl_tIn hk (pc := 32) 1042 dL_law_32 (by decide) (by decide) rfl (by decide) (lc_28 (Rel := Rel) (i := nI (5 * j)) (k := k) (n := n) (σ := σ) (d := d) (μ := μ) hk hlt i1 i2 i3 i4 hb1 hb2 (hPL 28 (xs (nI (5 * j) + 1).toNatClampNeg) (xs (nI (5 * j) + 2).toNatClampNeg) (xs (nI (5 * j) + 3).toNatClampNeg) (xs (nI (5 * j) + 4).toNatClampNeg) σ d μ (by decide) hrel) next)
        · exact jl_tIn hk (pc := 32) 1075 dL_law_32 (by decide) (by decide) rfl (by decide) (lc_29 (Rel := Rel) (i := nI (5 * j)) (k := k) (n := n) (σ := σ) (d := d) (μ := μ) hk hlt i1 i2 i3 i4 hb1 hb2 (hPL 29 (xs (nI (5 * j) + 1).toNatClampNeg) (xs (nI (5 * j) + 2).toNatClampNeg) (xs (nI (5 * j) + 3).toNatClampNeg) (xs (nI (5 * j) + 4).toNatClampNeg) σ d μ (by decide) hrel) next)
        · exact jl_tIn hk (pc := 32) 1108 dL_law_32 (by decide) (by decide) rfl (by decide) (lc_30 (Rel := Rel) (i := nI (5 * j)) (k := k) (n := n) (σ := σ) (d := d) (μ := μ) hk hlt i1 i2 i3 i4 hb1 hb2 (hPL 30 (xs (nI (5 * j) + 1).toNatClampNeg) (xs (nI (5 * j) + 2).toNatClampNeg) (xs (nI (5 * j) + 3).toNatClampNeg) (xs (nI (5 * j) + 4).toNatClampNeg) σ d μ (by decide) hrel) next)
        · exact jl_tIn hk (pc := 32) 1131 dL_law_32 (by decide) (by decide) rfl (by decide) (lc_31 (Rel := Rel) (i := nI (5 * j)) (k := k) (n := n) (σ := σ) (d := d) (μ := μ) hk hlt i1 i2 i3 i4 hb1 hb2 (hPL 31 (xs (nI (5 * j) + 1).toNatClampNeg) (xs (nI (5 * j) + 2).toNatClampNeg) (xs (nI (5 * j) + 3).toNatClampNeg) (xs (nI (5 * j) + 4).toNatClampNeg) σ d μ (by decide) hrel) next)
        · exact jl_tIn hk (pc := 32) 1154 dL_law_32 (by decide) (by decide) rfl (by decide) (lc_32 (Rel := Rel) (i := nI (5 * j)) (k := k) (n := n) (σ := σ) (d := d) (μ := μ) hk hlt i1 i2 i3 i4 hb1 hb2 (hPL 32 (xs (nI (5 * j) + 1).toNatClampNeg) (xs (nI (5 * j) + 2).toNatClampNeg) (xs (nI (5 * j) + 3).toNatClampNeg) (xs (nI (5 * j) + 4).toNatClampNeg) σ d μ (by decide) hrel) next)
        · exact jl_tIn hk (pc := 32) 1207 dL_law_32 (by decide) (by decide) rfl (by decide) (lc_33 (Rel := Rel) (i := nI (5 * j)) (k := k) (n := n) (σ := σ) (d := d) (μ := μ) hk hlt i1 i2 i3 i4 hb1 hb2 (hPL 33 (xs (nI (5 * j) + 1).toNatClampNeg) (xs (nI (5 * j) + 2).toNatClampNeg) (xs (nI (5 * j) + 3).toNatClampNeg) (xs (nI (5 * j) + 4).toNatClampNeg) σ d μ (by decide) hrel) next)
        · exact jl_tIn hk (pc := 32) 1220 dL_law_32 (by decide) (by decide) rfl (by decide) (lc_34 (Rel := Rel) (i := nI (5 * j)) (k := k) (n := n) (σ := σ) (d := d) (μ := μ) hk hlt i1 i2 i3 i4 hb1 hb2 (hPL 34 (xs (nI (5 * j) + 1).toNatClampNeg) (xs (nI (5 * j) + 2).toNatClampNeg) (xs (nI (5 * j) + 3).toNatClampNeg) (xs (nI (5 * j) + 4).toNatClampNeg) σ d μ (by decide) hrel) next)
        · exact jl_tIn hk (pc := 32) 1243 dL_law_32 (by decide) (by decide) rfl (by decide) (lc_35 (Rel := Rel) (i := nI (5 * j)) (k := k) (n := n) (σ := σ) (d := d) (μ := μ) hk hlt i1 i2 i3 i4 hb1 hb2 (hPL 35 (xs (nI (5 * j) + 1).toNatClampNeg) (xs (nI (5 * j) + 2).toNatClampNeg) (xs (nI (5 * j) + 3).toNatClampNeg) (xs (nI (5 * j) + 4).toNatClampNeg) σ d μ (by decide) hrel) next)
        · exact jl_tIn hk (pc := 32) 1256 dL_law_32 (by decide) (by decide) rfl (by decide) (lc_36 (Rel := Rel) (i := nI (5 * j)) (k := k) (n := n) (σ := σ) (d := d) (μ := μ) hk hlt i1 i2 i3 i4 hb1 hb2 (hPL 36 (xs (nI (5 * j) + 1).toNatClampNeg) (xs (nI (5 * j) + 2).toNatClampNeg) (xs (nI (5 * j) + 3).toNatClampNeg) (xs (nI (5 * j) + 4).toNatClampNeg) σ d μ (by decide) hrel) next)
        · exact jl_tIn hk (pc := 32) 1279 dL_law_32 (by decide) (by decide) rfl (by decide) (lc_37 (Rel := Rel) (i := nI (5 * j)) (k := k) (n := n) (σ := σ) (d := d) (μ := μ) hk hlt i1 i2 i3 i4 hb1 hb2 (hPL 37 (xs (nI (5 * j) + 1).toNatClampNeg) (xs (nI (5 * j) + 2).toNatClampNeg) (xs (nI (5 * j) + 3).toNatClampNeg) (xs (nI (5 * j) + 4).toNatClampNeg) σ d μ (by decide) hrel) next)
        · exact jl_tIn hk (pc := 32) 1292 dL_law_32 (by decide) (by decide) rfl (by decide) (lc_38 (Rel := Rel) (i := nI (5 * j)) (k := k) (n := n) (σ := σ) (d := d) (μ := μ) hk hlt i1 i2 i3 i4 hb1 hb2 (hPL 38 (xs (nI (5 * j) + 1).toNatClampNeg) (xs (nI (5 * j) + 2).toNatClampNeg) (xs (nI (5 * j) + 3).toNatClampNeg) (xs (nI (5 * j) + 4).toNatClampNeg) σ d μ (by decide) hrel) next)
        · exact jl_tIn hk (pc := 32) 1325 dL_law_32 (by decide) (by decide) rfl (by decide) (lc_39 (Rel := Rel) (i := nI (5 * j)) (k := k) (n := n) (σ := σ) (d := d) (μ := μ) hk hlt i1 i2 i3 i4 hb1 hb2 (hPL 39 (xs (nI (5 * j) + 1).toNatClampNeg) (xs (nI (5 * j) + 2).toNatClampNeg) (xs (nI (5 * j) + 3).toNatClampNeg) (xs (nI (5 * j) + 4).toNatClampNeg) σ d μ (by decide) hrel) next)
        · exact jl_tIn hk (pc := 32) 1348 dL_law_32 (by decide) (by decide) rfl (by decide) (lc_40 (Rel := Rel) (i := nI (5 * j)) (k := k) (n := n) (σ := σ) (d := d) (μ := μ) hk hlt i1 i2 i3 i4 hb1 hb2 (hPL 40 (xs (nI (5 * j) + 1).toNatClampNeg) (xs (nI (5 * j) + 2).toNatClampNeg) (xs (nI (5 * j) + 3).toNatClampNeg) (xs (nI (5 * j) + 4).toNatClampNeg) σ d μ (by decide) hrel) next)
        · exact jl_tIn hk (pc := 32) 1381 dL_law_32 (by decide) (by decide) rfl (by decide) (lc_41 (Rel := Rel) (i := nI (5 * j)) (k := k) (n := n) (σ := σ) (d := d) (μ := μ) hk hlt i1 i2 i3 i4 hb1 hb2 (hPL 41 (xs (nI (5 * j) + 1).toNatClampNeg) (xs (nI (5 * j) + 2).toNatClampNeg) (xs (nI (5 * j) + 3).toNatClampNeg) (xs (nI (5 * j) + 4).toNatClampNeg) σ d μ (by decide) hrel) next)
        · exact jl_tIn hk (pc := 32) 1424 dL_law_32 (by decide) (by decide) rfl (by decide) (lc_42 (Rel := Rel) (i := nI (5 * j)) (k := k) (n := n) (σ := σ) (d := d) (μ := μ) hk hlt i1 i2 i3 i4 hb1 hb2 (hPL 42 (xs (nI (5 * j) + 1).toNatClampNeg) (xs (nI (5 * j) + 2).toNatClampNeg) (xs (nI (5 * j) + 3).toNatClampNeg) (xs (nI (5 * j) + 4).toNatClampNeg) σ d μ (by decide) hrel) next)
        · exact jl_tIn hk (pc := 32) 1437 dL_law_32 (by decide) (by decide) rfl (by decide) (lc_43 (Rel := Rel) (i := nI (5 * j)) (k := k) (n := n) (σ := σ) (d := d) (μ := μ) hk hlt i1 i2 i3 i4 hb1 hb2 (hPL 43 (xs (nI (5 * j) + 1).toNatClampNeg) (xs (nI (5 * j) + 2).toNatClampNeg) (xs (nI (5 * j) + 3).toNatClampNeg) (xs (nI (5 * j) + 4).toNatClampNeg) σ d μ (by decide) hrel) next)
        · exact jl_tIn hk (pc := 32) 1480 dL_law_32 (by decide) (by decide) rfl (by decide) (lc_44 (Rel := Rel) (i := nI (5 * j)) (k := k) (n := n) (σ := σ) (d := d) (μ := μ) hk hlt i1 i2 i3 i4 hb1 hb2 (hPL 44 (xs (nI (5 * j) + 1).toNatClampNeg) (xs (nI (5 * j) + 2).toNatClampNeg) (xs (nI (5 * j) + 3).toNatClampNeg) (xs (nI (5 * j) + 4).toNatClampNeg) σ d μ (by decide) hrel) next)
        · exact jl_tIn hk (pc := 32) 1523 dL_law_32 (by decide) (by decide) rfl (by decide) (lc_45 (Rel := Rel) (i := nI (5 * j)) (k := k) (n := n) (σ := σ) (d := d) (μ := μ) hk hlt i1 i2 i3 i4 hb1 hb2 (hPL 45 (xs (nI (5 * j) + 1).toNatClampNeg) (xs (nI (5 * j) + 2).toNatClampNeg) (xs (nI (5 * j) + 3).toNatClampNeg) (xs (nI (5 * j) + 4).toNatClampNeg) σ d μ (by decide) hrel) next)
        · exact jl_tIn hk (pc := 32) 1566 dL_law_32 (by decide) (by decide) rfl (by decide) (lc_46 (Rel := Rel) (i := nI (5 * j)) (k := k) (n := n) (σ := σ) (d := d) (μ := μ) hk hlt i1 i2 i3 i4 hb1 hb2 (hPL 46 (xs (nI (5 * j) + 1).toNatClampNeg) (xs (nI (5 * j) + 2).toNatClampNeg) (xs (nI (5 * j) + 3).toNatClampNeg) (xs (nI (5 * j) + 4).toNatClampNeg) σ d μ (by decide) hrel) next)
        · exact jl_tIn hk (pc := 32) 1609 dL_law_32 (by decide) (by decide) rfl (by decide) (lc_47 (Rel := Rel) (i := nI (5 * j)) (k := k) (n := n) (σ := σ) (d := d) (μ := μ) hk hlt i1 i2 i3 i4 hb1 hb2 (hPL 47 (xs (nI (5 * j) + 1).toNatClampNeg) (xs (nI (5 * j) + 2).toNatClampNeg) (xs (nI (5 * j) + 3).toNatClampNeg) (xs (nI (5 * j) + 4).toNatClampNeg) σ d μ (by decide) hrel) next)
        · exact jl_tIn hk (pc := 32) 1652 dL_law_32 (by decide) (by decide) rfl (by decide) (lc_48 (Rel := Rel) (i := nI (5 * j)) (k := k) (n := n) (σ := σ) (d := d) (μ := μ) hk hlt i1 i2 i3 i4 hb1 hb2 (hPL 48 (xs (nI (5 * j) + 1).toNatClampNeg) (xs (nI (5 * j) + 2).toNatClampNeg) (xs (nI (5 * j) + 3).toNatClampNeg) (xs (nI (5 * j) + 4).toNatClampNeg) σ d μ (by decide) hrel) next)
        · exact jl_tIn hk (pc := 32) 1695 dL_law_32 (by decide) (by decide) rfl (by decide) (lc_49 (Rel := Rel) (i := nI (5 * j)) (k := k) (n := n) (σ := σ) (d := d) (μ := μ) hk hlt i1 i2 i3 i4 hb1 hb2 (hPL 49 (xs (nI (5 * j) + 1).toNatClampNeg) (xs (nI (5 * j) + 2).toNatClampNeg) (xs (nI (5 * j) + 3).toNatClampNeg) (xs (nI (5 * j) + 4).toNatClampNeg) σ d μ (by decide) hrel) next)
        · exact jl_tIn hk (pc := 32) 1728 dL_law_32 (by decide) (by decide) rfl (by decide) (lc_50 (Rel := Rel) (i := nI (5 * j)) (k := k) (n := n) (σ := σ) (d := d) (μ := μ) hk hlt i1 i2 i3 i4 hb1 hb2 (hPL 50 (xs (nI (5 * j) + 1).toNatClampNeg) (xs (nI (5 * j) + 2).toNatClampNeg) (xs (nI (5 * j) + 3).toNatClampNeg) (xs (nI (5 * j) + 4).toNatClampNeg) σ d μ (by decide) hrel) next)
        · exact jl_tIn hk (pc := 32) 1771 dL_law_32 (by decide) (by decide) rfl (by decide) (lc_51 (Rel := Rel) (i := nI (5 * j)) (k := k) (n := n) (σ := σ) (d := d) (μ := μ) hk hlt i1 i2 i3 i4 hb1 hb2 (hPL 51 (xs (nI (5 * j) + 1).toNatClampNeg) (xs (nI (5 * j) + 2).toNatClampNeg) (xs (nI (5 * j) + 3).toNatClampNeg) (xs (nI (5 * j) + 4).toNatClampNeg) σ d μ (by decide) hrel) next)
        · exact jl_tIn hk (pc := 32) 1794 dL_law_32 (by decide) (by decide) rfl (by decide) (lc_52 (Rel := Rel) (i := nI (5 * j)) (k := k) (n := n) (σ := σ) (d := d) (μ := μ) hk hlt i1 i2 i3 i4 hb1 hb2 (hPL 52 (xs (nI (5 * j) + 1).toNatClampNeg) (xs (nI (5 * j) + 2).toNatClampNeg) (xs (nI (5 * j) + 3).toNatClampNeg) (xs (nI (5 * j) + 4).toNatClampNeg) σ d μ (by decide) hrel) next)
        · exact jl_tIn hk (pc := 32) 1817 dL_law_32 (by decide) (by decide) rfl (by decide) (lc_53 (Rel := Rel) (i := nI (5 * j)) (k := k) (n := n) (σ := σ) (d := d) (μ := μ) hk hlt i1 i2 i3 i4 hb1 hb2 (hPL 53 (xs (nI (5 * j) + 1).toNatClampNeg) (xs (nI (5 * j) + 2).toNatClampNeg) (xs (nI (5 * j) + 3).toNatClampNeg) (xs (nI (5 * j) + 4).toNatClampNeg) σ d μ (by decide) hrel) next)
        · exact jl_tIn hk (pc := 32) 1830 dL_law_32 (by decide) (by decide) rfl (by decide) (lc_54 (Rel := Rel) (i := nI (5 * j)) (k := k) (n := n) (σ := σ) (d := d) (μ := μ) hk hlt i1 i2 i3 i4 hb1 hb2 (hPL 54 (xs (nI (5 * j) + 1).toNatClampNeg) (xs (nI (5 * j) + 2).toNatClampNeg) (xs (nI (5 * j) + 3).toNatClampNeg) (xs (nI (5 * j) + 4).toNatClampNeg) σ d μ (by decide) hrel) next)
end
