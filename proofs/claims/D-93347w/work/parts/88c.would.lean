/-! PLAIN LAW: the host: wouldBe -/
set_option maxRecDepth 100000
theorem back_C {T : Tw} {RS : Rls} {δ : DS} {σ σ1 : SS} {μ : MS} (H : Rel σ δ μ) (h : cor T (tS T) RS δ σ μ) (s1 : simC T 2 σ1) (s2 : σ1.2.2.1 2 = σ.2.2.1 0) (e : σ1.2.2.2 = σ.2.2.2) (fC : FC σ σ1) : ∃ σ3, f3_become σ1 0 2 = some σ3 ∧ Rel σ3 δ μ := by
  obtain ⟨σ3, a1, a2, a3, a4, a5, a6, a7, a8⟩ := trial_B s1 (F2.rf σ1)
  exact ⟨σ3, a1, Rel_cor H (fC.tr a7) (FM.rf μ) (cor_id a2 h.M h.2.1.1 h.2.1.2 (by rw [a6, e]; exact h.2.2.1.1) (by rw [a4, s2]; exact h.2.2.1.2) h.2.2.2)⟩
theorem hnd_b {σ σ3 : SS} {v : Int32} (w : f3_become (sI σ 71 v) 0 2 = some σ3) (δ : DS) : (if ((1, sI σ 71 v, δ) : Nat × SS × DS).1 = 1 then (f3_become ((1, sI σ 71 v, δ) : Nat × SS × DS).2.1 0 2).bind (fun r => some (((1, sI σ 71 v, δ) : Nat × SS × DS).2.1.1 71, r)) else none) = some (v, σ3) := by
  rw [if_pos rfl]
  show (f3_become (sI σ 71 v) 0 2).bind _ = _
  rw [w]
  rfl
theorem hnd_5 {σ σ3 : SS} (w : f3_become σ 0 2 = some σ3) (δ : DS) : (if ((5, σ, δ) : Nat × SS × DS).1 = 4 then (f3_become ((5, σ, δ) : Nat × SS × DS).2.1 0 2).bind (fun r6 => some ((-13 : Int32), r6)) else (if ((5, σ, δ) : Nat × SS × DS).1 = 5 then (f3_become ((5, σ, δ) : Nat × SS × DS).2.1 0 2).bind (fun r7 => some ((-11 : Int32), r7)) else none)) = some (-11, σ3) := by
  rw [if_neg (show ¬ ((5, σ, δ) : Nat × SS × DS).1 = 4 from fun h => absurd h (by show ¬ 5 = 4; decide)), if_pos rfl]
  show (f3_become σ 0 2).bind _ = _
  rw [w]
  rfl
theorem hnd_4 {σ σ3 : SS} (w : f3_become σ 0 2 = some σ3) (δ : DS) : (if ((4, σ, δ) : Nat × SS × DS).1 = 4 then (f3_become ((4, σ, δ) : Nat × SS × DS).2.1 0 2).bind (fun r6 => some ((-13 : Int32), r6)) else (if ((4, σ, δ) : Nat × SS × DS).1 = 5 then (f3_become ((4, σ, δ) : Nat × SS × DS).2.1 0 2).bind (fun r7 => some ((-11 : Int32), r7)) else none)) = some (-13, σ3) := by
  rw [if_pos rfl]
  show (f3_become σ 0 2).bind _ = _
  rw [w]
  rfl
theorem would_L {T0 : Tw} {RS : Rls} {δ : DS} {σ0 : SS} {μ0 : MS} (H : Rel σ0 δ μ0) (h0 : cor T0 (tS T0) RS δ σ0 μ0) {s q n i c : Nat} {f : Nat → Int32} (hs : s < 4) (hn : 1 ≤ n ∧ n ≤ 40) (hi : i < n) (hc : c ≤ 20) : ∀ (m k fuel : Nat) (x : Int32) (T : Tw) (σ : SS) (μ : MS), cor T (tS T) RS δ σ μ → sav T0 (σ0.2.2.1 0) (μ0.2 0) σ μ → σ.2.2.2 = σ0.2.2.2 → FC σ0 σ → FM μ0 μ → byteRow s q n f σ δ μ → k + m = c → m + 1 < fuel → ∃ y σ' μ', f0_wouldBe_L55 1000 fuel σ δ (nI i) (nI c) (some q) (nI n) x (nI k) = some (y, σ', δ) ∧ m_wouldBe_L37 1000 fuel μ (nI s) (nI i) (nI c) (0 : Int32) x (nI k) = some (y, μ') ∧ Rel σ' δ μ' := by
  intro m
  induction m with
  | zero =>
    intro k fuel x T σ μ h sv e fC fM hb h1 h2
    obtain ⟨N, rfl⟩ : ∃ n, fuel = n + 1 := ⟨fuel - 1, by omega⟩
    have hl : nI c ≤ nI k := (nN_le (by omega) (by omega)).mpr (by omega)
    obtain ⟨σ3, μ3, b1, b2, b3⟩ := back_both (U := T) (S := tS T) H h0 sv e fC fM (frC.rf σ) (frM.rf μ)
    refine ⟨x, σ3, μ3, ?_, ?_, b3⟩
    · show (if nI c ≤ nI k then _ else _) = _
      rw [if_pos hl, b1]
      rfl
    · show (if nI c ≤ nI k then _ else _) = _
      rw [if_pos hl, b2, Option.bind_some, if_pos rfl]
  | succ m ih =>
    intro k fuel x T σ μ h sv e fC fM hb h1 h2
    obtain ⟨N, rfl⟩ : ∃ n, fuel = n + 1 := ⟨fuel - 1, by omega⟩
    obtain ⟨N', rfl⟩ : ∃ n, N = n + 1 := ⟨N - 1, by omega⟩
    have hl : ¬ nI c ≤ nI k := fun z => by have := (nN_le (by omega) (by omega)).mp z; omega
    obtain ⟨b1, ⟨ee, b2, b3⟩, b4, b5⟩ := hb
    have hit := m_isItem_eq (k := k) hs b4 hn.2 (by omega : i < 40) (by omega)
    have hsp := spanC (k := k) hn (by omega : i < 40) (by omega)
    have hni : ¬ nI i < 0 := nN_neg (by omega)
    -- a refusal ends it
    have stop : ∀ v : Int32, v ≠ 0 → ∃ σ3 μ3, f3_become (sI σ 71 v) 0 2 = some σ3 ∧ (∀ x', m_wouldBe_L37 1000 (N' + 1) μ (nI s) (nI i) (nI c) v x' (nI (k + 1)) = some (v, μ3)) ∧ Rel σ3 δ μ3 := fun v hv => by
      obtain ⟨σ3, μ3, b1, b2, b3⟩ := back_both (U := T) (S := tS T) H h0 (sav_cg sv (F2_sI (k := 71) (x := v) (by decide)) rfl) e (fC.tr (FC_sI (by decide))) fM (frC.rf _) (frM.rf μ)
      refine ⟨σ3, μ3, b1, fun x' => ?_, b3⟩
      show (if nI c ≤ nI (k + 1) then _ else _) = _
      by_cases hle : nI c ≤ nI (k + 1)
      · rw [if_pos hle, b2, Option.bind_some, if_neg hv]
      · rw [if_neg hle, if_neg hv, b2, Option.bind_some, if_neg hv]
    have hM0 : m_wouldBe_L37 1000 (N' + 1 + 1) μ (nI s) (nI i) (nI c) (0 : Int32) x (nI k) = (if decide (i + k < n) = true then (ldM μ 13 ((((40 : Int32) * nI s) + nI i) + nI k)).bind fun v4 => (m_isAct μ v4).bind fun r5 => (if r5 = true then (ldM μ 13 ((((40 : Int32) * nI s) + nI i) + nI k)).bind fun v6 => (m_goes 1000 μ v6).bind fun r7 => m_wouldBe_L37 1000 (N' + 1) r7.2 (nI s) (nI i) (nI c) (0 : Int32) (x + r7.1) (nI k + 1) else m_wouldBe_L37 1000 (N' + 1) μ (nI s) (nI i) (nI c) (-4 : Int32) (x + (0 : Int32)) (nI k + 1)) else m_wouldBe_L37 1000 (N' + 1) μ (nI s) (nI i) (nI c) (-12 : Int32) (x + (0 : Int32)) (nI k + 1)) := by
      show (if nI c ≤ nI k then _ else _) = _
      rw [if_neg hl, if_pos rfl, hit, Option.bind_some]
    rw [hM0]
    by_cases hin : i + k < n
    · rw [if_pos (decide_eq_true hin), ix40, nN_add, ldM_n (by show 40 * s + i + k < 160; omega) (by omega), show 40 * s + i + k = 40 * s + (i + k) by omega, ← b5 (i + k) hin, Option.bind_some, nI_1]
      have hio : f0_itemOf σ δ (some q) (0 : Int32) (nI (i + k)) = some (.inr (f (i + k), σ, δ)) := itemOf_in (σ := σ) b2 b3 (by decide) hin hn.2 (f_in_t hin hn.2)
      have hC0 : f0_wouldBe_L55 1000 (N' + 1 + 1) σ δ (nI i) (nI c) (some q) (nI n) x (nI k) = ((f0_isAct σ (f (i + k))).bind fun r7 => (if r7 = true then (f3_isOver σ 0).bind fun r11 => (if r11 = true then yh xnV δ (y0_must σ δ false (-4 : Int32)) (fun y => (if y.1 = 1 then (f3_become y.2.1 0 2).bind fun r13 => some (y.2.1.1 71, r13) else none)) fun r12 => (f0_goes 1000 r12.2 r12.1 (f (i + k) - (1 : Int32))).bind fun r14 => f0_wouldBe_L55 1000 (N' + 1) r14.2 r12.2 (nI i) (nI c) (some q) (nI n) (x + r14.1) (nI (k + 1)) else yh xnV δ (y0_must σ δ true (-4 : Int32)) (fun y => (if y.1 = 1 then (f3_become y.2.1 0 2).bind fun r16 => some (y.2.1.1 71, r16) else none)) fun r15 => (f0_goes 1000 r15.2 r15.1 (f (i + k) - (1 : Int32))).bind fun r17 => f0_wouldBe_L55 1000 (N' + 1) r17.2 r15.2 (nI i) (nI c) (some q) (nI n) (x + r17.1) (nI (k + 1))) else yh xnV δ (y0_must σ δ false (-4 : Int32)) (fun y => (if y.1 = 1 then (f3_become y.2.1 0 2).bind fun r9 => some (y.2.1.1 71, r9) else none)) fun r8 => (f0_goes 1000 r8.2 r8.1 (f (i + k) - (1 : Int32))).bind fun r10 => f0_wouldBe_L55 1000 (N' + 1) r10.2 r8.2 (nI i) (nI c) (some q) (nI n) (x + r10.1) (nI (k + 1)))) := by
        show (if nI c ≤ nI k then _ else _) = _
        rw [if_neg hl, if_neg hni, if_neg (fun z => by have := hsp.mp z; omega)]
        unfold f0_wouldBe_B82
        rw [yh_inr (must_t σ δ _) (Nat.le_refl _)]
        dsimp only
        rw [nN_add, yh_inr hio (Nat.le_refl _)]
        dsimp only
        rw [nI_1]
      rw [hC0]
      obtain ⟨o1, o2⟩ := cor_over h
      obtain ⟨σ3, μ3, w1, w2, w3⟩ := stop (-4) (by decide)
      rcases act_both h (f (i + k)) with ⟨a, ha, hv, p1, p2⟩ | ⟨p1, p2⟩
      · by_cases ho : tE T ≤ tY T
        · refine ⟨-4, σ3, μ3, ?_, ?_, w3⟩
          · rw [p1, Option.bind_some, if_pos rfl, o1, decide_eq_true ho, Option.bind_some, if_pos rfl]
            exact yh_inl (y := (1, sI σ 71 (-4), δ)) (must_f σ δ _) (Nat.le_add_right _ _) (hnd_b w1 δ)
          · rw [p2, Option.bind_some, if_neg (by rw [decide_eq_true_eq]; exact not_not_intro ho)]
            exact w2 _
        · have hp6 : tP T ≤ 6 := h.2.1.1.1.1
          obtain ⟨σ1, μ1, g1, g2, g3, g4, g5, g6, g7⟩ := cor_goes h (by omega) (a := a) (by omega)
          obtain ⟨y, σ', μ', z1, z2, z3⟩ := ih (k + 1) (N' + 1) (x + nI (passW T RS a)) _ σ1 μ1 g3 (sav_cg sv g5 (frM2 g7)) (by rw [g6]; exact e) (fC.tr g4) (fM.tr g7.FM) (byteRow_go ⟨b1, ⟨ee, b2, b3⟩, b4, b5⟩ (by rw [g6]) g7.FM) (by omega) (by omega)
          refine ⟨y, σ', μ', ?_, ?_, z3⟩
          · rw [p1, Option.bind_some, if_pos rfl, o1, decide_eq_false ho, Option.bind_some, if_neg (by decide), yh_inr (must_t σ δ _) (Nat.le_refl _)]
            dsimp only
            rw [hv, g1, Option.bind_some]
            exact z1
          · rw [p2, Option.bind_some, if_pos (decide_eq_true ho), Option.bind_some, hv, g2, Option.bind_some]
            exact z2
      · refine ⟨-4, σ3, μ3, ?_, ?_, w3⟩
        · rw [p1, Option.bind_some, if_neg (by decide)]
          exact yh_inl (y := (1, sI σ 71 (-4), δ)) (must_f σ δ _) (Nat.le_add_right _ _) (hnd_b w1 δ)
        · rw [p2, Option.bind_some, if_neg (by decide)]
          exact w2 _
    · rw [if_neg (by rw [decide_eq_true_eq]; exact hin), nI_1]
      obtain ⟨σ3, μ3, w1, w2, w3⟩ := stop (-12) (by decide)
      refine ⟨-12, σ3, μ3, ?_, w2 _, w3⟩
      show (if nI c ≤ nI k then _ else _) = _
      rw [if_neg hl, if_neg hni, if_pos (hsp.mpr (by omega))]
      unfold f0_wouldBe_B82
      exact yh_inl (y := (1, sI σ 71 (-12), δ)) (must_f σ δ _) (Nat.le_add_right _ _) (hnd_b w1 δ)
theorem pl_47 (a b c d : Int32) (σ : SS) (δ : DS) (μ : MS) (H : Rel σ δ μ) : pLaw Rel 47 a b c d σ δ μ := by
  obtain ⟨T, RS, h⟩ := H.1
  have hSh := H.2.2.2.1.1
  rcases span_both a c with ⟨s, c', hs, hc, rfl, rfl, e1, e4, e2, e3⟩ | ⟨e1, e2⟩
  · obtain ⟨σ1, μ1, a1, a2, a3, a4, a5, a6, a7, a8⟩ := trial_in h
    have l11 : ldM μ 11 (nI s) = some (μ.2 11 s) := ldM_n (by show s < 4; exact hs) (by omega)
    have hsh : σ1.2.2.1 (7 + s) = σ.2.2.1 (7 + s) := a6.2.2.1 _ (by omega) (by omega)
    have fC : f0_wouldBe 1000 σ δ (nI s) b (nI c') = yh xnA δ (f0_manyOf σ1 δ (σ1.2.2.1 (7 + s)) (0 : Int32)) (fun y => (if y.1 = 4 then (f3_become y.2.1 0 2).bind fun r6 => some ((-13 : Int32), r6) else (if y.1 = 5 then (f3_become y.2.1 0 2).bind fun r7 => some ((-11 : Int32), r7) else none))) fun r5 => f0_wouldBe_L55 1000 1000 r5.2.1 r5.2.2 b (nI c') (σ1.2.2.1 (7 + s)) r5.1 (0 : Int32) (0 : Int32) := by
      unfold f0_wouldBe
      rw [e1, Option.bind_some, if_pos rfl, e4, Option.bind_some, if_pos rfl, a1, Option.bind_some, e3, Option.bind_some]
    have fM : m_wouldBe 1000 μ (nI s) b (nI c') = ((m_whyNot μ (nI s) (0 : Int32)).bind fun r2 => (if r2 = 0 then (m_puts 1000 μ).bind fun r3 => m_wouldBe_L37 1000 1000 r3 (nI s) b (nI c') r2 (0 : Int32) (0 : Int32) else some (r2, μ))) := by
      unfold m_wouldBe
      rw [e2, Option.bind_some, if_pos rfl]
    unfold m_whyNot at fM
    rw [l11] at fM
    obtain ⟨σb, bc1, bc2⟩ := back_C H h a4.1 a4.2.1 a5 a6
    rcases hSh.1 s hs with ⟨x1, x2, x3⟩ | ⟨q, t, n, x1, x2, x3, x4, x5, e, x6, f, x7, x8⟩
    · refine pl_0 (r := -11) (σ' := σb) (μ' := μ) ?_ ?_ bc2
      · rw [cc47, fC, hsh, x1]
        exact yh_inl (y := (5, σ1, δ)) (manyOf_none σ1 δ (s := 0) (by decide)) (Nat.le_add_right _ _) (hnd_5 bc1 δ)
      · rw [mc47, fM, x2]
        rfl
    · have npos : (0 : Int32) ≤ nI t := by rw [← Int32.not_lt]; exact nN_neg (by omega)
      obtain ⟨ar, har⟩ := rowE_form x7
      have x6' : dl δ q = some (.inl (tIx t, n, ar)) := by rw [x6, har]
      have hm : f0_manyOf σ1 δ (some q) (0 : Int32) = if 0 = t then some (.inr (nI n, σ1, δ)) else some (.inl (4, σ1, δ)) := manyOf_eq (σ := σ1) x6' x2 (s := 0) (by decide)
      rw [x4] at fM
      simp only [Option.bind_some, if_pos npos] at fM
      rw [hsh, x1] at fC
      by_cases ht0 : 0 = t
      · subst ht0
        rw [if_pos rfl] at hm
        rw [if_pos (show nI 0 = (0 : Int32) from rfl), Option.bind_some, if_pos rfl, a2, Option.bind_some] at fM
        rw [yh_inr hm (Nat.le_refl _)] at fC
        dsimp only at fC
        have hbr : byteRow s q n f σ1 δ μ1 := ⟨by rw [hsh]; exact x1, ⟨e, x6, x7⟩, by rw [a7.2 12 (by decide)]; exact x5, by rw [a7.2 13 (by decide)]; exact x8⟩
        by_cases hex : ∃ i, i < n ∧ b = nI i
        · obtain ⟨i, hi, rfl⟩ := hex
          obtain ⟨y, σ', μ', z1, z2, z3⟩ := would_L H h (f := f) hs ⟨by omega, x3⟩ hi hc c' 0 1000 (0 : Int32) T σ1 μ1 a3 a4 a5 a6 a7 hbr (by omega) (by omega)
          refine pl_0 (r := y) (σ' := σ') (μ' := μ') ?_ ?_ z3
          · rw [cc47, fC]; exact z1
          · rw [mc47, fM]; exact z2
        · have hfar : ∀ i, i < n → b ≠ nI i := fun i hi hb => hex ⟨i, hi, hb⟩
          by_cases h0 : c' = 0
          · subst h0
            obtain ⟨σ3, μ3, b1, b2, b3⟩ := back_both (U := T) (S := tS T) H h a4 a5 a6 a7 (frC.rf σ1) (frM.rf μ1)
            refine pl_0 (r := 0) (σ' := σ3) (μ' := μ3) ?_ ?_ b3
            · rw [cc47, fC]
              show (if nI 0 ≤ 0 then _ else _) = _
              rw [if_pos (by decide), b1]
              rfl
            · rw [mc47, fM]
              show (if nI 0 ≤ 0 then _ else _) = _
              rw [if_pos (by decide), b2, Option.bind_some, if_pos rfl]
          · have hc0 : ¬ nI c' ≤ 0 := fun z => by have := (nN_le (a := c') (b := 0) (by omega) (by decide)).mp z; omega
            obtain ⟨σ3, μ3, b1, b2, b3⟩ := back_both (U := T) (S := tS T) H h (sav_cg a4 (F2_sI (k := 71) (x := (-12 : Int32)) (by decide)) rfl) a5 (a6.tr (FC_sI (by decide))) a7 (frC.rf _) (frM.rf μ1)
            refine pl_0 (r := -12) (σ' := σ3) (μ' := μ3) ?_ ?_ b3
            · rw [cc47, fC]
              show (if nI c' ≤ 0 then _ else _) = _
              rw [if_neg hc0]
              have hB : ∀ K : SS × DS → Option (Int32 × SS × DS), yh xnV δ (y0_must σ1 δ false (-12 : Int32)) (fun y => (if y.1 = 1 then (f3_become y.2.1 0 2).bind fun r2 => some (y.2.1.1 71, r2) else none)) K = some (-12, σ3, δ) := fun K => by
                exact yh_inl (y := (1, sI σ1 71 (-12), δ)) (must_f σ1 δ _) (Nat.le_add_right _ _) (hnd_b b1 δ)
              unfold f0_wouldBe_B82
              rcases farC x3 hfar with g | g
              · rw [if_pos g, hB]
              · by_cases g0 : b < 0
                · rw [if_pos g0, hB]
                · rw [if_neg g0, if_pos g, hB]
            · rw [mc47, fM]
              show (if nI c' ≤ 0 then _ else _) = _
              have hit : m_isItem μ1 (nI s) (b.toInt64 + (0 : Int32).toInt64) = some false := m_isItem_far hs hbr.2.2.1 x3 hfar
              rw [if_neg hc0, if_pos rfl, hit, Option.bind_some, if_neg (by decide)]
              show (if nI c' ≤ 0 + 1 then _ else _) = _
              split
              · rw [b2]; rfl
              · rw [if_neg (by decide), b2]; rfl
      · rw [if_neg ht0] at hm
        have hne : ¬ nI t = (0 : Int32) := fun z => ht0 ((n0 (by omega)).mp z).symm
        rw [if_neg hne, Option.bind_some, if_neg (by decide)] at fM
        refine pl_0 (r := -13) (σ' := σb) (μ' := μ) ?_ ?_ bc2
        · rw [cc47, fC]
          exact yh_inl (y := (4, σ1, δ)) hm (Nat.le_add_right _ _) (hnd_4 bc1 δ)
        · rw [mc47, fM]
  · refine pl_0 (r := -1) (σ' := σ) (μ' := μ) ?_ (by rw [mc47]; unfold m_wouldBe; rw [e2]; rfl) H
    rw [cc47]
    unfold f0_wouldBe
    rcases e1 with e1 | ⟨e1, e4⟩
    · rw [e1]; rfl
    · rw [e1, Option.bind_some, if_pos rfl, e4]; rfl
