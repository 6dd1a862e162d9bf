/-! PLAIN LAW: ring, how many, reports, lots -/
set_option maxRecDepth 100000
theorem rch_both {T : Tw} {σ : SS} {μ : MS} (hC : simC T 0 σ) (hM : simM T (μ.2 0)) (x : Int32) : ∃ y, f0_reached 1000 σ x = some y ∧ m_owedBy 1000 μ x = some y := rch_L hC hM 1000 x 36 0 1000 (0 : Int32) (by omega) (by omega)
theorem ring_L {T : Tw} {σ : SS} {μ : MS} (hC : simC T 0 σ) (hM : simM T (μ.2 0)) (x1 : Int32) : ∀ (r k fuel fuel' : Nat) (x2 : Int32), k + r = 6 → 0 < r → r < fuel → r + 1 < fuel' → ∃ y, f0_ring_L16 1000 σ fuel x1 x2 (nI k) = some y ∧ m_ring_L16 1000 μ fuel' x1 x2 (nI (k + 1)) = some y := by
  intro r
  induction r with
  | zero => intro k fuel fuel' x2 h1 h2; omega
  | succ r ih =>
    intro k fuel fuel' x2 h1 h2 h3 h4
    obtain ⟨n, rfl⟩ : ∃ n, fuel = n + 1 := ⟨fuel - 1, by omega⟩
    obtain ⟨n', rfl⟩ : ∃ n', fuel' = n' + 1 := ⟨fuel' - 1, by omega⟩
    obtain ⟨y, g1, g2⟩ := rch_both hC hM x2
    have hC1 : f0_ring_L16 1000 σ (n + 1) x1 x2 (nI k) = (if ((y >>> (x1 &&& 31)) &&& (1 : Int32)) = 0 then (if nI (k + 1) ≤ (6 : Int32) then f0_ring_L16 1000 σ n x1 y (nI (k + 1)) else (if (6 : Int32) < nI (k + 1) then some (-3 : Int32) else some (nI (k + 1)))) else (if (6 : Int32) < nI (k + 1) then some (-3 : Int32) else some (nI (k + 1)))) := by
      show (f0_reached 1000 σ x2).bind _ = _
      rw [g1]
      simp only [Option.bind_some, nI_1]
    have hM1 : m_ring_L16 1000 μ (n' + 1) x1 x2 (nI (k + 1)) = (if ((y >>> (x1 &&& 31)) &&& (1 : Int32)) = (1 : Int32) then some (nI (k + 1)) else m_ring_L16 1000 μ n' x1 y (nI (k + 1 + 1))) := by
      show (if (6 : Int32) < nI (k + 1) then _ else _) = _
      rw [if_neg (fun z => by have := (nN_lt (a := 6) (b := k + 1) (by decide) (by omega)).mp z; omega), g2]
      simp only [Option.bind_some, nI_1]
    rw [hC1, hM1]
    have h6 : ¬ (6 : Int32) < nI (k + 1) := fun z => by have := (nN_lt (a := 6) (b := k + 1) (by decide) (by omega)).mp z; omega
    have h6' : nI (k + 1) ≤ (6 : Int32) := (nN_le (a := k + 1) (b := 6) (by omega) (by decide)).mpr (by omega)
    rcases bit1 (y >>> (x1 &&& 31)) with hb | hb
    · rw [if_pos hb, if_pos h6', if_neg (show ¬ ((y >>> (x1 &&& 31)) &&& (1 : Int32)) = 1 by rw [hb]; decide)]
      by_cases h0 : r = 0
      · subst h0
        have hk : k = 5 := by omega
        subst hk
        obtain ⟨m, rfl⟩ : ∃ m, n = m + 1 := ⟨n - 1, by omega⟩
        obtain ⟨m', rfl⟩ : ∃ m', n' = m' + 1 := ⟨n' - 1, by omega⟩
        obtain ⟨y2, q1, q2⟩ := rch_both hC hM y
        refine ⟨-3, ?_, ?_⟩
        · show (f0_reached 1000 σ y).bind _ = _
          rw [q1]
          simp only [Option.bind_some]
          rw [show nI (5 + 1) + (1 : Int32) = nI 7 from rfl, if_neg (show ¬ nI 7 ≤ (6 : Int32) by decide), if_pos (show (6 : Int32) < nI 7 by decide)]
          split <;> rfl
        · show (if (6 : Int32) < nI (5 + 1 + 1) then _ else _) = _
          rw [if_pos (by decide)]
      · exact ih (k + 1) n n' y (by omega) (by omega) (by omega) (by omega)
    · rw [if_neg (show ¬ ((y >>> (x1 &&& 31)) &&& (1 : Int32)) = 0 by rw [hb]; decide), if_neg h6, if_pos hb]
      exact ⟨_, rfl, rfl⟩
theorem pl_23 (a b c d : Int32) (σ : SS) (δ : DS) (μ : MS) (H : Rel σ δ μ) : pLaw Rel 23 a b c d σ δ μ := by
  obtain ⟨T, RS, h⟩ := H.1
  rcases isP_both h.1.1 h.M h.2.1.1 a with ⟨p, hp, rfl, e1, e2⟩ | ⟨e1, e2⟩
  · obtain ⟨y, g1, g2⟩ := ring_L h.1.1 h.M (nI p) 6 0 1000 1000 ((1 : Int32) <<< (nI p &&& 31)) (by omega) (by omega) (by omega) (by omega)
    refine pl_0 (r := y) (σ' := σ) (μ' := μ) ?_ ?_ H
    · rw [cc23]
      unfold f0_ring
      rw [e1]
      simp only [Option.bind_some, if_true]
      rw [show (0 : Int32) = nI 0 from rfl, g1]
      rfl
    · rw [mc23]
      unfold m_ring
      rw [e2]
      simp only [Option.bind_some, if_true]
      rw [show m_ring_L16 1000 μ 1000 (nI p) ((1 : Int32) <<< (nI p &&& 31)) (1 : Int32) = some y from g2]
      rfl
  · exact pl_0 (r := -1) (σ' := σ) (μ' := μ) (by rw [cc23]; unfold f0_ring; rw [e1]; rfl) (by rw [mc23]; unfold m_ring; rw [e2]; rfl) H
theorem loans_L {T : Tw} {σ : SS} {μ : MS} (hC : simC T 0 σ) (hM : simM T (μ.2 0)) (N : Nat) : ∀ (r k fuel : Nat) (x : Int32), k + r = 36 → r < fuel → ∃ y, f0_loans_L4 N σ fuel x (nI k) = some y ∧ m_loans_L4 N μ fuel x (nI k) = some y := by
  intro r
  induction r with
  | zero =>
    intro k fuel x h1 h2
    obtain ⟨n, rfl⟩ : ∃ n, fuel = n + 1 := ⟨fuel - 1, by omega⟩
    refine ⟨x, ?_, ?_⟩
    · show (if nI 36 ≤ nI k then _ else _) = _
      rw [if_pos ((nN_le (by omega) (by omega)).mpr (by omega))]
    · show (if nI 36 ≤ nI k then _ else _) = _
      rw [if_pos ((nN_le (by omega) (by omega)).mpr (by omega))]
  | succ r ih =>
    intro k fuel x h1 h2
    obtain ⟨n, rfl⟩ : ∃ n, fuel = n + 1 := ⟨fuel - 1, by omega⟩
    have hk : ¬ nI 36 ≤ nI k := fun z => by have := (nN_le (by omega) (by omega)).mp z; omega
    have e76 : (76 : Int32) + nI k = nI (76 + k) := nN_add 76 k
    obtain ⟨y, g1, g2⟩ := ih (k + 1) n (if nI (tA T 8 k) ≤ 0 then x + (0 : Int32) else x + (1 : Int32)) (by omega) (by omega)
    refine ⟨y, ?_, ?_⟩
    · show (if nI 36 ≤ nI k then _ else _) = _
      rw [if_neg hk, c_owed hC (by omega)]
      simp only [Option.bind_some]
      rw [nI_1, ← g1]
      split <;> rfl
    · show (if nI 36 ≤ nI k then _ else _) = _
      rw [if_neg hk, e76, m_owed hM (by omega)]
      simp only [Option.bind_some]
      rw [nI_1, ← g2]
      split <;> rfl
theorem pl_52 (a b c d : Int32) (σ : SS) (δ : DS) (μ : MS) (H : Rel σ δ μ) : pLaw Rel 52 a b c d σ δ μ := by
  obtain ⟨T, RS, h⟩ := H.1
  have hC := h.1.1
  have hM := h.M
  have hI := h.2.1.1
  obtain ⟨y7, l1, l2⟩ := loans_L hC hM 1000 36 0 1000 (0 : Int32) (by omega) (by omega)
  obtain ⟨q, g, r1, r2, -⟩ := h.2.2.1.2
  have r3 := h.2.2.2.1
  obtain ⟨nt, t1, t2, t3, -⟩ := H.2.2.1.1
  obtain ⟨nr, u1, u2, u3, -⟩ := H.2.2.1.2.1
  obtain ⟨nb, v1, v2, v3, -⟩ := H.2.2.1.2.2
  have hln : dlnR δ q = some (nI RS.length) := by
    unfold dlnR
    rw [r2]
    rfl
  have htr : m_traced μ = some (nI nb) := by
    unfold m_traced
    rw [v3]
    by_cases hb : nb = 30
    · rw [hb]; rfl
    · by_cases hb2 : (30 : Int32) ≤ nI nb
      · have := (nN_le (a := 30) (b := nb) (by decide) (by omega)).mp hb2
        omega
      · first
          | rw [if_neg hb2]
          | (split <;> first | rfl | (exfalso; omega))
  have fC : f0_many 1000 δ σ a = (if a = (0 : Int32) then some (nI (tP T)) else (if a = (1 : Int32) then some (nI RS.length) else (if a = (2 : Int32) then some (nI (tD T)) else (if a = (3 : Int32) then some (nI (tR T)) else (if a = (4 : Int32) then some (nI nr) else (if a = (5 : Int32) then some (nI nt) else (if a = (6 : Int32) then some (nI nb) else (if a = (7 : Int32) then some y7 else some (-1 : Int32))))))))) := by
    unfold f0_many
    have l1' : f0_loans 1000 σ = some y7 := l1
    rw [l1', r1]
    simp only [Option.bind_some]
    rw [hln, show σ.1 0 = nI (tP T) from hC.1.1, show σ.1 1 = nI (tD T) from hC.1.2.1, show σ.1 5 = nI (tR T) from hC.1.2.2.2.2.2.1, u2, t2, v2]
    rfl
  have fM : m_many 1000 μ a = (if a = (0 : Int32) then some (nI (tP T)) else (if a = (1 : Int32) then some (nI RS.length) else (if a = (2 : Int32) then some (nI (tD T)) else (if a = (3 : Int32) then some (nI (tR T)) else (if a = (4 : Int32) then some (nI nr) else (if a = (5 : Int32) then some (nI nt) else (if a = (6 : Int32) then some (nI nb) else (if a = (7 : Int32) then some y7 else some (-1 : Int32))))))))) := by
    unfold m_many
    have l2' : m_loans 1000 μ = some y7 := l2
    rw [l2', mF_people hM, mF_deeds hM, mF_reports hM, show (1 : Int32) = nI 1 from rfl, mF_at (by decide), r3, htr, t3, u3]
    rfl
  refine pl_0 (r := (if a = (0 : Int32) then (nI (tP T)) else (if a = (1 : Int32) then (nI RS.length) else (if a = (2 : Int32) then (nI (tD T)) else (if a = (3 : Int32) then (nI (tR T)) else (if a = (4 : Int32) then (nI nr) else (if a = (5 : Int32) then (nI nt) else (if a = (6 : Int32) then (nI nb) else (if a = (7 : Int32) then y7 else (-1 : Int32)))))))))) (σ' := σ) (μ' := μ) ?_ ?_ H
  · rw [cc52, fC]
    repeat' split
    all_goals rfl
  · rw [mc52, fM]
    repeat' split
    all_goals rfl
/-- a report's place in the model -/
theorem simM_rep {T : Tw} {f : Nat → Int32} (hM : simM T f) {j off q : Nat} (hj : off < 4 ∧ j = 9 + off) (hq : q < 6) (v : Nat) : simM (eA T j q v) (upd f (112 + 4 * q + off) (nI v)) := by
  obtain ⟨⟨a0, a1, a2, a3, a4, a5, a6⟩, b, c, o, r⟩ := hM
  have e : ∀ i, (i < 112 ∨ 136 ≤ i) → upd f (112 + 4 * q + off) (nI v) i = f i := fun i hi => upd_ne (by omega)
  have e2 : ∀ k, k < 9 → tA (eA T j q v) k = tA T k := fun k hk => eA_ne (by omega)
  refine ⟨⟨by rw [e _ (by decide)]; exact a0, by rw [e _ (by decide)]; exact a1, by rw [e _ (by decide)]; exact a2, by rw [e _ (by decide)]; exact a3, by rw [e _ (by decide)]; exact a4, by rw [e _ (by decide)]; exact a5, by rw [e _ (by decide)]; exact a6⟩, fun n hn => ?_, fun n hn => ?_, fun n hn => ?_, fun n hn => ?_⟩
  · rw [e _ (by omega), e _ (by omega), e _ (by omega), e2 0 (by decide), e2 1 (by decide), e2 2 (by decide)]; exact b n hn
  · rw [e _ (by omega), e _ (by omega), e _ (by omega), e _ (by omega), e _ (by omega), e2 3 (by decide), e2 4 (by decide), e2 5 (by decide), e2 7 (by decide)]; exact c n hn
  · rw [e _ (by omega), e2 8 (by decide)]; exact o n hn
  · obtain ⟨r0, r1, r2, r3⟩ := r n hn
    exact ⟨rowM_eA (off' := 0) hj.1 (by decide) (by omega) r0, rowM_eA (off' := 1) hj.1 (by decide) (by omega) r1, rowM_eA (off' := 2) hj.1 (by decide) (by omega) r2, rowM_eA (off' := 3) hj.1 (by decide) (by omega) r3⟩
def newR (T : Tw) (w y b s : Nat) : Tw := wN (eA (eA (eA (eA T 9 (tR T) w) 10 (tR T) y) 11 (tR T) b) 12 (tR T) s) 5 (tR T + 1)
theorem newR_row (T : Tw) (w y b s j q : Nat) : tA (newR T w y b s) j q = if q = tR T ∧ j = 9 then w else if q = tR T ∧ j = 10 then y else if q = tR T ∧ j = 11 then b else if q = tR T ∧ j = 12 then s else tA T j q := by
  show tA (eA (eA (eA (eA T 9 (tR T) w) 10 (tR T) y) 11 (tR T) b) 12 (tR T) s) j q = _
  by_cases h12 : j = 12
  · subst h12
    rw [eA_at, eA_ne (by decide), eA_ne (by decide), eA_ne (by decide)]
    by_cases hq : q = tR T <;> simp [hq]
  · rw [eA_ne h12]
    by_cases h11 : j = 11
    · subst h11
      rw [eA_at, eA_ne (by decide), eA_ne (by decide)]
      by_cases hq : q = tR T <;> simp [hq]
    · rw [eA_ne h11]
      by_cases h10 : j = 10
      · subst h10
        rw [eA_at, eA_ne (by decide)]
        by_cases hq : q = tR T <;> simp [hq]
      · rw [eA_ne h10]
        by_cases h9 : j = 9
        · subst h9
          rw [eA_at]
          by_cases hq : q = tR T <;> simp [hq]
        · rw [eA_ne h9]
          simp [h9, h10, h11, h12]
theorem newR_lo (T : Tw) (w y b s : Nat) {j : Nat} (hj : j < 9) : tA (newR T w y b s) j = tA T j := by
  funext q
  rw [newR_row, if_neg (by omega), if_neg (by omega), if_neg (by omega), if_neg (by omega)]
theorem Inv_newR {T : Tw} (hI : Inv T) (hr : tR T < 6) {w y b s : Nat} (hw : 1 ≤ w ∧ w ≤ 9) (hy : y ≤ 15) (hb : b ≤ 31) (hs : s ≤ 1) : Inv (newR T w y b s) := by
  obtain ⟨⟨a1, a2, a3, a4, a5, a6⟩, b1, c, o, r⟩ := hI
  have eR : tR (newR T w y b s) = tR T + 1 := wN_at _ 5 _
  have eN : ∀ j, j ≠ 5 → (newR T w y b s).1 j = T.1 j := fun j hj => wN_ne hj
  have eP : tP (newR T w y b s) = tP T := eN 0 (by decide)
  have eD : tD (newR T w y b s) = tD T := eN 1 (by decide)
  refine ⟨⟨by rw [eP]; exact a1, by rw [eD]; exact a2, by rw [show tE (newR T w y b s) = tE T from eN 2 (by decide)]; exact a3, by rw [show tE (newR T w y b s) = tE T from eN 2 (by decide)]; exact a4, by rw [show tE (newR T w y b s) = tE T from eN 2 (by decide), show tY (newR T w y b s) = tY T from eN 3 (by decide)]; exact a5, by rw [eR]; omega⟩, fun q hq => ?_, fun d hd => ?_, fun i hi => ?_, fun i hi => ?_⟩
  · rw [eP] at hq
    rw [newR_lo T w y b s (show 0 < 9 by decide), newR_lo T w y b s (show 1 < 9 by decide), newR_lo T w y b s (show 2 < 9 by decide)]
    exact b1 q hq
  · rw [eD] at hd
    rw [newR_lo T w y b s (show 3 < 9 by decide), newR_lo T w y b s (show 4 < 9 by decide), newR_lo T w y b s (show 5 < 9 by decide), newR_lo T w y b s (show 7 < 9 by decide), eP]
    exact c d hd
  · rw [newR_lo T w y b s (show 8 < 9 by decide), eP]
    exact o i hi
  · rw [eR] at hi
    by_cases e : i = tR T
    · subst e
      rw [newR_row, newR_row, newR_row, newR_row]
      simp
      omega
    · rw [newR_row, newR_row, newR_row, newR_row]
      simp [e]
      exact r i (by omega)
theorem ix112 (q : Nat) : (112 : Int32) + (4 : Int32) * nI q = nI (112 + 4 * q) := by
  rw [show (112 : Int32) = nI 112 from rfl, show (4 : Int32) = nI 4 from rfl, nN_mul, nN_add]
theorem pl_32 (a b c d : Int32) (σ : SS) (δ : DS) (μ : MS) (H : Rel σ δ μ) : pLaw Rel 32 a b c d σ δ μ := by
  obtain ⟨T, RS, h⟩ := H.1
  have hC := h.1.1
  have hM := h.M
  have hI := h.2.1.1
  have hr6 : tR T ≤ 6 := hI.1.2.2.2.2.2
  have hc5 : σ.1 5 = nI (tR T) := hC.1.2.2.2.2.2.1
  rcases part_both a with ⟨w, hw1, hw2, rfl, e1, e2⟩ | ⟨e1, e2⟩
  · rcases in_0_15 b with ⟨y, -, hy, rfl, e3, e4⟩ | ⟨e3, e4⟩
    · rcases in_0_31 c with ⟨bb, -, hb, rfl, e5, e6⟩ | ⟨e5, e6⟩
      · rcases in_0_1 d with ⟨s, -, hs, rfl, e7, e8⟩ | ⟨e7, e8⟩
        · by_cases hf : tR T = 6
          · have hff : nI (tR T) = (6 : Int32) := by rw [hf]; rfl
            exact pl_0 (r := -2) (σ' := σ) (μ' := μ) (by rw [cc32]; unfold f0_report; rw [e1]; simp only [Option.bind_some, if_true]; rw [e3]; simp only [Option.bind_some, if_true]; rw [e5]; simp only [Option.bind_some, if_true]; rw [e7]; simp only [Option.bind_some, if_true]; rw [hc5, if_pos hff]; rfl) (by rw [mc32]; unfold m_report; rw [e2]; simp only [Option.bind_some, if_true]; rw [e4]; simp only [Option.bind_some, if_true]; rw [e6]; simp only [Option.bind_some, if_true]; rw [e8]; simp only [Option.bind_some, if_true]; rw [mF_reports hM]; simp only [Option.bind_some]; rw [if_pos hff]) H
          · have hnf : ¬ nI (tR T) = (6 : Int32) := fun q => hf ((nN_eq (b := 6) (by omega) (by decide)).mp q)
            have c1 := simC_eA hC (j := 9) (by decide) (tR T) w
            have c2 := simC_eA c1 (j := 10) (by decide) (tR T) y
            have c3 := simC_eA c2 (j := 11) (by decide) (tR T) bb
            have c4 := simC_eA c3 (j := 12) (by decide) (tR T) s
            have c5 := simC_wN c4 5 (tR T + 1) (by decide)
            have s1 := simM_rep hM (j := 9) (off := 0) (q := tR T) (by decide) (by omega) w
            have s2 := simM_rep s1 (j := 10) (off := 1) (q := tR T) (by decide) (by omega) y
            have s3 := simM_rep s2 (j := 11) (off := 2) (q := tR T) (by decide) (by omega) bb
            have s4 := simM_rep s3 (j := 12) (off := 3) (q := tR T) (by decide) (by omega) s
            have s5 := simM_num s4 (k := 5) (m := 6) (by decide) (tR T + 1)
            refine pl_0 (r := nI (tR T)) ?_ ?_ (Rel_cor H (T := newR T w y bb s) (RS := RS) (σ' := sI _ 5 (nI (tR T + 1))) (μ' := setA μ 0 (upd _ 6 (nI (tR T + 1)))) (((((FC_sA (by decide)).tr (FC_sA (by decide))).tr (FC_sA (by decide))).tr (FC_sA (by decide))).tr (FC_sI (by decide))) (FM_sA (by decide)) (cor_up h c5 (by rw [setA_at]; exact s5) (Inv_newR hI (by omega) ⟨hw1, hw2⟩ hy hb hs) (wN_ne (by decide)) (newR_lo T w y bb s (by decide)) (newR_lo T w y bb s (by decide)) rfl (fun i _ hi => by rw [setA_at, upd_ne (by omega), upd_ne (by omega), upd_ne (by omega), upd_ne (by omega), upd_ne (by omega)])))
            · rw [cc32]
              unfold f0_report
              rw [e1]
              simp only [Option.bind_some, if_true]
              rw [e3]
              simp only [Option.bind_some, if_true]
              rw [e5]
              simp only [Option.bind_some, if_true]
              rw [e7]
              simp only [Option.bind_some, if_true]
              rw [hc5, if_neg hnf, cS_at (by show tR T < 6; omega) (by omega)]
              simp only [Option.bind_some]
              rw [cS_at (by show tR T < 6; omega) (by omega)]
              simp only [Option.bind_some]
              rw [cS_at (by show tR T < 6; omega) (by omega)]
              simp only [Option.bind_some]
              rw [cS_at (by show tR T < 6; omega) (by omega)]
              simp only [Option.bind_some]
              rw [show ∀ v x y z : Nat → Int32, (sA (sA (sA (sA σ 9 v) 10 x) 11 y) 12 z).1 5 = nI (tR T) from fun _ _ _ _ => hc5, show nI (tR T) + (1 : Int32) = nI (tR T + 1) from nI_1 _]
              rfl
            · rw [mc32]
              unfold m_report
              rw [e2]
              simp only [Option.bind_some, if_true]
              rw [e4]
              simp only [Option.bind_some, if_true]
              rw [e6]
              simp only [Option.bind_some, if_true]
              rw [e8]
              simp only [Option.bind_some, if_true]
              rw [mF_reports hM]
              simp only [Option.bind_some]
              rw [if_neg hnf, ix112, show (1 : Int32) = nI 1 from rfl, show (2 : Int32) = nI 2 from rfl, show (3 : Int32) = nI 3 from rfl, show (6 : Int32) = nI 6 from rfl, nN_add, nN_add, nN_add, mS_at (by omega)]
              simp only [Option.bind_some]
              rw [mS_at (by omega), setA_at, setA_setA]
              simp only [Option.bind_some]
              rw [mS_at (by omega), setA_at, setA_setA]
              simp only [Option.bind_some]
              rw [mS_at (by omega), setA_at, setA_setA]
              simp only [Option.bind_some]
              rw [mF_at (by omega), setA_at]
              simp only [Option.bind_some]
              rw [mS_at (by omega), setA_at, setA_setA, upd_ne (by omega), upd_ne (by omega), upd_ne (by omega), upd_ne (by omega), hM.1.2.2.2.2.2.1, nN_add]
              simp only [Option.bind_some]
              rw [mF_at (by omega), setA_at, upd_at]
              simp only [Option.bind_some]
              rw [nN_sub (by omega)]
              rfl
        · exact pl_0 (r := -1) (σ' := σ) (μ' := μ) (by rw [cc32]; unfold f0_report; rw [e1]; simp only [Option.bind_some, if_true]; rw [e3]; simp only [Option.bind_some, if_true]; rw [e5]; simp only [Option.bind_some, if_true]; rw [e7]; rfl) (by rw [mc32]; unfold m_report; rw [e2]; simp only [Option.bind_some, if_true]; rw [e4]; simp only [Option.bind_some, if_true]; rw [e6]; simp only [Option.bind_some, if_true]; rw [e8]; rfl) H
      · exact pl_0 (r := -1) (σ' := σ) (μ' := μ) (by rw [cc32]; unfold f0_report; rw [e1]; simp only [Option.bind_some, if_true]; rw [e3]; simp only [Option.bind_some, if_true]; rw [e5]; rfl) (by rw [mc32]; unfold m_report; rw [e2]; simp only [Option.bind_some, if_true]; rw [e4]; simp only [Option.bind_some, if_true]; rw [e6]; rfl) H
    · exact pl_0 (r := -1) (σ' := σ) (μ' := μ) (by rw [cc32]; unfold f0_report; rw [e1]; simp only [Option.bind_some, if_true]; rw [e3]; rfl) (by rw [mc32]; unfold m_report; rw [e2]; simp only [Option.bind_some, if_true]; rw [e4]; rfl) H
  · exact pl_0 (r := -1) (σ' := σ) (μ' := μ) (by rw [cc32]; unfold f0_report; rw [e1]; rfl) (by rw [mc32]; unfold m_report; rw [e2]; rfl) H
