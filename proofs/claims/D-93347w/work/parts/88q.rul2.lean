/-! PLAIN LAW: rules read from the tape: a rule, whole -/
set_option maxRecDepth 100000
theorem tOk_tr {n : Nat} {t : Nat → Nat} {s s2 cd c k : Nat} {y0 : Option Nat} {σ σ2 : SS} {μ μ2 : MS} {d : DS} {FC : Option (XR (Nat × SS × DS))} {FM : Option MS} (h : tOk n t s2 cd c k y0 σ2 μ2 d FC FM) (hs : s ≤ s2) (hC : eC σ σ2) (hM : eM μ μ2) (h2 : μ2.2 = μ.2) : tOk n t s cd c k y0 σ μ d FC FM := by
  obtain ⟨s', e', ro, d', σ', μ', w, num, a1, a2, a3, a4, ⟨a5, a6⟩, a7, a8⟩ := h
  exact ⟨s', e', ro, d', σ', μ', w, num, a1, a2, a3, by omega, ⟨hC.tr a5, hM.tr a6⟩, by rw [a7, h2], a8⟩
theorem eBad_tr {n s s2 : Nat} {σ σ2 : SS} {μ μ2 : MS} {d : DS} {FC : Option (XR (Nat × SS × DS))} {FM : Option MS} (h : eBad n s2 σ2 μ2 d FC FM) (hs : s ≤ s2) (hC : eC σ σ2) (hM : eM μ μ2) : eBad n s σ μ d FC FM := by
  obtain ⟨s', e', d', σ', μ', a1, a2, a3, a4, ⟨a5, a6⟩, a7, a8⟩ := h
  exact ⟨s', e', d', σ', μ', a1, a2, a3, a4, ⟨hC.tr a5, hM.tr a6⟩, a7, by omega⟩
def eRs (n : Nat) (t : Nat → Nat) (s cd c k : Nat) (y0 : Option Nat) (σ : SS) (μ : MS) (d : DS) (FC : Option (XR (Nat × SS × DS))) (FM : Option MS) : Prop := tOk n t s cd c k y0 σ μ d FC FM ∨ eBad n s σ μ d FC FM
theorem eRs_tr {n : Nat} {t : Nat → Nat} {s s2 cd c k : Nat} {y0 : Option Nat} {σ σ2 : SS} {μ μ2 : MS} {d : DS} {FC : Option (XR (Nat × SS × DS))} {FM : Option MS} (h : eRs n t s2 cd c k y0 σ2 μ2 d FC FM) (hs : s ≤ s2) (hC : eC σ σ2) (hM : eM μ μ2) (h2 : μ2.2 = μ.2) : eRs n t s cd c k y0 σ μ d FC FM := by
  rcases h with h | h
  · exact Or.inl (tOk_tr h hs hC hM h2)
  · exact Or.inr (eBad_tr h hs hC hM)
theorem tail_both {n : Nat} {t : Nat → Nat} {s e cd c k : Nat} {y0 : Option Nat} {σ : SS} {μ : MS} {d : DS} (h : pst n t s e 0 cd σ μ) (hf : fresh d) (hc : c < 8) (h1 : μ.2 0 1 = nI c) : eRs n t s cd c k y0 σ μ d (f0_rule_B37 1000 σ d (nI k) y0) (m_rule_B49 1000 μ (nI k)) := by
  have hn := h.1.1.1
  have hse := h.1.2.1.1
  have hen := h.1.2.1.2.1
  obtain ⟨r, w1, w2⟩ := word_both h.1
  have a6 := w2 6 (by decide) (by decide) (by decide) (by decide)
  have a7 := w2 7 (by decide) (by decide) (by decide) (by decide)
  have a8 := w2 8 (by decide) (by decide) (by decide) (by decide)
  rw [show lI (hsW (nm 6) 0) = (5294489 : Int64) from rfl] at a6
  rw [show lI (hsW (nm 7) 0) = (394885 : Int64) from rfl] at a7
  rw [show lI (hsW (nm 8) 0) = (20448837 : Int64) from rfl] at a8
  rcases nameOf_eq h.1 (j := 1) (by decide) with ⟨w, hw, hwl, hN⟩ | ⟨hwl, hN⟩
  · have hw3 : w < 3 := hw
    have hwl' : wl t s e = nm (6 + w) := hwl
    have eM0 : m_rule_B49 1000 μ (nI k) = m_rule_B104 1000 μ (nI k) (nI w) true := by
      unfold m_rule_B49
      rw [w1, Option.bind_some]
      have ne : ∀ i, i < 3 → i ≠ w → wl t s e ≠ nm (6 + i) := fun i hi hne z => hne (by have := nm_in (i := 6 + i) (j := 6 + w) (by omega) (by omega) (z.symm.trans hwl'); omega)
      rcases (show w = 0 ∨ w = 1 ∨ w = 2 by omega) with rfl | rfl | rfl
      · rw [if_pos (a6.mpr hwl')]
        rfl
      · rw [if_neg (fun z => ne 0 (by decide) (by decide) (a6.mp z)), if_pos (a7.mpr hwl')]
        rfl
      · rw [if_neg (fun z => ne 0 (by decide) (by decide) (a6.mp z)), if_neg (fun z => ne 1 (by decide) (by decide) (a7.mp z)), if_pos (a8.mpr hwl')]
        rfl
    obtain ⟨s2, e2, σ2, μ2, c1, c2, c3, c4, c5, c6, c7⟩ := next_st h.1
    have hp2 : pst n t s2 e2 0 cd σ2 μ2 := pst_n h c4 (fun k hk => c6 k (by omega) (by omega) (by omega))
    have hp3 := pst_26 hp2 0
    have e3 : eM μ (stF μ2 26 0) := eM.tr ⟨fun k hk => c6 k (by omega) (by omega) (by omega), fun j hj => by rw [c7]⟩ (eMs μ2 (k := 26) _ (by decide))
    have hneg : ¬ nI w < 0 := nN_neg (by omega)
    have hpos : (0 : Int32) ≤ nI w := by rw [← Int32.not_lt]; exact hneg
    rw [eM0]
    refine eRs_tr (s2 := s2) (σ2 := σ2) (μ2 := stF μ2 26 0) ?_ (by omega) c5.E e3 c7
    have hB104 : m_rule_B104 1000 μ (nI k) (nI w) true = if nI w = (2 : Int32) then (m_byteAt (stF μ2 26 0) ((stF μ2 26 0).1 24)).bind fun r4 => (if r4 = (59 : Int32) then m_rule_B168 1000 (stF μ2 26 0) (nI k) (nI w) ((stF μ2 26 0).1 26) true else m_rule_B168 1000 (stF μ2 26 0) (nI k) (nI w) ((stF μ2 26 0).1 26) false) else (m_number 1000 (stF μ2 26 0) (99 : Int32)).bind fun r6 => (if (r6.1 29) = 0 then (m_byteAt r6 (r6.1 24)).bind fun r7 => (if r7 = (59 : Int32) then m_rule_B168 1000 r6 (nI k) (nI w) (r6.1 26) true else m_rule_B168 1000 r6 (nI k) (nI w) (r6.1 26) false) else m_rule_B168 1000 r6 (nI k) (nI w) (r6.1 26) false) := by
      unfold m_rule_B104
      rw [c3, Option.bind_some, Option.bind_some, if_neg hneg, if_pos hp3.1.2.2.2.2.2, if_pos hp3.1.2.2.2.2.2]
    have hB37 : f0_rule_B37 1000 σ d (nI k) y0 = if nI w = (2 : Int32) then xb xnV d (f0_want 1000 σ2 d 20) fun r6 => (some (dNew r6.2 17 [.int 0, .int 0, .int 0, .null])).bind fun d7 => (dMonV d7 (f19_init r6.1 d7 r6.2.2 (nI k) y0 (nI w) (0 : Int32))).bind fun r8 => some (Sum.inr (r6.2.2, r8.1, r8.2)) else xb xnA d (f0_upTo 1000 σ2 d (99 : Int32)) fun r2 => xb xnV r2.2.2 (f0_want 1000 r2.2.1 r2.2.2 20) fun r3 => (some (dNew r3.2 17 [.int 0, .int 0, .int 0, .null])).bind fun d4 => (dMonV d4 (f19_init r3.1 d4 r3.2.2 (nI k) y0 (nI w) r2.1)).bind fun r5 => some (Sum.inr (r3.2.2, r5.1, r5.2)) := by
      unfold f0_rule_B37
      rw [hN, c2, Option.bind_some, Option.bind_some]
      dsimp only
      rw [if_pos hpos]
    rw [hB104, hB37]
    by_cases hw2 : w = 2
    · subst hw2
      rw [if_pos (show nI 2 = (2 : Int32) from rfl), if_pos (show nI 2 = (2 : Int32) from rfl), show (stF μ2 26 0).1 26 = nI 0 from stF_at _ _ _]
      exact semi_both (num := 0) hp3 hf hc (by show μ2.2 0 1 = _; rw [c7]; exact h1) (by decide)
    · have hn2 : ¬ nI w = (2 : Int32) := fun z => hw2 ((nN_eq (b := 2) (by omega) (by decide)).mp z)
      rw [if_neg hn2, if_neg hn2]
      rcases number_both hp3.1 (A := 99) (by decide) d with ⟨v, s', e', σ', μ', y1, y2, y3, y4, y5, y6, y7, y8, y9, y10⟩ | ⟨v, σ', μ', y1, y2, y3, y4, y5, y6, y7, y8⟩ | ⟨μ', y1, y2, y3, y4, y5⟩
      · have hp' : pst n t s' e' 0 cd σ' μ' := pst_n hp3 y6 (fun k hk => y9 k (by omega) (by omega) (by omega) (by omega))
        have eU : f0_upTo 1000 σ2 d (99 : Int32) = some (.inr (nI v, σ', d)) := by
          unfold f0_upTo
          rw [xb_inr y4 (Nat.le_refl _)]
          dsimp only
          rw [if_pos (show nI v ≤ (99 : Int32) from (nN_le (b := 99) (by omega) (by decide)).mpr y1)]
        rw [xb_inr eU (Nat.le_refl _), show m_number 1000 (stF μ2 26 0) (99 : Int32) = some μ' from y5, Option.bind_some, if_pos y6.2.2.2.2.2, y8]
        have hen2 := hp2.1.2.1.1
        refine eRs_tr (s2 := s') (σ2 := σ') (μ2 := μ') ?_ (by omega) y7.E ⟨fun k hk => y9 k (by omega) (by omega) (by omega) (by omega), fun j hj => by rw [y10]⟩ y10
        exact semi_both hp' hf hc (by rw [y10]; show μ2.2 0 1 = _; rw [c7]; exact h1) ⟨by omega, y1⟩
      · obtain ⟨μ5, z1, z2, z3⟩ := B168_w y6 (nI k) (nI w) (μ'.1 26) false
        have eU : f0_upTo 1000 σ2 d (99 : Int32) = some (.inl (2, sI σ' 72 (nI s2), d)) := by
          unfold f0_upTo
          rw [xb_inr y3 (Nat.le_refl _)]
          dsimp only
          rw [if_neg (show ¬ nI v ≤ (99 : Int32) from fun z => by have := (nN_le (b := 99) (by omega) (by decide)).mp z; omega), hp2.1.2.2.1.1]
          rfl
        have hs2n : s2 ≤ n := by have := c4.2.1.1; have := c4.2.1.2.1; omega
        rw [show m_number 1000 (stF μ2 26 0) (99 : Int32) = some μ' from y5, Option.bind_some, if_neg (by rw [y6.2.2.2.2.2.2]; decide), z1]
        exact Or.inr ⟨s2, e2, d, sI σ' 72 (nI s2), μ5, xb_inl eU (Nat.le_refl _), rfl, z2, sI_at _ _ _, ⟨y4.E.tr (eC72 _ _), eM.tr ⟨fun k hk => y7 k (by omega) (by omega), fun j hj => by rw [y8]⟩ z3⟩, grw.rf hf, by omega⟩
      · obtain ⟨μ5, z1, z2, z3⟩ := B168_w y3 (nI k) (nI w) (μ'.1 26) false
        have eU : f0_upTo 1000 σ2 d (99 : Int32) = some (.inl (2, sI σ2 72 (nI s2), d)) := by
          unfold f0_upTo
          exact xb_inl y1 (Nat.le_refl _)
        have hs2n : s2 ≤ n := by have := c4.2.1.1; have := c4.2.1.2.1; omega
        rw [show m_number 1000 (stF μ2 26 0) (99 : Int32) = some μ' from y2, Option.bind_some, if_neg (by rw [y3.2.2.2.2.2.2]; decide), z1]
        exact Or.inr ⟨s2, e2, d, sI σ2 72 (nI s2), μ5, xb_inl eU (Nat.le_refl _), rfl, z2, sI_at _ _ _, ⟨eC72 _ _, eM.tr ⟨fun k hk => y4 k (by omega) (by omega), fun j hj => by rw [y5]⟩ z3⟩, grw.rf hf, by omega⟩
  · -- no word that does anything
    have ne : ∀ i, i < 3 → wl t s e ≠ nm (6 + i) := fun i hi => hwl i hi
    obtain ⟨μ2, y1, y2, y3, y4⟩ := wants_f h.1
    have y2' : wr n s e (stF μ2 26 0) := wr_cg y2 (stF_ne (by decide)) (stF_ne (by decide)) (stF_ne (by decide)) ((stF_ne (by decide)).trans y2.2.2.2.2.2.2)
    obtain ⟨μ5, z1, z2, z3⟩ := B168_w y2' (nI k) (-1) ((stF μ2 26 0).1 26) false
    refine Or.inr ⟨s, e, d, sI σ 72 (nI s), μ5, ?_, ?_, z2, sI_at _ _ _, ⟨eC72 _ _, (eM.tr ⟨fun k hk => y3 k (by omega), fun j hj => by rw [y4]⟩ (eMs μ2 (k := 26) _ (by decide))).tr z3⟩, grw.rf hf, by omega⟩
    · unfold f0_rule_B37
      rw [hN, Option.bind_some]
      dsimp only
      rw [if_neg (by decide), h.1.2.2.1.1]
      rfl
    · unfold m_rule_B49
      rw [w1, Option.bind_some, if_neg (fun z => ne 0 (by decide) (a6.mp z)), if_neg (fun z => ne 1 (by decide) (a7.mp z)), if_neg (fun z => ne 2 (by decide) (a8.mp z))]
      unfold m_rule_B104
      rw [y1, Option.bind_some, Option.bind_some, if_pos (by decide), if_neg (by rw [y2'.2.2.2.2.2.2]; decide), z1]

/-- what both make of a rule -/
def rOk (n : Nat) (t : Nat → Nat) (s cd c : Nat) (σ : SS) (μ : MS) (d : DS) (FC : Option (XR (Nat × SS × DS))) (FM : Option MS) : Prop := ∃ s' e' ro d' σ' μ' k w num ev cv cd', FC = some (.inr (ro, σ', d')) ∧ FM = some μ' ∧ pst n t s' e' 0 cd' σ' μ' ∧ (s + 1 ≤ s' ∧ cd ≤ cd' ∧ cd' ≤ s') ∧ (eC σ σ' ∧ eM μ μ' ∧ ∀ i, i ≠ 1 → i < 168 + cd → (i < 136 + 4 * c ∨ 136 + 4 * c + 4 ≤ i) → μ'.2 0 i = μ.2 0 i) ∧ (μ'.2 0 1 = nI (c + 1) ∧ μ'.2 0 (136 + 4 * c) = nI k ∧ μ'.2 0 (136 + 4 * c + 1) = nI w ∧ μ'.2 0 (136 + 4 * c + 2) = nI num ∧ μ'.2 0 (136 + 4 * c + 3) = nI cd') ∧ dl d' ro = some (.inr (17, [.int (nI k), .int (nI w), .int (nI num), cv])) ∧ ((cv = .null ∧ (∀ fv, ev fv = true) ∧ cd = cd') ∨ ∃ q, cv = .ref q ∧ cndL d.2 d' 70 q ev ∧ tells (fun i => μ'.2 0 (168 + i)) cd cd' (fun fv => if ev fv = true then 1 else 0)) ∧ (k ≤ 5 ∧ locE ev ∧ w ≤ 2 ∧ num ≤ 99) ∧ grw d d' ∧ d'.2 + 4 * s ≤ d.2 + 4 * s'
theorem rule_both {n : Nat} {t : Nat → Nat} {s e cd c : Nat} {σ : SS} {μ : MS} {d : DS} (h : pst n t s e 0 cd σ μ) (hcd : cd ≤ s) (hf : fresh d) (hc : c < 8) (h1 : μ.2 0 1 = nI c) : rOk n t s cd c σ μ d (f0_rule 1000 σ d) (m_rule 1000 μ) ∨ eBad n s σ μ d (f0_rule 1000 σ d) (m_rule 1000 μ) := by
  have hn := h.1.1.1
  have hse := h.1.2.1.1
  have hen := h.1.2.1.2.1
  have hl1 : ldM μ 0 (1 : Int32) = some (nI c) := by
    rw [show (1 : Int32) = nI 1 from rfl, ldM_n (by decide) (by decide), h1]
  rcases nameOf_eq h.1 (j := 0) (by decide) with ⟨k, hk, hkl, hN⟩ | ⟨hkl, hN⟩
  · have hk6 : k < 6 := hk
    have hkl' : wl t s e = nm k := by
      have : basW 0 + k = k := Nat.zero_add k
      rw [← this]; exact hkl
    have hK : m_kindHere 1000 μ = some (nI k) := by
      rcases kind_M h.1 with ⟨i, hi, g1, g2⟩ | ⟨g1, -⟩
      · have : i = k := nm_in (by omega) (by omega) (g1.symm.trans hkl')
        rw [g2, this]
      · exact absurd hkl' (g1 k hk6)
    obtain ⟨s1, e1, σ1, μ1, c1, c2, c3, c4, c5, c6, c7⟩ := next_st h.1
    have hs1n : s1 ≤ n := by have := c4.2.1.1; have := c4.2.1.2.1; omega
    have hp1 : pst n t s1 e1 0 cd σ1 μ1 := pst_n h c4 (fun k hk => c6 k (by omega) (by omega) (by omega))
    have e1' : eM μ μ1 := ⟨fun k hk => c6 k (by omega) (by omega) (by omega), fun j hj => by rw [c7]⟩
    have hneg : ¬ nI k < 0 := nN_neg (by omega)
    have hpos : (0 : Int32) ≤ nI k := by rw [← Int32.not_lt]; exact hneg
    have h8 : ¬ (8 : Int32) ≤ nI c := fun z => by have := (nN_le (a := 8) (by decide) (by omega)).mp z; omega
    have h11 : μ1.2 0 1 = nI c := by rw [c7]; exact h1
    have hlt : s < e := by
      have g1 := wl_len t s e
      rw [hkl'] at g1
      have g2 : 1 ≤ (nm k).length := (nm_all ⟨k, by omega⟩).2.2.1
      omega
    obtain ⟨r, w1, w2⟩ := word_both hp1.1
    have w3 := w2 19 (by decide) (by decide) (by decide) (by decide)
    rw [show lI (hsW (nm 19) 0) = (294 : Int64) from rfl] at w3
    have eC0 : f0_rule 1000 σ d = (f0_goesOn 1000 σ1 19).bind fun r2 => (if r2.1 = true then xb xnA d (f0_cond 1000 (f0_oneOf 1000 72) r2.2 d (0 : Int32)) fun r3 => f0_rule_B37 1000 r3.2.1 r3.2.2 (nI k) (some r3.1) else f0_rule_B37 1000 r2.2 d (nI k) none) := by
      unfold f0_rule
      rw [hN, c2, Option.bind_some, Option.bind_some]
      dsimp only
      rw [if_pos hpos]
    have eM0 : m_rule 1000 μ = if (lg_cmp r (294 : Int64)) = 0 then (m_wants 1000 μ1 true).bind fun r13 => (m_condition 1000 6 r13).bind fun r14 => m_rule_B49 1000 r14 (nI k) else m_rule_B49 1000 μ1 (nI k) := by
      unfold m_rule
      rw [hK, Option.bind_some, if_neg hneg, hl1, Option.bind_some, if_neg h8, c3, Option.bind_some, w1, Option.bind_some]
    rw [eC0, eM0, goesOn_eq hp1.1 (show 19 < 21 by decide)]
    by_cases cf : wl t s1 e1 = nm 19
    · have hlen : e1 - s1 = 2 := name_len (n := n) cf
      obtain ⟨s2, e2, σ2, μ2, b1, b2, b3, b4, b5, b6, b7⟩ := next_st hp1.1
      have hs2n : s2 ≤ n := by have := b4.2.1.1; have := b4.2.1.2.1; omega
      have hp2 : pst n t s2 e2 0 cd σ2 μ2 := pst_n hp1 b4 (fun k hk => b6 k (by omega) (by omega) (by omega))
      have e2' : eM μ μ2 := e1'.tr ⟨fun k hk => b6 k (by omega) (by omega) (by omega), fun j hj => by rw [b7]⟩
      rw [if_pos cf, if_pos (w3.mpr cf), b2, b3, Option.bind_some, Option.bind_some, Option.bind_some, if_pos rfl]
      dsimp only
      have hcond := cond_eq (n := n) (t := t) (op := 0) (s0 := s2) (dm := 5) (kC := f0_oneOf 1000 72) (fun s' e' cd' σ' μ' d' g1 g2 g3 g4 => one_ok 72 0 s' e' cd' false 1000 σ' μ' d' (by decide) g2 g3 g4 (by omega) (by omega)) s2 e2 cd σ2 μ2 d (Nat.le_refl _) hp2 (by omega) hf
      rw [show nI 0 = (0 : Int32) from rfl, show 5 + 1 = 6 from rfl] at hcond
      rcases hcond with ⟨s3, e3, cd3, q3, d3, σ3, μ3, ev3, dep3, p1, p2, p3, ⟨p4, p5, p6, p7⟩, ⟨p8, p9, p10⟩, p11, p12, p13, p14, p15⟩ | ⟨s3, e3, d3, σ3, μ3, p1, p2, p3, p4, ⟨p5, p6⟩, p7, p8⟩
      · have p7' : cd3 + s2 ≤ cd + s3 := p7
        have hs3n : s3 ≤ n := by have := p3.1.2.1.1; have := p3.1.2.1.2.1; omega
        have h13 : μ3.2 0 1 = nI c := by rw [p10 1 (by omega), b7]; exact h11
        rw [xb_inr p1 p14.2.2, p2, Option.bind_some]
        dsimp only
        rcases tail_both (k := k) (y0 := some q3) p3 p14.2.1 hc h13 with ⟨s', e', ro, d', σ', μ', w, num, a1, a2, a3, a4, ⟨a5, a6⟩, a7, a8, a9, a10, a11⟩ | hb
        · obtain ⟨r1, r2, r3, r4, r5⟩ := ruF_at (μ3.2 0) c (nI k) (nI w) (nI num) (nI cd3)
          refine Or.inl ⟨s', e', ro, d', σ', μ', k, w, num, ev3, .ref q3, cd3, a1, a2, a3, ⟨by omega, by omega, by omega⟩, ⟨((c5.E.tr b5.E).tr p8).tr a5, (e2'.tr p9).tr a6, fun i g1 g2 g3 => ?_⟩, ⟨by rw [a7, r1], by rw [a7, r2], by rw [a7, r3], by rw [a7, r4], by rw [a7, r5]⟩, a8, Or.inr ⟨q3, rfl, p12.mono (fun c hc => agL_grw a10 hc) (by omega), ?_⟩, ⟨by omega, p13, a9.1, a9.2⟩, p14.tr a10, by omega⟩
          · rw [a7, ruF_ne _ _ _ _ _ _ g1 g3, p10 i g2, b7, c7]
          · refine tells_ev (tells_cg p11 (fun i g1 g2 => ?_)) (fun fv => ?_)
            · show μ'.2 0 (168 + i) = μ3.2 0 (168 + i)
              rw [a7, ruF_ne _ _ _ _ _ _ (by omega) (by omega)]
            · show (if ev3 fv = true then (1 : Int32) else 0) = (if (false ^^ ev3 fv) = true then 1 else 0)
              rw [Bool.false_xor]
        · obtain ⟨s', e', d', σ', μ', a1, a2, a3, a4, ⟨a5, a6⟩, a7, a8⟩ := hb
          exact Or.inr ⟨s', e', d', σ', μ', a1, a2, a3, a4, ⟨((c5.E.tr b5.E).tr p8).tr a5, (e2'.tr p9).tr a6⟩, p14.tr a7, by omega⟩
      · obtain ⟨μ4, z1, z2, z3⟩ := B49_w p3 (nI k)
        rw [xb_inl p1 p7.2.2, p2, Option.bind_some, z1]
        exact Or.inr ⟨s3, e3, d3, σ3, μ4, rfl, rfl, z2, p4, ⟨(c5.E.tr b5.E).tr p5, (e2'.tr p6).tr z3⟩, p7, by omega⟩
    · rw [if_neg cf, if_neg (fun z => cf (w3.mp z)), Option.bind_some, if_neg (show ¬ (false, σ1).1 = true from Bool.false_ne_true)]
      dsimp only
      rcases tail_both (k := k) (y0 := none) hp1 hf hc h11 with ⟨s', e', ro, d', σ', μ', w, num, a1, a2, a3, a4, ⟨a5, a6⟩, a7, a8, a9, a10, a11⟩ | hb
      · obtain ⟨r1, r2, r3, r4, r5⟩ := ruF_at (μ1.2 0) c (nI k) (nI w) (nI num) (nI cd)
        refine Or.inl ⟨s', e', ro, d', σ', μ', k, w, num, fun _ => true, .null, cd, a1, a2, a3, ⟨by omega, Nat.le_refl _, by omega⟩, ⟨c5.E.tr a5, e1'.tr a6, fun i g1 g2 g3 => ?_⟩, ⟨by rw [a7, r1], by rw [a7, r2], by rw [a7, r3], by rw [a7, r4], by rw [a7, r5]⟩, a8, Or.inl ⟨rfl, fun _ => rfl, rfl⟩, ⟨by omega, fun _ _ _ => rfl, a9.1, a9.2⟩, a10, by omega⟩
        rw [a7, ruF_ne _ _ _ _ _ _ g1 g3, c7]
      · obtain ⟨s', e', d', σ', μ', a1, a2, a3, a4, ⟨a5, a6⟩, a7, a8⟩ := hb
        exact Or.inr ⟨s', e', d', σ', μ', a1, a2, a3, a4, ⟨c5.E.tr a5, e1'.tr a6⟩, a7, by omega⟩
  · have hK : m_kindHere 1000 μ = some (-1) := by
      rcases kind_M h.1 with ⟨i, hi, g1, g2⟩ | ⟨-, g2⟩
      · have g1' : wl t s e = nm (basW 0 + i) := by
          have : basW 0 + i = i := Nat.zero_add i
          rw [this]; exact g1
        exact absurd g1' (hkl i hi)
      · exact g2
    obtain ⟨μ2, y1, y2, y3, y4⟩ := wants_f h.1
    obtain ⟨μ3, z1, z2, z3⟩ := B49_w y2 (-1)
    refine Or.inr ⟨s, e, d, sI σ 72 (nI s), μ3, ?_, ?_, z2, sI_at _ _ _, ⟨eC72 _ _, eM.tr ⟨fun k hk => y3 k (by omega), fun j hj => by rw [y4]⟩ z3⟩, grw.rf hf, by omega⟩
    · unfold f0_rule
      rw [hN, Option.bind_some]
      dsimp only
      rw [if_neg (by decide), h.1.2.2.1.1]
      rfl
    · unfold m_rule
      rw [hK, Option.bind_some, if_pos (by decide), y1, Option.bind_some, word_w y2, Option.bind_some, if_neg (by decide), z1]
