/-! PLAIN LAW: a year of the model -/
set_option maxRecDepth 100000
theorem m_hands_L {RS : Rls} (hRI : rulI RS) {N h : Nat} (hN : 201 ≤ N) (hh : h ≤ 7) (T0 : Tw) (x2 : Int32) : ∀ (r p fuel : Nat) (μ : MS), simM (handsF T0 RS h p) (μ.2 0) → Inv T0 → rulM (μ.2 0) RS → p + r = tP T0 → r < fuel → ∃ μ', m_goes_L85 N fuel μ (nI h) x2 (nI p) = m_goes_L138 N N μ' x2 (0 : Int32) (0 : Int32) ∧ simM (handsF T0 RS h (tP T0)) (μ'.2 0) ∧ frM μ μ' := by
  intro r
  induction r with
  | zero =>
    intro p fuel μ hM hI hR h1 h2
    have hp6 : tP T0 ≤ 6 := hI.1.1
    have ha := (Inv_handsF hI RS h p).2
    obtain ⟨n, rfl⟩ : ∃ n, fuel = n + 1 := ⟨fuel - 1, by omega⟩
    refine ⟨μ, ?_, by rw [← show p = tP T0 by omega]; exact hM, frM.rf μ⟩
    show (ldM μ 0 (0 : Int32)).bind _ = _
    rw [mF_people hM, ha.nums.1]
    simp only [Option.bind_some]
    rw [if_pos ((nN_le (by omega) (by omega)).mpr (by omega))]
  | succ r ih =>
    intro p fuel μ hM hI hR h1 h2
    have hp6 : tP T0 ≤ 6 := hI.1.1
    obtain ⟨hIp, ha⟩ := Inv_handsF hI RS h p
    obtain ⟨n, rfl⟩ : ∃ n, fuel = n + 1 := ⟨fuel - 1, by omega⟩
    have hs : handsF T0 RS h (p + 1) = stepP (handsF T0 RS h p) RS h p := rfl
    show ∃ μ', (ldM μ 0 (0 : Int32)).bind _ = _ ∧ _
    rw [mF_people hM, ha.nums.1]
    simp only [Option.bind_some]
    rw [if_neg (fun q => by have := (nN_le (by omega) (by omega)).mp q; omega)]
    rw [show nI p + (1 : Int32) = nI (p + 1) from nI_1 p]
    by_cases hhe : p + 1 = h
    · rw [if_pos (by rw [hhe])]
      have e : handsF T0 RS h (p + 1) = handsF T0 RS h p := by rw [hs]; unfold stepP; rw [if_pos hhe]
      exact ih (p + 1) n μ (by rw [e]; exact hM) hI hR (by omega) (by omega)
    · rw [if_neg (fun q => hhe ((nN_eq (by omega) (by omega)).mp q))]
      obtain ⟨μ1, g1, g2, g3⟩ := m_choice_eq hM hIp hR hRI hN (p := p) (by rw [ha.nums.1]; omega)
      rw [g1]
      simp only [Option.bind_some]
      have hM1 : simM (handsF T0 RS h p) (μ1.2 0) := by rw [g2]; exact hM
      have hR1 : rulM (μ1.2 0) RS := by rw [g2]; exact hR
      cases hch : choiceT (handsF T0 RS h p) RS p with
      | none =>
        have e : handsF T0 RS h (p + 1) = handsF T0 RS h p := by rw [hs]; unfold stepP; rw [if_neg hhe, hch]
        rw [if_pos (show nM none = (10 : Int32) from rfl)]
        obtain ⟨μ', q1, q2, q3⟩ := ih (p + 1) n μ1 (by rw [e]; exact hM1) hI hR1 (by omega) (by omega)
        exact ⟨μ', q1, q2, g3.tr q3⟩
      | some d =>
        have hd := choiceT_lt hch
        have hd6 : tD (handsF T0 RS h p) ≤ 10 := hIp.1.2.1
        have e : handsF T0 RS h (p + 1) = undoT (handsF T0 RS h p) d := by rw [hs]; unfold stepP; rw [if_neg hhe, hch]
        rw [if_neg (show ¬ nM (some d) = (10 : Int32) from fun q => by have := (nN_eq (a := d) (b := 10) (by omega) (by decide)).mp q; omega)]
        obtain ⟨μ2, u1, u2, u3⟩ := m_undo_eq hM1 hIp (N := N) (by omega) hd
        show ∃ μ', (m_undo N μ1 (nI d)).bind _ = _ ∧ _
        rw [u1]
        simp only [Option.bind_some]
        obtain ⟨μ', q1, q2, q3⟩ := ih (p + 1) n μ2 (by rw [e]; exact u2) hI (frM_rul u3.2.2 hR1) (by omega) (by omega)
        exact ⟨μ', q1, q2, (g3.tr u3).tr q3⟩
theorem simM_end {T : Tw} {f : Nat → Int32} (hM : simM T f) (x : Int32) (y : Nat) : simM (wI (wN T 3 y) 0 x) (upd (upd f 4 x) 3 (nI y)) := by
  have e : ∀ i, i ≠ 3 → i ≠ 4 → upd (upd f 4 x) 3 (nI y) i = f i := fun i h1 h2 => by unfold upd; rw [if_neg h1, if_neg h2]
  obtain ⟨⟨a1, a2, a3, a4, a5, a6, a7⟩, b, c, o, r⟩ := hM
  refine ⟨⟨?_, ?_, ?_, ?_, ?_, ?_, ?_⟩, fun p hp => ?_, fun k hk => ?_, fun k hk => ?_, fun k hk => ?_⟩
  · rw [e _ (by decide) (by decide)]; exact a1
  · rw [e _ (by decide) (by decide)]; exact a2
  · show upd (upd f 4 x) 3 (nI y) 3 = nI y; unfold upd; rw [if_pos rfl]
  · show upd (upd f 4 x) 3 (nI y) 4 = x; unfold upd; rw [if_neg (by decide), if_pos rfl]
  · rw [e _ (by decide) (by decide)]; exact a5
  · rw [e _ (by decide) (by decide)]; exact a6
  · rw [e _ (by decide) (by decide)]; exact a7
  · rw [e _ (by omega) (by omega), e _ (by omega) (by omega), e _ (by omega) (by omega)]; exact b p hp
  · rw [e _ (by omega) (by omega), e _ (by omega) (by omega), e _ (by omega) (by omega), e _ (by omega) (by omega), e _ (by omega) (by omega)]; exact c k hk
  · rw [e _ (by omega) (by omega)]; exact o k hk
  · rw [e _ (by omega) (by omega), e _ (by omega) (by omega), e _ (by omega) (by omega), e _ (by omega) (by omega)]; exact r k hk
theorem m_worth_L {T : Tw} {μ : MS} (hM : simM T (μ.2 0)) (hI : Inv T) (N : Nat) : ∀ (r d fuel : Nat), d + r = tD T → r < fuel → m_goes_L138 N fuel μ (nI (tY T)) (nI (sN (worthD T) d)) (nI d) = some (nI (worth T), setA (setA μ 0 (upd (μ.2 0) 4 (tS T + nI (worth T)))) 0 (upd (upd (μ.2 0) 4 (tS T + nI (worth T))) 3 (nI (tY T + 1)))) := by
  have hd6 : tD T ≤ 10 := hI.1.2.1
  have hy : tY T ≤ 16 := Nat.le_trans hI.1.2.2.2.2.1 hI.1.2.2.2.1
  intro r
  induction r with
  | zero =>
    intro d fuel h1 h2
    obtain ⟨n, rfl⟩ : ∃ n, fuel = n + 1 := ⟨fuel - 1, by omega⟩
    show (ldM μ 0 (5 : Int32)).bind _ = _
    rw [mF_deeds hM]
    simp only [Option.bind_some]
    rw [if_pos ((nN_le (by omega) (by omega)).mpr (by omega)), show d = tD T by omega, mF_score hM]
    simp only [Option.bind_some]
    rw [show (4 : Int32) = nI 4 from rfl, stM_n (by decide) (by decide)]
    simp only [Option.bind_some]
    rw [show (3 : Int32) = nI 3 from rfl, mF_rule (by decide), setA_0]
    simp only [Option.bind_some]
    have e3 : upd (μ.2 0) 4 (tS T + nI (sN (worthD T) (tD T))) 3 = nI (tY T) := by unfold upd; rw [if_neg (by decide)]; exact hM.1.2.2.1
    rw [e3, stM_n (by decide) (by decide), setA_0]
    simp only [Option.bind_some]
    rw [show nI (tY T) + (1 : Int32) = nI (tY T + 1) from nI_1 _]
    rfl
  | succ r ih =>
    intro d fuel h1 h2
    obtain ⟨n, rfl⟩ : ∃ n, fuel = n + 1 := ⟨fuel - 1, by omega⟩
    have hw := hI.2.2.1 d (by omega)
    have hdd := due_le hI (d := d) (by omega)
    have hn := ih (d + 1) n (by omega) (by omega)
    have hs : sN (worthD T) (d + 1) = sN (worthD T) d + worthD T d := rfl
    rw [hs] at hn
    show (ldM μ 0 (5 : Int32)).bind _ = _
    rw [mF_deeds hM]
    simp only [Option.bind_some]
    rw [if_neg (fun h => by have := (nN_le (by omega) (by omega)).mp h; omega)]
    rw [mD_so hM (by omega), mD_weight hM (by omega), m_due_eq hM hI (by omega)]
    simp only [Option.bind_some]
    rw [show nI d + 1 = nI (d + 1) from nI_1 d, show nI (sN (worthD T) d) + (0 : Int32) = nI (sN (worthD T) d + 0) from nN_add _ 0, nN_add]
    by_cases h7 : tA T 7 d = 1
    · rw [if_pos (by rw [h7]; rfl)]
      by_cases hl : due T d < tY T
      · rw [if_pos ((nN_lt (by omega) (by omega)).mpr hl)]
        have e : worthD T d = 0 := by unfold worthD; rw [if_neg (fun q => by omega)]
        rw [e] at hn
        exact hn
      · rw [if_neg (fun q => hl ((nN_lt (by omega) (by omega)).mp q))]
        have e : worthD T d = tA T 5 d := by unfold worthD; rw [if_pos ⟨h7, by omega⟩]
        rw [e] at hn
        exact hn
    · rw [if_neg (show ¬ nI (tA T 7 d) = (1 : Int32) from fun q => h7 ((nN_eq (b := 1) (by omega) (by decide)).mp q))]
      have e : worthD T d = 0 := by unfold worthD; rw [if_neg (fun q => h7 q.1)]
      rw [e] at hn
      exact hn
/-- the model's town behind a year: the score has it -/
def goneT (T : Tw) (RS : Rls) (h : Nat) : Tw := wI (passT T RS h) 0 (tS T + nI (passW T RS h))
theorem frM_end (μ : MS) (x y : Int32) : frM μ (setA (setA μ 0 (upd (μ.2 0) 4 x)) 0 (upd (upd (μ.2 0) 4 x) 3 y)) := by
  refine ⟨rfl, fun j h1 _ => by rw [setA_ne _ _ h1, setA_ne _ _ h1], fun i hi => ?_⟩
  rw [setA_0]
  unfold upd
  rw [if_neg (by omega), if_neg (by omega)]
/-- a year of the model -/
theorem m_goes_eq {T : Tw} {μ : MS} {RS : Rls} (hM : simM T (μ.2 0)) (hI : Inv T) (hR : rulM (μ.2 0) RS) (hRI : rulI RS) {N h : Nat} (hN : 201 ≤ N) (hh : h ≤ 7) : ∃ μ', m_goes N μ (nI h) = some (nI (passW T RS h), μ') ∧ simM (goneT T RS h) (μ'.2 0) ∧ frM μ μ' := by
  have hd6 : tD T ≤ 10 := hI.1.2.1
  have hp6 : tP T ≤ 6 := hI.1.1
  have hy : tY T ≤ 16 := Nat.le_trans hI.1.2.2.2.2.1 hI.1.2.2.2.1
  obtain ⟨μ1, g1, g2, g3⟩ := m_right_L (N := N) (nI h) (tD T) T μ 0 N hM hI.dB (fun k hk => (hI.2.2.1 k hk).2.1) hy (by omega) (by omega)
  have hr := Inv_right hI
  have ar := aliS_rhF T 0 (tD T)
  obtain ⟨μ2, q1, q2, q3⟩ := m_hands_L hRI (h := h) hN hh (rhF T 0 (tD T)) (nI (tY T)) (tP T) 0 N μ1 g2 hr (frM_rul g3.2.2 hR) (by rw [ar.nums.1]; omega) (by omega)
  rw [ar.nums.1] at q2
  obtain ⟨i1, i2⟩ := Inv_handed hI RS h
  have hL := m_worth_L (T := handed T RS h) q2 i1 N (tD (handed T RS h)) 0 N (by omega) (by rw [i2.nums.2.1]; omega)
  rw [i2.nums.2.2.2.1, i2.nums.2.2.2.2.2.2.1] at hL
  refine ⟨_, ?_, ?_, (g3.tr q3).tr (frM_end μ2 (tS T + nI (worth (handed T RS h))) (nI (tY T + 1)))⟩
  · unfold m_goes
    rw [mF_year hM]
    simp only [Option.bind_some]
    rw [show (0 : Int32) = nI 0 from rfl, g1, show (0 : Int32) = nI 0 from rfl, q1]
    exact hL
  · rw [setA_0]
    exact simM_end q2 _ _
