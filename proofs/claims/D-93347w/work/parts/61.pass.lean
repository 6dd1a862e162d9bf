/-! PLAIN LAW: a year goes by -/
set_option maxRecDepth 100000
/-- one left hand (h: 1 more than who is held, 0 nobody) -/
def stepP (T : Tw) (RS : Rls) (h p : Nat) : Tw := if p + 1 = h then T else match choiceT T RS p with | none => T | some d => undoT T d
def handsF (T : Tw) (RS : Rls) (h : Nat) : Nat → Tw
  | 0 => T
  | r + 1 => stepP (handsF T RS h r) RS h r
/-- what stands and isn't overdue -/
def worthD (T : Tw) (d : Nat) : Nat := if tA T 7 d = 1 ∧ tY T ≤ due T d then tA T 5 d else 0
def worth (T : Tw) : Nat := sN (worthD T) (tD T)
/-- the town when right and left hands have done -/
def handed (T : Tw) (RS : Rls) (h : Nat) : Tw := handsF (rhF T 0 (tD T)) RS h (tP T)
theorem choiceT_lt {T : Tw} {RS : Rls} {p d : Nat} (h : choiceT T RS p = some d) : d < tD T := (bestT_some h).1
theorem Inv_stepP {T : Tw} (hI : Inv T) (RS : Rls) (h p : Nat) : Inv (stepP T RS h p) ∧ aliS T (stepP T RS h p) := by
  unfold stepP
  split
  · exact ⟨hI, aliS.rf T⟩
  · split
    · exact ⟨hI, aliS.rf T⟩
    · exact ⟨Inv_undo hI _, aliS_undoT T _⟩
theorem Inv_handsF {T : Tw} (hI : Inv T) (RS : Rls) (h r : Nat) : Inv (handsF T RS h r) ∧ aliS T (handsF T RS h r) := by
  induction r with
  | zero => exact ⟨hI, aliS.rf T⟩
  | succ r ih =>
    obtain ⟨g1, g2⟩ := Inv_stepP ih.1 RS h r
    exact ⟨g1, ih.2.tr g2⟩
theorem Inv_handed {T : Tw} (hI : Inv T) (RS : Rls) (h : Nat) : Inv (handed T RS h) ∧ aliS T (handed T RS h) := by
  obtain ⟨g1, g2⟩ := Inv_handsF (Inv_right hI) RS h (tP T)
  exact ⟨g1, (aliS_rhF T 0 _).tr g2⟩
theorem hnd_ali {δ : DS} {hf : Nat → Option Nat} {T U : Tw} (h : aliS T U) (hH : hnd δ hf T) : hnd δ hf U := by
  intro p hp
  rw [h.nums.1] at hp
  rw [h.2.1 0 (by decide), h.2.1 1 (by decide)]
  exact hH p hp
theorem held_eq {p h : Nat} (hp : p < 2 ^ 30) (hh : h < 2 ^ 30) : (nI p = nI h - (1 : Int32)) ↔ p + 1 = h := by
  constructor
  · intro e
    have e2 : nI (p + 1) = nI h := by
      rw [← nI_1 p, e]
      exact Int32.sub_add_cancel _ _
    exact (nN_eq (by omega) (by omega)).mp e2
  · intro e
    rw [← e, ← nI_1 p]
    exact (Int32.add_sub_cancel _ _).symm
/-- the component's left hands -/
theorem f_hands_L {δ : DS} {RS : Rls} (hRI : rulI RS) {N h : Nat} (hN : 11 ≤ N) (hh : h ≤ 7) (T0 : Tw) : ∀ (r p fuel : Nat) (σ : SS), simC (handsF T0 RS h p) 0 σ → Inv T0 → hnd δ (σ.2.2.2 0) T0 → rulC δ (σ.2.2.1 0) RS → p + r = tP T0 → r < fuel → ∃ σ', f0_passes_L6 N δ fuel σ (nI h - (1 : Int32)) (nI p) = f0_passes_L52 N δ N σ' (0 : Int32) (0 : Int32) ∧ simC (handsF T0 RS h (tP T0)) 0 σ' ∧ frC σ σ' := by
  intro r
  induction r with
  | zero =>
    intro p fuel σ hC hI hH hR h1 h2
    have hp6 : tP T0 ≤ 6 := hI.1.1
    have ha := (Inv_handsF hI RS h p).2
    obtain ⟨n, rfl⟩ : ∃ n, fuel = n + 1 := ⟨fuel - 1, by omega⟩
    refine ⟨σ, ?_, by rw [← show p = tP T0 by omega]; exact hC, frC.rf σ⟩
    show (if (σ.1 0) ≤ nI p then _ else _) = _
    rw [show σ.1 0 = nI (tP T0) from by rw [← ha.nums.1]; exact hC.1.1, if_pos ((nN_le (by omega) (by omega)).mpr (by omega))]
  | succ r ih =>
    intro p fuel σ hC hI hH hR h1 h2
    have hp6 : tP T0 ≤ 6 := hI.1.1
    obtain ⟨hIp, ha⟩ := Inv_handsF hI RS h p
    obtain ⟨n, rfl⟩ : ∃ n, fuel = n + 1 := ⟨fuel - 1, by omega⟩
    have hs : handsF T0 RS h (p + 1) = stepP (handsF T0 RS h p) RS h p := rfl
    show ∃ σ', (if (σ.1 0) ≤ nI p then _ else _) = _ ∧ _
    rw [show σ.1 0 = nI (tP T0) from by rw [← ha.nums.1]; exact hC.1.1, if_neg (fun q => by have := (nN_le (by omega) (by omega)).mp q; omega)]
    rw [show nI p + 1 = nI (p + 1) from nI_1 p]
    by_cases hhe : p + 1 = h
    · rw [if_pos ((held_eq (by omega) (by omega)).mpr hhe)]
      have e : handsF T0 RS h (p + 1) = handsF T0 RS h p := by rw [hs]; unfold stepP; rw [if_pos hhe]
      exact ih (p + 1) n σ (by rw [e]; exact hC) hI hH hR (by omega) (by omega)
    · rw [if_neg (fun q => hhe ((held_eq (by omega) (by omega)).mp q))]
      obtain ⟨σ1, g1, g2, g3⟩ := f_choice_eq hC hIp (hnd_ali ha hH) hR hRI hN (p := p) (by rw [ha.nums.1]; omega)
      rw [g1]
      simp only [Option.bind_some]
      have hH1 : hnd δ (σ1.2.2.2 0) T0 := by rw [g3.1]; exact hH
      have hR1 : rulC δ (σ1.2.2.1 0) RS := by rw [g3.1]; exact hR
      cases hch : choiceT (handsF T0 RS h p) RS p with
      | none =>
        have e : handsF T0 RS h (p + 1) = handsF T0 RS h p := by rw [hs]; unfold stepP; rw [if_neg hhe, hch]
        rw [if_pos (show nC none < 0 from by decide)]
        obtain ⟨σ', q1, q2, q3⟩ := ih (p + 1) n σ1 (by rw [e]; exact g2) hI hH1 hR1 (by omega) (by omega)
        exact ⟨σ', q1, q2, g3.tr q3⟩
      | some d =>
        have hd := choiceT_lt hch
        have hd6 : tD (handsF T0 RS h p) ≤ 10 := hIp.1.2.1
        have e : handsF T0 RS h (p + 1) = undoT (handsF T0 RS h p) d := by rw [hs]; unfold stepP; rw [if_neg hhe, hch]
        rw [if_neg (show ¬ nC (some d) < 0 from nN_neg (a := d) (by omega))]
        obtain ⟨σ2, u1, u2, u3⟩ := f_undo_eq g2 hIp hN hd
        show ∃ σ', (f0_undo N σ1 (nI d)).bind _ = _ ∧ _
        rw [u1]
        simp only [Option.bind_some]
        obtain ⟨σ', q1, q2, q3⟩ := ih (p + 1) n σ2 (by rw [e]; exact u2) hI (by rw [u3.1]; exact hH1) (by rw [u3.1]; exact hR1) (by omega) (by omega)
        exact ⟨σ', q1, q2, (g3.tr u3).tr q3⟩
theorem worthD_le {T : Tw} (hI : Inv T) {d : Nat} (hd : d < tD T) : worthD T d ≤ 9 := by
  have := (hI.2.2.1 d hd).2.2.1.2
  unfold worthD
  split <;> omega
theorem worth_le {T : Tw} (hI : Inv T) : worth T ≤ 90 := by
  have h1 := sN_le (g := worthD T) (b := 9) (n := tD T) (fun k hk => worthD_le hI hk)
  have : tD T ≤ 10 := hI.1.2.1
  unfold worth
  omega
theorem f_overdue_eq {T : Tw} {σ : SS} {δ : DS} (hC : simC T 0 σ) (hI : Inv T) (hH : hnd δ (σ.2.2.2 0) T) {d y : Nat} (hd : d < tD T) (hy : y ≤ 40) : f0_isOverdue δ σ (nI d) (nI y) = some (decide (tA T 7 d = 1 ∧ due T d < y)) := by
  have hd6 : tD T ≤ 10 := hI.1.2.1
  have hw := hI.2.2.1 d hd
  have hdd := due_le hI hd
  unfold f0_isOverdue
  rw [cD_so hC (by omega), f_due_eq hC hI hH hd]
  simp only [Option.bind_some]
  by_cases h7 : tA T 7 d = 1
  · rw [if_pos (by rw [h7]; rfl)]
    by_cases hl : due T d < y
    · rw [if_neg (fun q => by have := (nN_le (by omega) (by omega)).mp q; omega), decide_eq_true ⟨h7, hl⟩]
    · rw [if_pos ((nN_le (by omega) (by omega)).mpr (by omega)), decide_eq_false (fun q => hl q.2)]
  · rw [if_neg (show ¬ nI (tA T 7 d) = (1 : Int32) from fun q => h7 ((nN_eq (b := 1) (by omega) (by decide)).mp q)), decide_eq_false (fun q => h7 q.1)]
theorem f_worth_L {T : Tw} {σ : SS} {δ : DS} (hC : simC T 0 σ) (hI : Inv T) (hH : hnd δ (σ.2.2.2 0) T) (N : Nat) : ∀ (r d fuel : Nat), d + r = tD T → r < fuel → f0_passes_L52 N δ fuel σ (nI (sN (worthD T) d)) (nI d) = some (nI (worth T), sI σ 3 (nI (tY T + 1))) := by
  have hd6 : tD T ≤ 10 := hI.1.2.1
  have hy : tY T ≤ 16 := Nat.le_trans hI.1.2.2.2.2.1 hI.1.2.2.2.1
  intro r
  induction r with
  | zero =>
    intro d fuel h1 h2
    obtain ⟨n, rfl⟩ : ∃ n, fuel = n + 1 := ⟨fuel - 1, by omega⟩
    show (if (σ.1 1) ≤ nI d then _ else _) = _
    rw [show σ.1 1 = nI (tD T) from hC.1.2.1, if_pos ((nN_le (by omega) (by omega)).mpr (by omega)), show d = tD T by omega, show σ.1 3 = nI (tY T) from hC.1.2.2.2.1]
    simp only [Option.bind_some]
    rw [show nI (tY T) + (1 : Int32) = nI (tY T + 1) from nI_1 _]
    rfl
  | succ r ih =>
    intro d fuel h1 h2
    obtain ⟨n, rfl⟩ : ∃ n, fuel = n + 1 := ⟨fuel - 1, by omega⟩
    have hw := hI.2.2.1 d (by omega)
    have hn := ih (d + 1) n (by omega) (by omega)
    have hs : sN (worthD T) (d + 1) = sN (worthD T) d + worthD T d := rfl
    rw [hs] at hn
    show (if (σ.1 1) ≤ nI d then _ else _) = _
    rw [show σ.1 1 = nI (tD T) from hC.1.2.1, if_neg (fun h => by have := (nN_le (by omega) (by omega)).mp h; omega)]
    rw [cD_so hC (by omega), cD_weight hC (by omega), show σ.1 3 = nI (tY T) from hC.1.2.2.2.1, f_overdue_eq hC hI hH (d := d) (by omega) (by omega)]
    simp only [Option.bind_some]
    rw [show nI d + 1 = nI (d + 1) from nI_1 d, show nI (sN (worthD T) d) + (0 : Int32) = nI (sN (worthD T) d + 0) from nN_add _ 0, nN_add]
    by_cases h7 : tA T 7 d = 1
    · rw [if_pos (by rw [h7]; rfl)]
      by_cases hl : due T d < tY T
      · rw [if_pos (decide_eq_true ⟨h7, hl⟩)]
        have e : worthD T d = 0 := by unfold worthD; rw [if_neg (fun q => by omega)]
        rw [e] at hn
        exact hn
      · rw [if_neg (fun q => hl (of_decide_eq_true q).2)]
        have e : worthD T d = tA T 5 d := by unfold worthD; rw [if_pos ⟨h7, by omega⟩]
        rw [e] at hn
        exact hn
    · rw [if_neg (show ¬ nI (tA T 7 d) = (1 : Int32) from fun q => h7 ((nN_eq (b := 1) (by omega) (by decide)).mp q))]
      have e : worthD T d = 0 := by unfold worthD; rw [if_neg (fun q => h7 q.1)]
      rw [e] at hn
      exact hn
theorem simC_year {T : Tw} {σ : SS} (hC : simC T 0 σ) (y : Nat) : simC (wN T 3 y) 0 (sI σ 3 (nI y)) := by
  have e : ∀ k, k ≠ 3 → (sI σ 3 (nI y)).1 k = σ.1 k := fun k hk => by unfold sI upd; simp [hk]
  obtain ⟨⟨a1, a2, a3, a4, a5, a6, a7⟩, b⟩ := hC
  refine ⟨⟨?_, ?_, ?_, ?_, ?_, ?_, ?_⟩, b⟩
  · rw [e _ (by decide)]; exact a1
  · rw [e _ (by decide)]; exact a2
  · rw [e _ (by decide)]; exact a3
  · show (sI σ 3 (nI y)).1 3 = nI (tY (wN T 3 y)); unfold sI upd tY wN; simp
  · rw [e _ (by decide)]; exact a5
  · rw [e _ (by decide)]; exact a6
  · rw [e _ (by decide)]; exact a7
/-- the town behind a year -/
def passT (T : Tw) (RS : Rls) (h : Nat) : Tw := wN (handed T RS h) 3 (tY T + 1)
def passW (T : Tw) (RS : Rls) (h : Nat) : Nat := worth (handed T RS h)
theorem frC_y (σ : SS) (x : Int32) : frC σ (sI σ 3 x) := ⟨rfl, fun _ _ _ => rfl, fun k hk => by unfold sI upd; simp [hk]⟩
/-- a year of the component -/
theorem f_passes_eq {T : Tw} {δ : DS} {σ : SS} {RS : Rls} (hC : simC T 0 σ) (hI : Inv T) (hH : hnd δ (σ.2.2.2 0) T) (hR : rulC δ (σ.2.2.1 0) RS) (hRI : rulI RS) {N h : Nat} (hN : 11 ≤ N) (hh : h ≤ 7) : ∃ σ', f0_passes N δ σ (nI h - (1 : Int32)) = some (nI (passW T RS h), σ') ∧ simC (passT T RS h) 0 σ' ∧ frC σ σ' := by
  have hd6 : tD T ≤ 10 := hI.1.2.1
  have hp6 : tP T ≤ 6 := hI.1.1
  have hy : tY T ≤ 16 := Nat.le_trans hI.1.2.2.2.2.1 hI.1.2.2.2.1
  obtain ⟨σ1, g1, g2, g3⟩ := f_right_L (N := N) (tD T) T σ 0 N hC hI.dB (fun k hk => (hI.2.2.1 k hk).2.1) hy (by omega) (by omega)
  have hr := Inv_right hI
  have ar := aliS_rhF T 0 (tD T)
  obtain ⟨σ2, q1, q2, q3⟩ := f_hands_L (δ := δ) hRI (h := h) hN hh (rhF T 0 (tD T)) (tP T) 0 N σ1 g2 hr (by rw [g3.1]; exact hnd_ali ar hH) (by rw [g3.1]; exact hR) (by rw [ar.nums.1]; omega) (by omega)
  rw [ar.nums.1] at q2
  obtain ⟨i1, i2⟩ := Inv_handed hI RS h
  have hH2 : hnd δ (σ2.2.2.2 0) (handed T RS h) := by rw [q3.1, g3.1]; exact hnd_ali i2 hH
  have hL := f_worth_L (T := handed T RS h) q2 i1 hH2 N (tD (handed T RS h)) 0 N (by omega) (by rw [i2.nums.2.1]; omega)
  refine ⟨sI σ2 3 (nI (tY (handed T RS h) + 1)), ?_, ?_, (g3.tr q3).tr (frC_y σ2 _)⟩
  · unfold f0_passes f0_rightHands
    rw [show (0 : Int32) = nI 0 from rfl, g1]
    simp only [Option.bind_some]
    rw [q1]
    exact hL
  · rw [i2.nums.2.2.2.1]
    exact simC_year q2 _
