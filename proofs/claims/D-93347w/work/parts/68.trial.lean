/-! PLAIN LAW: calls that try what comes: leaves, on, until, overdue, falls -/
set_option maxRecDepth 100000
theorem runW_pos {RS : Rls} {T : Tw} (hI : Inv T) {k : Nat} (hk : k ≤ 16) : ¬ nI (runW RS k T) < 0 := by
  have := runW_le (RS := RS) k hI
  exact nN_neg (by omega)
theorem runs_top {RS : Rls} {δ : DS} {n : Nat} (hn : n ≤ 16) {T : Tw} {S : Int32} {σ : SS} {μ : MS} (h : cor T S RS δ σ μ) : ∃ S' σ' μ', f0_runs 1000 δ σ (nI n) = some (nI (runW RS n T), σ') ∧ m_rest 1000 μ (nI n) = some (nI (runW RS n T), μ') ∧ cor (runT RS n T) S' RS δ σ' μ' ∧ frC σ σ' ∧ frM μ μ' := by
  obtain ⟨S', σ', μ', g1, g2, g3⟩ := runs_both (RS := RS) (δ := δ) (N := 1000) (by decide) (n := n) (by omega) n 0 0 1000 T S σ μ h (by omega) (by omega)
  rw [Nat.zero_add] at g1 g2
  exact ⟨S', σ', μ', g1, g2, g3⟩
theorem run_same {RS : Rls} : ∀ (k : Nat) {T : Tw}, Inv T → tP (runT RS k T) = tP T ∧ tD (runT RS k T) = tD T := by
  intro k
  induction k with
  | zero => intro T hI; exact ⟨rfl, rfl⟩
  | succ k ih =>
    intro T hI
    have hT : runT RS (k + 1) T = if tE T ≤ tY T then T else runT RS k (passT T RS 0) := rfl
    rw [hT]
    split
    · exact ⟨rfl, rfl⟩
    · obtain ⟨e1, e2, -⟩ := pass_ali hI RS 0
      obtain ⟨g1, g2⟩ := ih (Inv_pass hI (by omega) RS 0)
      exact ⟨g1.trans e1, g2.trans e2⟩
/-- what ends a trial: from any pictures in it the town is as it was -/
theorem back_both {T U : Tw} {S : Int32} {RS : Rls} {δ : DS} {σ σ1 σ2 : SS} {μ μ1 μ2 : MS} (H : Rel σ δ μ) (h : cor T (tS T) RS δ σ μ) (s : sav T (σ.2.2.1 0) (μ.2 0) σ1 μ1) (e : σ1.2.2.2 = σ.2.2.2) (fC : FC σ σ1) (fM : FM μ μ1) (q1 : frC σ1 σ2) (q2 : frM μ1 μ2) : ∃ σ3 μ3, f3_become σ2 0 2 = some σ3 ∧ m_putsBack 1000 μ2 = some μ3 ∧ Rel σ3 δ μ3 := by
  obtain ⟨σ3, μ3, g1, g2, g3, g4, g5, g6, g7⟩ := trial_out (RS := RS) (δ := δ) (sav_fr s q1 q2) h.M h.2.1.1 h.2.1.2 (by rw [q1.1, e]; exact h.2.2.1.1) h.2.2.1.2 h.2.2.2
  exact ⟨σ3, μ3, g1, g2, Rel_cor H ((fC.tr q1.FC).tr g6) ((fM.tr q2.FM).tr g7) g3⟩
theorem pl_13 (a b c d : Int32) (σ : SS) (δ : DS) (μ : MS) (H : Rel σ δ μ) : pLaw Rel 13 a b c d σ δ μ := by
  obtain ⟨T, RS, h⟩ := H.1
  rcases isP_both h.1.1 h.M h.2.1.1 a with ⟨p, hp, rfl, e1, e2⟩ | ⟨e1, e2⟩
  · obtain ⟨σ1, μ1, a1, a2, a3, a4, a5, a6, a7, a8⟩ := trial_in h
    obtain ⟨S', σ2, μ2, g1, g2, g3, g4, g5⟩ := runs_top (n := 16) (by decide) a3
    obtain ⟨σ3, μ3, b1, b2, b3⟩ := back_both (U := T) (S := S') H h a4 a5 a6 a7 g4 g5
    have hp6 : tP T ≤ 6 := h.2.1.1.1.1
    have hst := f_stands_eq g3.1.1 g3.2.1.1 (N := 1000) (p := p) (by decide) (by omega)
    have hst2 := m_stands_eq g3.1.2 (T := wI (runT RS 16 T) 0 S') g3.2.1.1 (N := 1000) (p := p) (by decide) (by omega)
    refine pl_0 (r := nI (stands (runT RS 16 T) p)) (σ' := σ3) (μ' := μ3) ?_ ?_ b3
    · show (f0_leaves 1000 δ σ (nI p)).map _ = _
      unfold f0_leaves
      rw [e1]
      simp only [Option.bind_some, if_true]
      rw [a1]
      simp only [Option.bind_some]
      rw [show (16 : Int32) = nI 16 from rfl, g1]
      simp only [Option.bind_some]
      rw [if_pos (by rw [← Int32.not_lt]; exact runW_pos h.2.1.1 (by decide)), hst]
      simp only [Option.bind_some]
      rw [b1]
      rfl
    · show m_leaves 1000 μ (nI p) = _
      unfold m_leaves
      rw [e2]
      simp only [Option.bind_some, if_true]
      rw [a2]
      simp only [Option.bind_some]
      rw [show (16 : Int32) = nI 16 from rfl, g2]
      simp only [Option.bind_some]
      rw [hst2]
      simp only [Option.bind_some]
      rw [b2]
      rfl
  · refine pl_0 (r := -1) (σ' := σ) (μ' := μ) ?_ ?_ H
    · show (f0_leaves 1000 δ σ a).map _ = _
      unfold f0_leaves
      rw [e1]
      rfl
    · show m_leaves 1000 μ a = _
      unfold m_leaves
      rw [e2]
      rfl
theorem pl_14 (a b c d : Int32) (σ : SS) (δ : DS) (μ : MS) (H : Rel σ δ μ) : pLaw Rel 14 a b c d σ δ μ := by
  obtain ⟨T, RS, h⟩ := H.1
  rcases in_both a 0 16 (by decide) (by decide) with ⟨n, -, hn, rfl, e1, e2⟩ | ⟨e1, e2⟩
  · obtain ⟨σ1, μ1, a1, a2, a3, a4, a5, a6, a7, a8⟩ := trial_in h
    obtain ⟨S', σ2, μ2, g1, g2, g3, g4, g5⟩ := runs_top hn a3
    obtain ⟨σ3, μ3, b1, b2, b3⟩ := back_both (U := T) (S := S') H h a4 a5 a6 a7 g4 g5
    refine pl_0 (r := nI (runW RS n T)) (σ' := σ3) (μ' := μ3) ?_ ?_ b3
    · show (f0_on 1000 δ σ (nI n)).map _ = _
      unfold f0_on
      rw [show (0 : Int32) = nI 0 from rfl, show (16 : Int32) = nI 16 from rfl, e1]
      simp only [Option.bind_some, if_true]
      rw [a1]
      simp only [Option.bind_some]
      rw [g1]
      simp only [Option.bind_some]
      rw [b1]
      rfl
    · show m_on 1000 μ (nI n) = _
      unfold m_on
      rw [show (0 : Int64) = (nI 0).toInt64 from rfl, show (16 : Int64) = (nI 16).toInt64 from rfl, e2]
      simp only [Option.bind_some, if_true]
      rw [a2]
      simp only [Option.bind_some]
      rw [g2]
      simp only [Option.bind_some]
      rw [b2]
      rfl
  · refine pl_0 (r := -1) (σ' := σ) (μ' := μ) ?_ ?_ H
    · show (f0_on 1000 δ σ a).map _ = _
      unfold f0_on
      rw [show (0 : Int32) = nI 0 from rfl, show (16 : Int32) = nI 16 from rfl, e1]
      rfl
    · show m_on 1000 μ a = _
      unfold m_on
      rw [show (0 : Int64) = (nI 0).toInt64 from rfl, show (16 : Int64) = (nI 16).toInt64 from rfl, e2]
      rfl
/-- gone: undone or fallen -/
def goneD (T : Tw) (d : Nat) : Prop := tA T 7 d = 2 ∨ tA T 7 d = 3
theorem so_lt {T : Tw} (hI : Inv T) {d : Nat} (hd : d < tD T) : tA T 7 d ≤ 4 := (hI.2.2.1 d hd).2.2.2.1
theorem m_gone_eq {T : Tw} {μ : MS} (hM : simM T (μ.2 0)) (hI : Inv T) {d : Nat} (hd : d < tD T) : m_isGone μ (nI d) = some (decide (tA T 7 d = 2 ∨ tA T 7 d = 3)) := by
  have h4 := so_lt hI hd
  have hd6 : tD T ≤ 10 := hI.1.2.1
  unfold m_isGone
  rw [mD_so hM (by omega)]
  simp only [Option.bind_some]
  by_cases h2 : tA T 7 d = 2
  · rw [if_pos (by rw [h2]; rfl), decide_eq_true (Or.inl h2)]
  · rw [if_neg (show ¬ nI (tA T 7 d) = (2 : Int32) from fun q => h2 ((nN_eq (b := 2) (by omega) (by decide)).mp q))]
    by_cases h3 : tA T 7 d = 3
    · rw [if_pos (by rw [h3]; rfl), decide_eq_true (Or.inr h3)]
    · rw [if_neg (show ¬ nI (tA T 7 d) = (3 : Int32) from fun q => h3 ((nN_eq (b := 3) (by omega) (by decide)).mp q)), decide_eq_false (by rintro (h | h) <;> contradiction)]
/-- the same answer of both, the town as it was -/
def ansB (δ : DS) (F : Option (Int32 × SS)) (G : Option (Int32 × MS)) : Prop := ∃ r σ' μ', F = some (r, σ') ∧ G = some (r, μ') ∧ Rel σ' δ μ'
theorem until_L {T0 : Tw} {RS : Rls} {δ : DS} {σ0 : SS} {μ0 : MS} (H : Rel σ0 δ μ0) (h0 : cor T0 (tS T0) RS δ σ0 μ0) {d : Nat} : ∀ (r : Nat) (fuel : Nat) (T : Tw) (S : Int32) (σ : SS) (μ : MS), cor T S RS δ σ μ → d < tD T → tE T - tY T ≤ r → r + 1 < fuel → sav T0 (σ0.2.2.1 0) (μ0.2 0) σ μ → σ.2.2.2 = σ0.2.2.2 → FC σ0 σ → FM μ0 μ → ansB δ (f0_until_L53 1000 δ fuel σ (nI d) (-3 : Int32)) (m_until_L28 1000 fuel μ (nI d) (-3 : Int32)) := by
  intro r
  induction r with
  | zero =>
    intro fuel T S σ μ h hd hr hf s e fC fM
    obtain ⟨n, rfl⟩ : ∃ n, fuel = n + 1 := ⟨fuel - 1, by omega⟩
    obtain ⟨o1, o2⟩ := cor_over h
    obtain ⟨σ3, μ3, b1, b2, b3⟩ := back_both (U := T) (S := S) H h0 s e fC fM (frC.rf σ) (frM.rf μ)
    refine ⟨-3, σ3, μ3, ?_, ?_, b3⟩
    · show (f3_isOver σ 0).bind _ = _
      rw [o1, decide_eq_true (by omega)]
      simp only [Option.bind_some, if_true]
      rw [b1]
      rfl
    · show (if 0 ≤ (-3 : Int32) then _ else _) = _
      rw [if_neg (by decide), o2, decide_eq_true (by omega)]
      simp only [Option.bind_some, if_true]
      rw [b2]
      rfl
  | succ r ih =>
    intro fuel T S σ μ h hd hr hf s e fC fM
    obtain ⟨n, rfl⟩ : ∃ n, fuel = n + 1 := ⟨fuel - 1, by omega⟩
    obtain ⟨o1, o2⟩ := cor_over h
    have hd6 : tD T ≤ 10 := h.2.1.1.1.2.1
    by_cases ho : tE T ≤ tY T
    · obtain ⟨σ3, μ3, b1, b2, b3⟩ := back_both (U := T) (S := S) H h0 s e fC fM (frC.rf σ) (frM.rf μ)
      refine ⟨-3, σ3, μ3, ?_, ?_, b3⟩
      · show (f3_isOver σ 0).bind _ = _
        rw [o1, decide_eq_true ho]
        simp only [Option.bind_some, if_true]
        rw [b1]
        rfl
      · show (if 0 ≤ (-3 : Int32) then _ else _) = _
        rw [if_neg (by decide), o2, decide_eq_true ho]
        simp only [Option.bind_some, if_true]
        rw [b2]
        rfl
    · obtain ⟨σ1, μ1, g1, g2, g3, g4, g5⟩ := cor_pass h (by omega) (N := 1000) (by decide) (a := 0) (by omega)
      obtain ⟨p1, p2, p3, p4, p5, p6⟩ := pass_ali h.2.1.1 RS 0
      have hI1 := g3.2.1.1
      have s1 := sav_fr s g4 g5
      have e1 : σ1.2.2.2 = σ0.2.2.2 := by rw [g4.1]; exact e
      have fC1 := fC.tr g4.FC
      have fM1 := fM.tr g5.FM
      have hd1 : d < tD (passT T RS 0) := by rw [p2]; exact hd
      have hso := cD_so g3.1.1 (d := d) (by omega)
      have hgo : m_isGone μ1 (nI d) = some (decide (tA (passT T RS 0) 7 d = 2 ∨ tA (passT T RS 0) 7 d = 3)) := m_gone_eq (T := wI (passT T RS 0) 0 _) g3.1.2 g3.2.1.1 hd1
      have hyr : ldM μ1 0 (3 : Int32) = some (nI (tY (passT T RS 0))) := mF_year (T := wI (passT T RS 0) 0 _) g3.1.2
      have hw := passW_le h.2.1.1 RS 0
      have h4 := so_lt hI1 hd1
      have hC : f0_until_L53 1000 δ (n + 1) σ (nI d) (-3 : Int32) = if (tA (passT T RS 0) 7 d = 2 ∨ tA (passT T RS 0) 7 d = 3) then f0_until_L53 1000 δ n σ1 (nI d) ((σ1.1 3) - (1 : Int32)) else f0_until_L53 1000 δ n σ1 (nI d) (-3 : Int32) := by
        show (f3_isOver σ 0).bind _ = _
        rw [o1, decide_eq_false ho]
        simp only [Option.bind_some, Bool.false_eq_true, if_false]
        rw [if_neg (by decide), neg1, g1]
        simp only [Option.bind_some]
        rw [if_neg (nN_neg (by omega)), hso]
        simp only [Option.bind_some]
        by_cases h2 : tA (passT T RS 0) 7 d = 2
        · rw [if_pos (show nI (tA (passT T RS 0) 7 d) = (2 : Int32) by rw [h2]; rfl), if_pos (Or.inl h2)]
        · rw [if_neg (show ¬ nI (tA (passT T RS 0) 7 d) = (2 : Int32) from fun q => h2 ((nN_eq (b := 2) (by omega) (by decide)).mp q))]
          by_cases h3 : tA (passT T RS 0) 7 d = 3
          · rw [if_pos (show nI (tA (passT T RS 0) 7 d) = (3 : Int32) by rw [h3]; rfl), if_pos (Or.inr h3)]
          · rw [if_neg (show ¬ nI (tA (passT T RS 0) 7 d) = (3 : Int32) from fun q => h3 ((nN_eq (b := 3) (by omega) (by decide)).mp q)), if_neg (by rintro (h | h) <;> contradiction)]
      have hM : m_until_L28 1000 (n + 1) μ (nI d) (-3 : Int32) = if (tA (passT T RS 0) 7 d = 2 ∨ tA (passT T RS 0) 7 d = 3) then m_until_L28 1000 n μ1 (nI d) (nI (tY (passT T RS 0)) - (1 : Int32)) else m_until_L28 1000 n μ1 (nI d) (-3 : Int32) := by
        show (if 0 ≤ (-3 : Int32) then _ else _) = _
        rw [if_neg (by decide), o2, decide_eq_false ho]
        simp only [Option.bind_some, Bool.false_eq_true, if_false]
        rw [show (0 : Int32) = nI 0 from rfl, g2]
        simp only [Option.bind_some]
        rw [hgo, hyr]
        simp only [Option.bind_some]
        by_cases hg : tA (passT T RS 0) 7 d = 2 ∨ tA (passT T RS 0) 7 d = 3
        · rw [if_pos hg, if_pos (decide_eq_true hg)]
        · rw [if_neg hg, if_neg (by rw [decide_eq_true_eq]; exact hg)]
      rw [hC, hM, show σ1.1 3 = nI (tY (passT T RS 0)) from g3.1.1.1.2.2.2.1]
      by_cases hg : tA (passT T RS 0) 7 d = 2 ∨ tA (passT T RS 0) 7 d = 3
      · rw [if_pos hg, if_pos hg, p4, show nI (tY T + 1) - (1 : Int32) = nI (tY T) from nN_sub (a := tY T + 1) (b := 1) (by omega)]
        obtain ⟨m, rfl⟩ : ∃ m, n = m + 1 := ⟨n - 1, by omega⟩
        obtain ⟨σ3, μ3, b1, b2, b3⟩ := back_both (U := T) (S := S) H h0 s1 e1 fC1 fM1 (frC.rf σ1) (frM.rf μ1)
        obtain ⟨o3, o4⟩ := cor_over g3
        have hy : tY T ≤ 16 := Nat.le_trans h.2.1.1.1.2.2.2.2.1 h.2.1.1.1.2.2.2.1
        have hnn : (0 : Int32) ≤ nI (tY T) := by rw [← Int32.not_lt]; exact nN_neg (by omega)
        refine ⟨nI (tY T), σ3, μ3, ?_, ?_, b3⟩
        · show (f3_isOver σ1 0).bind _ = _
          rw [o3, b1, if_pos hnn]
          simp only [Option.bind_some]
          split <;> rfl
        · show (if 0 ≤ nI (tY T) then _ else _) = _
          rw [if_pos hnn, b2]
          rfl
      · rw [if_neg hg, if_neg hg]
        exact ih n (passT T RS 0) _ σ1 μ1 g3 hd1 (by rw [p3, p4]; omega) (by omega) s1 e1 fC1 fM1
theorem pl_15 (a b c d : Int32) (σ : SS) (δ : DS) (μ : MS) (H : Rel σ δ μ) : pLaw Rel 15 a b c d σ δ μ := by
  obtain ⟨T, RS, h⟩ := H.1
  rcases isD_both h.1.1 h.M h.2.1.1 a with ⟨d, hd, rfl, e1, e2⟩ | ⟨e1, e2⟩
  · have hI := h.2.1.1
    have hd6 : tD T ≤ 10 := hI.1.2.1
    have h4 := so_lt hI hd
    have hgo := m_gone_eq h.M hI hd
    have hC : f0_until 1000 δ σ (nI d) = if (tA T 7 d = 2 ∨ tA T 7 d = 3) then some ((-3 : Int32), σ) else (f3_become σ 2 0).bind fun r4 => f0_until_L53 1000 δ 1000 r4 (nI d) (-3 : Int32) := by
      unfold f0_until
      rw [e1]
      simp only [Option.bind_some, if_true]
      rw [cD_so h.1.1 (by omega)]
      simp only [Option.bind_some]
      by_cases h2 : tA T 7 d = 2
      · rw [if_pos (by rw [h2]; rfl), if_pos (Or.inl h2)]
      · rw [if_neg (show ¬ nI (tA T 7 d) = (2 : Int32) from fun q => h2 ((nN_eq (b := 2) (by omega) (by decide)).mp q))]
        by_cases h3 : tA T 7 d = 3
        · rw [if_pos (by rw [h3]; rfl), if_pos (Or.inr h3)]
        · rw [if_neg (show ¬ nI (tA T 7 d) = (3 : Int32) from fun q => h3 ((nN_eq (b := 3) (by omega) (by decide)).mp q)), if_neg (by rintro (h | h) <;> contradiction)]
    have hM : m_until 1000 μ (nI d) = if (tA T 7 d = 2 ∨ tA T 7 d = 3) then some ((-3 : Int32), μ) else (m_puts 1000 μ).bind fun r3 => m_until_L28 1000 1000 r3 (nI d) (-3 : Int32) := by
      unfold m_until
      rw [e2]
      simp only [Option.bind_some, if_true]
      rw [hgo]
      simp only [Option.bind_some, decide_eq_true_eq]
    by_cases hg : tA T 7 d = 2 ∨ tA T 7 d = 3
    · refine pl_0 (r := -3) (σ' := σ) (μ' := μ) ?_ ?_ H
      · show (f0_until 1000 δ σ (nI d)).map _ = _
        rw [hC, if_pos hg]
        rfl
      · show m_until 1000 μ (nI d) = _
        rw [hM, if_pos hg]
    · obtain ⟨σ1, μ1, a1, a2, a3, a4, a5, a6, a7, a8⟩ := trial_in h
      have hy := hI.1.2.2.2.1
      obtain ⟨r, σ', μ', g1, g2, g3⟩ := until_L H h (d := d) 16 1000 T (tS T) σ1 μ1 a3 hd (by omega) (by decide) a4 a5 a6 a7
      refine pl_0 (r := r) (σ' := σ') (μ' := μ') ?_ ?_ g3
      · show (f0_until 1000 δ σ (nI d)).map _ = _
        rw [hC, if_neg hg, a1]
        simp only [Option.bind_some]
        rw [g1]
        rfl
      · show m_until 1000 μ (nI d) = _
        rw [hM, if_neg hg, a2]
        exact g2
  · refine pl_0 (r := -1) (σ' := σ) (μ' := μ) ?_ ?_ H
    · show (f0_until 1000 δ σ a).map _ = _
      unfold f0_until
      rw [e1]
      rfl
    · show m_until 1000 μ a = _
      unfold m_until
      rw [e2]
      rfl
