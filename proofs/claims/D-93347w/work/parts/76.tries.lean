/-! PLAIN LAW: often, strengthFor, graceFor -/
set_option maxRecDepth 100000
theorem gone_ali {T : Tw} (hI : Inv T) (RS : Rls) (a : Nat) : tE (goneT T RS a) = tE T ∧ tY (goneT T RS a) = tY T + 1 := ⟨(pass_ali hI RS a).2.2.1, (pass_ali hI RS a).2.2.2.1⟩
theorem drawn_L {RS : Rls} {δ : DS} (K : MS → Int32 → Int32 → Int32 → Int32 → Option (Int32 × MS)) (x1 x2 x3 x4 : Int32) : ∀ (r fuel fuel' : Nat) (x : Int32) (T : Tw) (σ : SS) (μ : MS), cor T (tS T) RS δ σ μ → tE T - tY T ≤ r → r < fuel → r < fuel' → ∃ (w : Int32) (T' : Tw) (σ' : SS) (μ' : MS) (m : Nat), f0_drawnAll_L2 1000 δ fuel σ x = some (w, σ') ∧ m_often_L44 1000 K fuel' μ x1 x2 x3 x4 x = m_often_L44 1000 K (m + 1) μ' x1 x2 x3 x4 w ∧ cor T' (tS T') RS δ σ' μ' ∧ tE T' ≤ tY T' ∧ FC σ σ' ∧ F2 σ σ' ∧ σ'.2.2 = σ.2.2 ∧ FM μ μ' ∧ μ'.2 2 = μ.2 2 := by
  intro r
  induction r with
  | zero =>
    intro fuel fuel' x T σ μ h hr h1 h2
    obtain ⟨n, rfl⟩ : ∃ n, fuel = n + 1 := ⟨fuel - 1, by omega⟩
    obtain ⟨n', rfl⟩ : ∃ n, fuel' = n + 1 := ⟨fuel' - 1, by omega⟩
    obtain ⟨o1, o2⟩ := cor_over h
    refine ⟨x, T, σ, μ, n', ?_, rfl, h, by omega, FC.rf σ, F2.rf σ, rfl, FM.rf μ, rfl⟩
    show (f3_isOver σ 0).bind _ = _
    rw [o1, decide_eq_true (by omega)]
    rfl
  | succ r ih =>
    intro fuel fuel' x T σ μ h hr h1 h2
    obtain ⟨n, rfl⟩ : ∃ n, fuel = n + 1 := ⟨fuel - 1, by omega⟩
    obtain ⟨n', rfl⟩ : ∃ n, fuel' = n + 1 := ⟨fuel' - 1, by omega⟩
    obtain ⟨o1, o2⟩ := cor_over h
    by_cases ho : tE T ≤ tY T
    · refine ⟨x, T, σ, μ, n', ?_, rfl, h, ho, FC.rf σ, F2.rf σ, rfl, FM.rf μ, rfl⟩
      show (f3_isOver σ 0).bind _ = _
      rw [o1, decide_eq_true ho]
      rfl
    · obtain ⟨a, σ1, μ1, g1, g2, g3, g4, g5, g6, g7, g8⟩ := drawn_both h (by omega)
      obtain ⟨e1, e2⟩ := gone_ali (T := wI T 1 (lotZ T)) h.2.1.1 RS a
      have e1' : tE (goneT (wI T 1 (lotZ T)) RS a) = tE T := e1
      have e2' : tY (goneT (wI T 1 (lotZ T)) RS a) = tY T + 1 := e2
      obtain ⟨w, T', σ', μ', m, q1, q2, q3, q4, q5, q6, q7, q8, q9⟩ := ih n n' (x + nI (passW (wI T 1 (lotZ T)) RS a)) _ σ1 μ1 g3 (by rw [e1', e2']; omega) (by omega) (by omega)
      refine ⟨w, T', σ', μ', m, ?_, ?_, q3, q4, g4.tr q5, g5.tr q6, q7.trans g6, g7.tr q8, q9.trans g8⟩
      · show (f3_isOver σ 0).bind _ = _
        rw [o1, decide_eq_false ho]
        simp only [Option.bind_some, Bool.false_eq_true, if_false]
        rw [g1]
        exact q1
      · show (m_isOver μ).bind _ = _
        rw [o2, decide_eq_false ho]
        simp only [Option.bind_some, Bool.false_eq_true, if_false]
        rw [g2]
        exact q2
theorem often_L {T0 : Tw} {RS : Rls} {δ : DS} {σ0 : SS} {μ0 : MS} (H : Rel σ0 δ μ0) (h0 : cor T0 (tS T0) RS δ σ0 μ0) {n : Nat} (hn : n ≤ 40) (v : Int32) : ∀ (r k fuel fuel' : Nat) (x : Int32) (σ : SS) (μ : MS), k + r = n → r < fuel → r < fuel' → sav T0 (σ0.2.2.1 0) (μ0.2 0) σ μ → σ.2.2.2 = σ0.2.2.2 → FC σ0 σ → FM μ0 μ → (∀ i, i < 368 → i ≠ 7 → μ.2 0 i = μ0.2 0 i) → ansB δ (f0_often_L48 1000 δ fuel σ (nI n) v x (μ.2 0 7) (nI k)) (m_often_L35 1000 fuel' μ (nI n) v x (nI k)) := by
  intro r
  have hM0 := h0.M
  have hI0 := h0.2.1.1
  induction r with
  | zero =>
    intro k fuel fuel' x σ μ h1 h2 h3 s e fC fM hm
    obtain ⟨N, rfl⟩ : ∃ n, fuel = n + 1 := ⟨fuel - 1, by omega⟩
    obtain ⟨N', rfl⟩ : ∃ n, fuel' = n + 1 := ⟨fuel' - 1, by omega⟩
    obtain ⟨σ3, μ3, b1, b2, b3⟩ := back_both (U := T0) (S := 0) H h0 s e fC fM (frC.rf σ) (frM.rf μ)
    refine ⟨x, σ3, μ3, ?_, ?_, b3⟩
    · show (if nI n ≤ nI k then _ else _) = _
      rw [if_pos ((nN_le (by omega) (by omega)).mpr (by omega)), b1]
      rfl
    · show (if nI n ≤ nI k then _ else _) = _
      rw [if_pos ((nN_le (by omega) (by omega)).mpr (by omega)), b2]
      rfl
  | succ r ih =>
    intro k fuel fuel' x σ μ h1 h2 h3 s e fC fM hm
    obtain ⟨N, rfl⟩ : ∃ n, fuel = n + 1 := ⟨fuel - 1, by omega⟩
    obtain ⟨N', rfl⟩ : ∃ n, fuel' = n + 1 := ⟨fuel' - 1, by omega⟩
    have hk : ¬ nI n ≤ nI k := fun q => by have := (nN_le (by omega) (by omega)).mp q; omega
    obtain ⟨σ1, a1, a2, a3, a4, a5, a6, a7, a8⟩ := trial_B s.1 (F2.rf σ)
    have hz := simC_z a2 (μ.2 0 7)
    have hMz : simM (wI T0 1 (μ.2 0 7)) (μ.2 0) := by
      have := simM_z hM0 (μ.2 0 7)
      refine simM_cg this (fun i hi _ => ?_)
      by_cases h7 : i = 7
      · rw [h7, upd_at]
      · rw [upd_ne h7]; exact hm i (by omega) h7
    have hcor : cor (wI T0 1 (μ.2 0 7)) (tS (wI T0 1 (μ.2 0 7))) RS δ (sI σ1 6 (μ.2 0 7)) μ := cor_id hz hMz hI0 h0.2.1.2 (by show hnd δ (σ1.2.2.2 0) _; rw [a6, e]; exact h0.2.2.1.1) (by show rulC δ (σ1.2.2.1 0) RS; rw [a4, s.2.1]; exact h0.2.2.1.2) (rulM_cg h0.2.2.2 h0.2.1.2 (fun i hi h => hm i hi (by omega)))
    have hy := hI0.1.2.2.2.1
    obtain ⟨w, T', σ2, μ2, m, q1, q2, q3, q4, q5, q6, q7, q8, q9⟩ := drawn_L (m_often_L35 1000 N') (nI n) v x (nI k) 16 1000 1000 0 _ _ μ hcor (by show tE T0 - tY T0 ≤ 16; omega) (by decide) (by decide)
    obtain ⟨o1, o2⟩ := cor_over q3
    have s2 : sav T0 (σ0.2.2.1 0) (μ0.2 0) σ2 μ2 := sav_cg (sav_cg (sav_cg s a8 rfl) (F2_sI (k := 6) (x := μ.2 0 7) (by decide)) rfl) q6 q9
    obtain ⟨μ3, b1, b2, b3, b4⟩ := m_back_eq s2.2.2 (N := 1000) (by decide)
    have e2 : σ2.2.2.2 = σ0.2.2.2 := by rw [q7]; show σ1.2.2.2 = _; rw [a6]; exact e
    have z1 : σ2.1 6 = tZ T' := q3.1.1.1.2.2.2.2.2.2
    have z2 : μ2.2 0 7 = tZ T' := q3.M.1.2.2.2.2.2.2
    have e7 : (setA μ3 0 (upd (μ3.2 0) 7 (tZ T'))).2 0 7 = tZ T' := by rw [setA_at, upd_at]
    have hrec : ∀ x', ansB δ (f0_often_L48 1000 δ N σ2 (nI n) v x' (tZ T') (nI (k + 1))) (m_often_L35 1000 N' (setA μ3 0 (upd (μ3.2 0) 7 (tZ T'))) (nI n) v x' (nI (k + 1))) := fun x' => by
      have := ih (k + 1) N N' x' σ2 (setA μ3 0 (upd (μ3.2 0) 7 (tZ T'))) (by omega) (by omega) (by omega) ⟨s2.1, s2.2.1, fun i hi => by rw [setA_o _ _ _ (by decide)]; exact b3 i hi⟩ e2 (((fC.tr a7).tr (FC_sI (by decide))).tr q5) (((fM.tr q8).tr b4).tr (FM_sA (by decide))) (fun i hi h => by rw [setA_at, upd_ne h]; exact b2 i hi)
      rw [e7] at this
      exact this
    have hC : f0_often_L48 1000 δ (N + 1) σ (nI n) v x (μ.2 0 7) (nI k) = if v ≤ w then f0_often_L48 1000 δ N σ2 (nI n) v (x + 1) (tZ T') (nI (k + 1)) else f0_often_L48 1000 δ N σ2 (nI n) v x (tZ T') (nI (k + 1)) := by
      show (if nI n ≤ nI k then _ else _) = _
      have q1' : f0_drawnAll 1000 δ (sI σ1 6 (μ.2 0 7)) = some (w, σ2) := q1
      rw [if_neg hk, a1, Option.bind_some, Option.bind_some, q1', Option.bind_some, nI_1]
      show (if v ≤ w then f0_often_L48 1000 δ N σ2 (nI n) v (x + 1) (σ2.1 6) (nI (k + 1)) else f0_often_L48 1000 δ N σ2 (nI n) v x (σ2.1 6) (nI (k + 1))) = _
      rw [z1]
    have hM : m_often_L35 1000 (N' + 1) μ (nI n) v x (nI k) = if w < v then m_often_L35 1000 N' (setA μ3 0 (upd (μ3.2 0) 7 (tZ T'))) (nI n) v (x + 0) (nI (k + 1)) else m_often_L35 1000 N' (setA μ3 0 (upd (μ3.2 0) 7 (tZ T'))) (nI n) v (x + 1) (nI (k + 1)) := by
      show (if nI n ≤ nI k then _ else _) = _
      rw [if_neg hk, q2]
      show (m_isOver μ2).bind _ = _
      rw [o2, decide_eq_true q4, Option.bind_some, if_pos rfl, show (7 : Int32) = nI 7 from rfl, mF_at (by decide), z2, Option.bind_some, Option.bind_some, b1, Option.bind_some, Option.bind_some, mS_at (by decide), Option.bind_some, Option.bind_some, nI_1]
    rw [hC, hM]
    by_cases hw : w < v
    · rw [if_pos hw, if_neg (by rw [← Int32.not_lt]; exact fun z => z hw), Int32.add_zero]
      exact hrec x
    · rw [if_neg hw, if_pos (by rw [← Int32.not_lt]; exact hw)]
      exact hrec (x + 1)
theorem pl_38 (a b c d : Int32) (σ : SS) (δ : DS) (μ : MS) (H : Rel σ δ μ) : pLaw Rel 38 a b c d σ δ μ := by
  obtain ⟨T, RS, h⟩ := H.1
  rcases in_1_40 a with ⟨n, h1, h2, rfl, e1, e2⟩ | ⟨e1, e2⟩
  · rcases in_0_999 b with ⟨v, -, hv, rfl, e3, e4⟩ | ⟨e3, e4⟩
    · obtain ⟨σ1, μ1, a1, a2, a3, a4, a5, a6, a7, a8⟩ := trial_in h
      have z1 : σ1.1 6 = μ1.2 0 7 := a3.1.1.1.2.2.2.2.2.2.trans a3.M.1.2.2.2.2.2.2.symm
      obtain ⟨r, σ', μ', g1, g2, g3⟩ := often_L H h h2 (nI v) n 0 1000 1000 (0 : Int32) σ1 μ1 (by omega) (by omega) (by omega) a4 a5 a6 a7 (fun i _ _ => by rw [a8])
      refine pl_0 (r := r) (σ' := σ') (μ' := μ') ?_ ?_ g3
      · rw [cc38]
        unfold f0_often
        rw [e1, Option.bind_some, if_pos rfl, e3, Option.bind_some, if_pos rfl, a1, Option.bind_some, z1]
        rw [show f0_often_L48 1000 δ 1000 σ1 (nI n) (nI v) (0 : Int32) (μ1.2 0 7) (0 : Int32) = some (r, σ') from g1]
        rfl
      · rw [mc38]
        unfold m_often
        rw [e2, Option.bind_some, if_pos rfl, e4, Option.bind_some, if_pos rfl, a2, Option.bind_some]
        exact g2
    · exact pl_0 (r := -1) (σ' := σ) (μ' := μ) (by rw [cc38]; unfold f0_often; rw [e1, Option.bind_some, if_pos rfl, e3]; rfl) (by rw [mc38]; unfold m_often; rw [e2, Option.bind_some, if_pos rfl, e4]; rfl) H
  · exact pl_0 (r := -1) (σ' := σ) (μ' := μ) (by rw [cc38]; unfold f0_often; rw [e1]; rfl) (by rw [mc38]; unfold m_often; rw [e2]; rfl) H
/-- what comes is tried in a town with one number changed, in both -/
theorem try_V {T V : Tw} {RS : Rls} {δ : DS} {σ : SS} {μ : MS} (hC : simC V 0 σ) (hM : simM T (μ.2 0)) (hI : Inv V) (hRI : rulI RS) (hH : hnd δ (σ.2.2.2 0) V) (hR : rulC δ (σ.2.2.1 0) RS) (hRM : rulM (μ.2 0) RS) {i : Nat} {x : Int32} (hi : i < 136 ∧ i ≠ 1) (hMV : simM V (upd (μ.2 0) i x)) : ∃ σ1 μ1 μ1' σ2 μ2 σ3 μ3 y, f3_become σ 2 0 = some σ1 ∧ m_puts 1000 μ = some μ1 ∧ stM μ1 0 (nI i) x = some μ1' ∧ f0_runs 1000 δ σ1 (16 : Int32) = some (nI (runW RS 16 V), σ2) ∧ m_rest 1000 μ1' (16 : Int32) = some (nI (runW RS 16 V), μ2) ∧ f0_lateSet_L22 1000 δ 1000 σ2 (nI (runW RS 16 V)) (0 : Int32) (0 : Int32) = ((f3_become σ2 0 2).bind fun r1 => some (y, r1)) ∧ m_late 1000 μ2 = some y ∧ f3_become σ2 0 2 = some σ3 ∧ m_putsBack 1000 μ2 = some μ3 ∧ simC V 0 σ3 ∧ σ3.2.2.1 0 = σ.2.2.1 0 ∧ σ3.2.2.2 = σ.2.2.2 ∧ (∀ i, i < 368 → μ3.2 0 i = μ.2 0 i) ∧ FC σ σ3 ∧ FM μ μ3 := by
  obtain ⟨σ1, a1, a2, a3, a4, a5, a6, a7⟩ := trial_C hC
  obtain ⟨μ1, b1, b2, b3, b4⟩ := m_puts_eq μ (N := 1000) (by decide)
  have hcor : cor V (tS V) RS δ σ1 (setA μ1 0 (upd (μ1.2 0) i x)) := cor_id a2 (by rw [setA_at, b2]; exact hMV) hI hRI (by rw [a6]; exact hH) (by rw [a4]; exact hR) (by rw [setA_at, b2]; exact rulM_cg hRM hRI (fun j hj h => upd_ne (by omega)))
  obtain ⟨S', σ2, μ2, g1, g2, g3, g4, g5⟩ := runs_top (n := 16) (by decide) hcor
  have hw := runW_le (RS := RS) 16 hI
  obtain ⟨l1, l2⟩ := late_both g3 (w := runW RS 16 V) (by omega)
  obtain ⟨σ3, c1, c2, c3, c4, c5, c6, c7, c8⟩ := trial_B a3 g4.F2
  obtain ⟨μ3, d1, d2, d3, d4⟩ := m_back_eq (μ := μ2) (f := μ.2 0) (fun k hk => by rw [frM2 g5, setA_o _ _ _ (by decide)]; exact b3 k hk) (N := 1000) (by decide)
  exact ⟨σ1, μ1, _, σ2, μ2, σ3, μ3, _, a1, b1, mS_at (by omega), g1, g2, l1, l2, c1, d1, c2, by rw [c4, a5], by rw [c6, g4.1]; exact a6, d2, (a7.tr g4.FC).tr c7, ((b4.tr (FM_sA (by decide))).tr g5.FM).tr d4⟩
theorem eA_eA (T : Tw) (j i v w : Nat) : eA (eA T j i v) j i w = eA T j i w := by
  unfold eA wA
  refine congrArg (fun z => (T.1, z, T.2.2)) (funext fun k => ?_)
  dsimp only
  by_cases hk : k = j
  · rw [if_pos hk, if_pos hk]
    funext n
    show (if n = i then w else (if j = j then uN (tA T j) i v else T.2.1 j) n) = (if n = i then w else tA T j n)
    rw [if_pos rfl]
    show (if n = i then w else (if n = i then v else tA T j n)) = _
    split <;> rfl
  · rw [if_neg hk, if_neg hk, if_neg hk]
theorem eA_id (T : Tw) (j i : Nat) : eA T j i (tA T j i) = T := by
  unfold eA wA
  refine congrArg (fun z => (T.1, z, T.2.2)) (funext fun k => ?_)
  by_cases hk : k = j
  · rw [if_pos hk]
    subst hk
    funext n
    show (if n = i then tA T k i else tA T k n) = tA T k n
    split
    · next e => rw [e]
    · rfl
  · rw [if_neg hk]
theorem eA_back (T : Tw) (j i v : Nat) : eA (eA T j i v) j i (tA T j i) = T := by rw [eA_eA, eA_id]
theorem strength_L {T : Tw} {RS : Rls} {δ : DS} {σ0 : SS} {μ0 : MS} (H : Rel σ0 δ μ0) (h0 : cor T (tS T) RS δ σ0 μ0) {p : Nat} (hp : p < tP T) : ∀ (r v fuel fuel' : Nat) (σ : SS) (μ : MS), v + r = 10 → 1 ≤ v → r < fuel → r < fuel' → simC (eA T 2 p v) 0 σ → σ.2.2.1 0 = σ0.2.2.1 0 → σ.2.2.2 = σ0.2.2.2 → FC σ0 σ → FM μ0 μ → (∀ i, i < 368 → μ.2 0 i = μ0.2 0 i) → ansB δ (f0_strengthFor_L30 1000 δ fuel σ (nI p) (nI (tA T 2 p))) (m_strengthFor_L12 1000 fuel' μ (nI p) (nI v)) := by
  have hI := h0.2.1.1
  have hp6 : tP T ≤ 6 := hI.1.1
  have hM0 := h0.M
  intro r
  induction r with
  | zero =>
    intro v fuel fuel' σ μ h1 hv h2 h3 hC e1 e2 fC fM hm
    obtain ⟨N, rfl⟩ : ∃ n, fuel = n + 1 := ⟨fuel - 1, by omega⟩
    obtain ⟨N', rfl⟩ : ∃ n, fuel' = n + 1 := ⟨fuel' - 1, by omega⟩
    have hv10 : v = 10 := by omega
    subst hv10
    have hCb := simC_eA hC (j := 2) (by decide) p (tA T 2 p)
    rw [eA_back] at hCb
    have hld : ldC σ 2 (nI p) = some (nI 10) := by rw [cP_strength hC (by omega), eA_at, if_pos rfl]
    refine ⟨-3, _, μ, ?_, ?_, Rel_cor H (T := T) (RS := RS) (fC.tr (FC_sA (j := 2) (f := upd (σ.2.1 2) p (nI (tA T 2 p))) (by decide))) fM (cor_id hCb (simM_cg hM0 (fun i hi _ => hm i (by omega))) hI h0.2.1.2 (by show hnd δ (σ.2.2.2 0) T; rw [e2]; exact h0.2.2.1.1) (by show rulC δ (σ.2.2.1 0) RS; rw [e1]; exact h0.2.2.1.2) (rulM_cg h0.2.2.2 h0.2.1.2 (fun i hi _ => hm i hi)))⟩
    · show (ldC σ 2 (nI p)).bind _ = _
      rw [hld, Option.bind_some, if_pos (by decide), cS_at (by show p < 6; omega) (by omega)]
      rfl
    · show (if (10 : Int32) ≤ nI 10 then _ else _) = _
      rw [if_pos (by decide)]
  | succ r ih =>
    intro v fuel fuel' σ μ h1 hv h2 h3 hC e1 e2 fC fM hm
    obtain ⟨N, rfl⟩ : ∃ n, fuel = n + 1 := ⟨fuel - 1, by omega⟩
    obtain ⟨N', rfl⟩ : ∃ n, fuel' = n + 1 := ⟨fuel' - 1, by omega⟩
    have hld : ldC σ 2 (nI p) = some (nI v) := by rw [cP_strength hC (by omega), eA_at, if_pos rfl]
    have hMμ : simM T (μ.2 0) := simM_cg hM0 (fun i hi _ => hm i (by omega))
    have hIV : Inv (eA T 2 p v) := Inv_eA012 hI (by omega)
    obtain ⟨σ1, μ1, μ1', σ2, μ2, σ3, μ3, y, t1, t2, t3, t4, t5, t6, t7, t8, t9, t10, t11, t12, t13, t14, t15⟩ := try_V (T := T) (V := eA T 2 p v) (RS := RS) (δ := δ) (i := 8 + 3 * p + 2) (x := nI v) hC hMμ hIV h0.2.1.2 (by rw [e2]; exact hnd_cg rfl (eA_ne (by decide)) (eA_ne (by decide)) h0.2.2.1.1) (by rw [e1]; exact h0.2.2.1.2) (rulM_cg h0.2.2.2 h0.2.1.2 (fun i hi _ => hm i hi)) (by omega) (simM_person hMμ (by decide) (by omega) v)
    have hls : f0_lateSet 1000 δ σ = some (y, σ3) := by
      unfold f0_lateSet
      rw [t1, Option.bind_some, t4, Option.bind_some]
      exact t6.trans (by rw [t8]; rfl)
    have hld3 : ldC σ3 2 (nI p) = some (nI v) := by rw [cP_strength t10 (by omega), eA_at, if_pos rfl]
    have h9 : ¬ (9 : Int32) < nI v := fun q => by have := (nN_lt (a := 9) (b := v) (by decide) (by omega)).mp q; omega
    have h10 : ¬ (10 : Int32) ≤ nI v := fun q => by have := (nN_le (a := 10) (b := v) (by decide) (by omega)).mp q; omega
    have hm3 : ∀ i, i < 368 → μ3.2 0 i = μ0.2 0 i := fun i hi => (t13 i hi).trans (hm i hi)
    by_cases hb : ((y >>> (nI p &&& 31)) &&& (1 : Int32)) = 0
    · have hCb := simC_eA t10 (j := 2) (by decide) p (tA T 2 p)
      rw [eA_back] at hCb
      refine ⟨nI v, _, μ3, ?_, ?_, Rel_cor H (T := T) (RS := RS) ((fC.tr t14).tr (FC_sA (j := 2) (f := upd (σ3.2.1 2) p (nI (tA T 2 p))) (by decide))) (fM.tr t15) (cor_id hCb (simM_cg hM0 (fun i hi _ => hm3 i (by omega))) hI h0.2.1.2 (by show hnd δ (σ3.2.2.2 0) T; rw [t12, e2]; exact h0.2.2.1.1) (by show rulC δ (σ3.2.2.1 0) RS; rw [t11, e1]; exact h0.2.2.1.2) (rulM_cg h0.2.2.2 h0.2.1.2 (fun i hi _ => hm3 i hi)))⟩
      · show (ldC σ 2 (nI p)).bind _ = _
        rw [hld, Option.bind_some, if_neg h9, hls, Option.bind_some, if_pos hb, hld3, Option.bind_some, cS_at (by show p < 6; omega) (by omega)]
        rfl
      · show (if (10 : Int32) ≤ nI v then _ else _) = _
        rw [if_neg h10, t2, Option.bind_some, show (2 : Int32) = nI 2 from rfl, m_at_eq, Option.bind_some, t3, Option.bind_some, t5, Option.bind_some, t7, Option.bind_some, if_pos hb, t9]
        rfl
    · have hCn := simC_eA t10 (j := 2) (by decide) p (v + 1)
      rw [eA_eA] at hCn
      obtain ⟨z, σ4, μ4, g1, g2, g3⟩ := ih (v + 1) N N' (sA σ3 2 (upd (σ3.2.1 2) p (nI (v + 1)))) μ3 (by omega) (by omega) (by omega) (by omega) hCn (by show σ3.2.2.1 0 = _; rw [t11, e1]) (by show σ3.2.2.2 = _; rw [t12, e2]) ((fC.tr t14).tr (FC_sA (by decide))) (fM.tr t15) hm3
      refine ⟨z, σ4, μ4, ?_, ?_, g3⟩
      · show (ldC σ 2 (nI p)).bind _ = _
        rw [hld, Option.bind_some, if_neg h9, hls, Option.bind_some, if_neg hb, hld3, Option.bind_some, show nI v + (1 : Int32) = nI (v + 1) from nI_1 v, cS_at (by show p < 6; omega) (by omega), Option.bind_some]
        exact g1
      · show (if (10 : Int32) ≤ nI v then _ else _) = _
        rw [if_neg h10, t2, Option.bind_some, show (2 : Int32) = nI 2 from rfl, m_at_eq, Option.bind_some, t3, Option.bind_some, t5, Option.bind_some, t7, Option.bind_some, if_neg hb, t9, Option.bind_some, nI_1]
        exact g2
theorem pl_19 (a b c d : Int32) (σ : SS) (δ : DS) (μ : MS) (H : Rel σ δ μ) : pLaw Rel 19 a b c d σ δ μ := by
  obtain ⟨T, RS, h⟩ := H.1
  have hI := h.2.1.1
  have hp6 : tP T ≤ 6 := hI.1.1
  rcases isP_both h.1.1 h.M hI a with ⟨p, hp, rfl, e1, e2⟩ | ⟨e1, e2⟩
  · have c1 := simC_eA h.1.1 (j := 2) (by decide) p 1
    obtain ⟨z, σ', μ', g1, g2, g3⟩ := strength_L H h hp 9 1 1000 1000 (sA σ 2 (upd (σ.2.1 2) p (nI 1))) μ (by decide) (by decide) (by decide) (by decide) c1 rfl rfl (FC_sA (by decide)) (FM.rf μ) (fun _ _ => rfl)
    refine pl_0 (r := z) (σ' := σ') (μ' := μ') ?_ ?_ g3
    · rw [cc19]
      unfold f0_strengthFor
      rw [e1, Option.bind_some, if_pos rfl, cP_strength h.1.1 (by omega), Option.bind_some, show (1 : Int32) = nI 1 from rfl, cS_at (by show p < 6; omega) (by omega), Option.bind_some, g1]
      rfl
    · rw [mc19]
      unfold m_strengthFor
      rw [e2, Option.bind_some, if_pos rfl]
      exact g2
  · exact pl_0 (r := -1) (σ' := σ) (μ' := μ) (by rw [cc19]; unfold f0_strengthFor; rw [e1]; rfl) (by rw [mc19]; unfold m_strengthFor; rw [e2]; rfl) H
