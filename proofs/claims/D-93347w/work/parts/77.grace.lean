/-! PLAIN LAW: graceFor, judge, rows -/
set_option maxRecDepth 100000
/-- a hand made anew, the component alone -/
theorem renew_C {T : Tw} {σ : SS} {δ : DS} (hC : simC T 0 σ) (hI : Inv T) (hf : fresh δ) {p : Nat} (hp : p < tP T) (hH : ∀ p', p' < tP T → p' ≠ p → ∃ q, σ.2.2.2 0 p' = some q ∧ isHand δ q (tA T 0 p') p' (tA T 1 p')) : ∃ σ' δ', dMonV δ (f0_renew σ δ (nI p)) = some (σ', δ') ∧ simC T 0 σ' ∧ hnd δ' (σ'.2.2.2 0) T ∧ FC σ σ' ∧ exA δ δ' ∧ fresh δ' ∧ δ'.2 = δ.2 + 1 ∧ σ'.2.2.1 = σ.2.2.1 := by
  have hp6 : tP T ≤ 6 := hI.1.1
  have hk := (hI.2.1 p hp).1
  have hl : δ.2 ≤ (dAdd δ (6 + tA T 0 p) [.int (nI p), .int (nI (tA T 1 p))]).2 := Nat.le_succ _
  have hE := exA_add δ (6 + tA T 0 p) [.int (nI p), .int (nI (tA T 1 p))]
  refine ⟨_, _, dMonV_eq (renew_eq hC hf (by omega) hk) hl, hC, fun p' hp' => ?_, ⟨fun _ _ => rfl, fun _ _ => rfl, fun _ _ _ => rfl, rfl⟩, hE, fresh_add hf _ _, rfl, rfl⟩
  by_cases e : p' = p
  · subst e
    exact ⟨δ.2, if_pos rfl, isHand_add hf _ _ _⟩
  · obtain ⟨q, g1, g2⟩ := hH p' hp' e
    refine ⟨q, ?_, isHand_ex hE g2⟩
    show va_up (σ.2.2.2 0) p (some δ.2) p' = some q
    unfold va_up
    rw [if_neg e]
    exact g1
/-- the same answer of both, cells made -/
def ansD (δ : DS) (n : Nat) (F : Option (Int32 × SS × DS)) (G : Option (Int32 × MS)) : Prop := ∃ r σ' δ' μ', F = some (r, σ', δ') ∧ G = some (r, μ') ∧ Rel σ' δ' μ' ∧ δ.2 ≤ δ'.2 ∧ δ'.2 ≤ δ.2 + n
theorem grace_L {T : Tw} {RS : Rls} {δ0 : DS} {σ0 : SS} {μ0 : MS} (H : Rel σ0 δ0 μ0) (h0 : cor T (tS T) RS δ0 σ0 μ0) {p : Nat} (hp : p < tP T) : ∀ (r v fuel fuel' g : Nat) (xC xM most : Int32) (σ : SS) (δ : DS) (μ : MS), v + r = 10 → 1 ≤ v → r < fuel → r < fuel' → simC (eA T 1 p g) 0 σ → σ.2.2.1 0 = σ0.2.2.1 0 → (∀ p', p' < tP T → p' ≠ p → ∃ q, σ.2.2.2 0 p' = some q ∧ isHand δ q (tA T 0 p') p' (tA T 1 p')) → FC σ0 σ → FM μ0 μ → exA δ0 δ → fresh δ → (∀ i, i < 368 → μ.2 0 i = μ0.2 0 i) → (xC = xM ∨ (v = 1 ∧ most = -1)) → ansD δ (r + 1) (f0_graceFor_L28 1000 fuel σ δ (nI p) (nI (tA T 1 p)) xC most (nI v)) (m_graceFor_L17 1000 fuel' μ (nI p) xM most (nI v)) := by
  have hI := h0.2.1.1
  have hp6 : tP T ≤ 6 := hI.1.1
  have hM0 := h0.M
  intro r
  induction r with
  | zero =>
    intro v fuel fuel' g xC xM most σ δ μ h1 hv h2 h3 hC e1 hH fC fM hE hf hm hx
    obtain ⟨N, rfl⟩ : ∃ n, fuel = n + 1 := ⟨fuel - 1, by omega⟩
    obtain ⟨N', rfl⟩ : ∃ n, fuel' = n + 1 := ⟨fuel' - 1, by omega⟩
    have hv10 : v = 10 := by omega
    subst hv10
    have hxx : xC = xM := by
      rcases hx with h | ⟨h, -⟩
      · exact h
      · omega
    subst hxx
    have hCb := simC_eA hC (j := 1) (by decide) p (tA T 1 p)
    rw [eA_back] at hCb
    have hMμ : simM T (μ.2 0) := simM_cg hM0 (fun i hi _ => hm i (by omega))
    have hRM : rulM (μ.2 0) RS := rulM_cg h0.2.2.2 h0.2.1.2 (fun i hi _ => hm i hi)
    obtain ⟨σ2, δ2, q1, q2, q3, q4, q5, q6, q7, q8⟩ := renew_C hCb hI hf hp hH
    refine ⟨xC, σ2, δ2, μ, ?_, ?_, ⟨⟨T, RS, cor_id q2 hMμ hI h0.2.1.2 q3 (by rw [q8]; show rulC δ2 (σ.2.2.1 0) RS; rw [e1]; exact rulC_ext (hE.tr q5).ext h0.2.2.1.2) hRM⟩, RelX_cg H.2 ((fC.tr (FC_sA (by decide))).tr q4) fM (hE.tr q5) q6⟩, by omega, by omega⟩
    · show (if (9 : Int32) < nI 10 then _ else _) = _
      rw [if_pos (by decide), cS_at (by show p < 6; omega) (by omega), Option.bind_some, q1]
      rfl
    · show (if (10 : Int32) ≤ nI 10 then _ else _) = _
      rw [if_pos (by decide)]
  | succ r ih =>
    intro v fuel fuel' g xC xM most σ δ μ h1 hv h2 h3 hC e1 hH fC fM hE hf hm hx
    obtain ⟨N, rfl⟩ : ∃ n, fuel = n + 1 := ⟨fuel - 1, by omega⟩
    obtain ⟨N', rfl⟩ : ∃ n, fuel' = n + 1 := ⟨fuel' - 1, by omega⟩
    have hCv := simC_eA hC (j := 1) (by decide) p v
    rw [eA_eA] at hCv
    have hIV : Inv (eA T 1 p v) := Inv_eA012 hI (by omega)
    have hMμ : simM T (μ.2 0) := simM_cg hM0 (fun i hi _ => hm i (by omega))
    have hRM : rulM (μ.2 0) RS := rulM_cg h0.2.2.2 h0.2.1.2 (fun i hi _ => hm i hi)
    have a0 : ∀ p', tA (eA T 1 p v) 0 p' = tA T 0 p' := fun p' => by rw [eA_ne (by decide)]
    have a1 : ∀ p', p' ≠ p → tA (eA T 1 p v) 1 p' = tA T 1 p' := fun p' hp' => by rw [eA_at, if_neg hp']
    obtain ⟨σ2, δ2, q1, q2, q3, q4, q5, q6, q7, q8⟩ := renew_C (T := eA T 1 p v) hCv hIV hf hp (fun p' hp' hne => by rw [a0, a1 p' hne]; exact hH p' hp' hne)
    obtain ⟨σ1, μ1, μ1', σ4, μ4, σ3, μ3, y, t1, t2, t3, t4, t5, -, -, t8, t9, t10, t11, t12, t13, t14, t15⟩ := try_V (T := T) (V := eA T 1 p v) (RS := RS) (δ := δ2) (i := 8 + 3 * p + 1) (x := nI v) q2 hMμ hIV h0.2.1.2 q3 (by rw [q8]; show rulC δ2 (σ.2.2.1 0) RS; rw [e1]; exact rulC_ext (hE.tr q5).ext h0.2.2.1.2) hRM (by omega) (simM_person hMμ (by decide) (by omega) v)
    have hrw : f0_restWorth 1000 δ2 σ2 = some (nI (runW RS 16 (eA T 1 p v)), σ3) := by
      unfold f0_restWorth
      rw [t1, Option.bind_some, t4, Option.bind_some, t8, Option.bind_some]
    have h9 : ¬ (9 : Int32) < nI v := fun q => by have := (nN_lt (a := 9) (b := v) (by decide) (by omega)).mp q; omega
    have h10 : ¬ (10 : Int32) ≤ nI v := fun q => by have := (nN_le (a := 10) (b := v) (by decide) (by omega)).mp q; omega
    have hm3 : ∀ i, i < 368 → μ3.2 0 i = μ0.2 0 i := fun i hi => (t13 i hi).trans (hm i hi)
    have hw := runW_le (RS := RS) 16 hIV
    generalize hwe : runW RS 16 (eA T 1 p v) = w at hrw t5 hw
    have hrec : ∀ xC' xM' most', (xC' = xM' ∨ (v + 1 = 1 ∧ most' = -1)) → ansD δ (r + 1 + 1) (f0_graceFor_L28 1000 N σ3 δ2 (nI p) (nI (tA T 1 p)) xC' most' (nI (v + 1))) (m_graceFor_L17 1000 N' μ3 (nI p) xM' most' (nI (v + 1))) := fun xC' xM' most' hx' => by
      obtain ⟨x, σ5, δ5, μ5, z1, z2, z3, z4, z5⟩ := ih (v + 1) N N' v xC' xM' most' σ3 δ2 μ3 (by omega) (by omega) (by omega) (by omega) t10 (by rw [t11, q8]; exact e1) (fun p' hp' hne => by
        rw [t12]
        obtain ⟨q, u1, u2⟩ := q3 p' hp'
        rw [a0, a1 p' hne] at u2
        exact ⟨q, u1, u2⟩) (((fC.tr (FC_sA (by decide))).tr q4).tr t14) (fM.tr t15) (hE.tr q5) q6 hm3 hx'
      exact ⟨x, σ5, δ5, μ5, z1, z2, z3, by omega, by omega⟩
    have hFC : f0_graceFor_L28 1000 (N + 1) σ δ (nI p) (nI (tA T 1 p)) xC most (nI v) = (if nI w ≤ most then f0_graceFor_L28 1000 N σ3 δ2 (nI p) (nI (tA T 1 p)) xC (if most < nI w then nI w else most) (nI (v + 1)) else f0_graceFor_L28 1000 N σ3 δ2 (nI p) (nI (tA T 1 p)) (nI v) (if most < nI w then nI w else most) (nI (v + 1))) := by
      show (if (9 : Int32) < nI v then _ else _) = _
      rw [if_neg h9, cS_at (by show p < 6; omega) (by omega), Option.bind_some, q1, Option.bind_some, hrw, Option.bind_some, nI_1]
    have hFM : m_graceFor_L17 1000 (N' + 1) μ (nI p) xM most (nI v) = (if nI w ≤ most then m_graceFor_L17 1000 N' μ3 (nI p) xM most (nI (v + 1)) else m_graceFor_L17 1000 N' μ3 (nI p) (nI v) (nI w) (nI (v + 1))) := by
      show (if (10 : Int32) ≤ nI v then _ else _) = _
      rw [if_neg h10, t2, Option.bind_some, show (1 : Int32) = nI 1 from rfl, m_at_eq, Option.bind_some, t3, Option.bind_some, t5, Option.bind_some, t9, show nI v + nI 1 = nI (v + 1) from nI_1 v]
      by_cases hl : nI w ≤ most
      · rw [if_pos hl, if_pos hl, if_pos hl]; rfl
      · rw [if_neg hl, if_neg hl, if_neg hl]; rfl
    rw [hFC, hFM]
    by_cases hl : nI w ≤ most
    · have hl2 : ¬ most < nI w := by rw [Int32.not_lt]; exact hl
      rw [if_pos hl, if_pos hl, if_neg hl2]
      refine hrec xC xM most (Or.inl ?_)
      rcases hx with h | ⟨-, h⟩
      · exact h
      · exfalso
        rw [h, Int32.le_iff_toInt_le, nI_toInt (by omega)] at hl
        have : (-1 : Int32).toInt = -1 := by decide
        rw [this] at hl
        omega
    · have hl2 : most < nI w := by rw [← Int32.not_le]; exact hl
      rw [if_neg hl, if_neg hl, if_pos hl2]
      exact hrec (nI v) (nI v) (nI w) (Or.inl rfl)
theorem pl_18 (a b c d : Int32) (σ : SS) (δ : DS) (μ : MS) (H : Rel σ δ μ) : pLaw Rel 18 a b c d σ δ μ := by
  obtain ⟨T, RS, h⟩ := H.1
  have hI := h.2.1.1
  have hp6 : tP T ≤ 6 := hI.1.1
  rcases isP_both h.1.1 h.M hI a with ⟨p, hp, rfl, e1, e2⟩ | ⟨e1, e2⟩
  · obtain ⟨x, σ', δ', μ', g1, g2, g3, g4, g5⟩ := grace_L H h hp 9 1 1000 1000 (tA T 1 p) 1 0 (-1) σ δ μ (by decide) (by decide) (by decide) (by decide) (by rw [eA_id]; exact h.1.1) rfl (fun p' hp' _ => h.2.2.1.1 p' hp') (FC.rf σ) (FM.rf μ) (exA.rf δ) H.2.2.2.2.2 (fun _ _ => rfl) (Or.inr ⟨rfl, rfl⟩)
    refine pl_d (r := x) (σ' := σ') (δ' := δ') (μ' := μ') ?_ ?_ g3 g4 (by omega)
    · rw [cc18]
      unfold f0_graceFor
      rw [e1, Option.bind_some, if_pos rfl, cP_grace h.1.1 (by omega), Option.bind_some]
      exact g1
    · rw [mc18]
      unfold m_graceFor
      rw [e2, Option.bind_some, if_pos rfl]
      exact g2
  · exact pl_0 (r := -1) (σ' := σ) (μ' := μ) (by rw [cc18]; unfold f0_graceFor; rw [e1]; rfl) (by rw [mc18]; unfold m_graceFor; rw [e2]; rfl) H
/-! rows -/
theorem row_both {σ : SS} {μ : MS} (hr : rRows σ μ) (a b : Int32) : (∃ k w n : Nat, n ≤ 4 ∧ k < n ∧ w < 3 ∧ σ.1 58 = nI n ∧ μ.1 21 = nI n ∧ a = nI k ∧ b = nI w ∧ f0_isRow σ a b = some true ∧ m_isRow μ a b = some true ∧ (∀ i, i < 3 * n → σ.2.1 44 i = μ.2 9 i)) ∨ (f0_isRow σ a b = some false ∧ m_isRow μ a b = some false) := by
  obtain ⟨n, h1, h2, h3, h4⟩ := hr
  unfold f0_isRow m_isRow
  rw [h2, h3]
  rcases in_below a n (by omega) with ⟨k, g1, rfl, g3, g4⟩ | ⟨g3, g4⟩
  · rw [g3, g4]
    rcases in_0_2 b with ⟨w, -, q2, rfl, q3, q4⟩ | ⟨q3, q4⟩
    · left
      rw [Option.bind_some, Option.bind_some, if_pos rfl, if_pos rfl, q3, q4]
      exact ⟨k, w, n, h1, g1, by omega, rfl, rfl, rfl, rfl, rfl, rfl, h4⟩
    · right
      rw [Option.bind_some, Option.bind_some, if_pos rfl, if_pos rfl, q3, q4]
      exact ⟨rfl, rfl⟩
  · right
    rw [g3, g4]
    exact ⟨rfl, rfl⟩
theorem ix3 (k w : Nat) : (3 : Int32) * nI k + nI w = nI (3 * k + w) := by
  rw [show (3 : Int32) = nI 3 from rfl, nN_mul, nN_add]
theorem pl_40 (a b c d : Int32) (σ : SS) (δ : DS) (μ : MS) (H : Rel σ δ μ) : pLaw Rel 40 a b c d σ δ μ := by
  rcases row_both H.2.2.1.2.1 a b with ⟨k, w, n, hn, hk, hw, g1, g2, rfl, rfl, g3, g4, g5⟩ | ⟨g3, g4⟩
  · refine pl_0 (r := μ.2 9 (3 * k + w)) (σ' := σ) (μ' := μ) ?_ ?_ H
    · rw [cc40]
      unfold f0_row
      rw [g3, Option.bind_some, if_pos rfl, ix3, ldC_n (by show 3 * k + w < 12; omega) (by omega), g5 _ (by omega)]
      rfl
    · rw [mc40]
      unfold m_row
      rw [g4, Option.bind_some, if_pos rfl, ix3, ldM_n (by show 3 * k + w < 12; omega) (by omega)]
      rfl
  · exact pl_0 (r := -9) (σ' := σ) (μ' := μ) (by rw [cc40]; unfold f0_row; rw [g3]; rfl) (by rw [mc40]; unfold m_row; rw [g4]; rfl) H
/-! a frame that leaves the rows and all else but the town -/
def FX (σ σ' : SS) : Prop := (∀ k, k = 41 ∨ k = 70 → σ'.1 k = σ.1 k) ∧ (∀ j, j = 41 ∨ j = 45 ∨ j = 46 → σ'.2.1 j = σ.2.1 j) ∧ (∀ k, 3 ≤ k → σ'.2.2.1 k = σ.2.2.1 k) ∧ σ'.2.2.2 1 = σ.2.2.2 1
def FXM (μ μ' : MS) : Prop := (∀ k, k = 23 ∨ k = 37 → μ'.1 k = μ.1 k) ∧ (∀ j, 10 ≤ j → μ'.2 j = μ.2 j)
theorem RelX_x {σ σ' : SS} {δ δ' : DS} {μ μ' : MS} (H : RelX σ δ μ) (hF : FX σ σ') (hM : FXM μ μ') (hE : exA δ δ') (hf : fresh δ') (hk : rKept σ' δ' μ') (hr : rRows σ' μ') : RelX σ' δ' μ' := by
  obtain ⟨⟨a, b⟩, ⟨c, d, e⟩, ⟨f, g⟩, h, i⟩ := H
  refine ⟨⟨hk, ?_⟩, ⟨?_, hr, ?_⟩, ⟨?_, ?_⟩, by unfold rPart; rw [hF.2.1 41 (by decide)]; exact h, hf⟩
  · intro k hk
    rw [hF.2.2.2]
    rcases b k hk with h | ⟨q, h1, h2⟩
    · exact Or.inl h
    · exact Or.inr ⟨q, h1, isHand_ex hE h2⟩
  · obtain ⟨n, h1, h2, h3, h4⟩ := c
    exact ⟨n, h1, by rw [hF.1 41 (by decide)]; exact h2, by rw [hM.1 23 (by decide)]; exact h3, by rw [hF.2.1 46 (by decide), hM.2 10 (by decide)]; exact h4⟩
  · obtain ⟨n, h1, h2, h3, h4⟩ := e
    exact ⟨n, h1, by rw [hF.1 70 (by decide)]; exact h2, by rw [hM.1 37 (by decide)]; exact h3, by rw [hF.2.1 45 (by decide), hM.2 17 (by decide)]; exact h4⟩
  · obtain ⟨h1, h2⟩ := f
    have e : ∀ s, σ'.2.2.1 (7 + s) = σ.2.2.1 (7 + s) := fun s => hF.2.2.1 (7 + s) (by omega)
    refine ⟨fun s hs => ?_, fun s s' q a b c d => h2 s s' q a b (by rw [← e]; exact c) (by rw [← e]; exact d)⟩
    rw [e, hM.2 11 (by decide), hM.2 12 (by decide), hM.2 13 (by decide)]
    rcases h1 s hs with h | ⟨q, t, n, a, b, c, d, f, ee, i, j⟩
    · exact Or.inl h
    · exact Or.inr ⟨q, t, n, a, b, c, d, f, ee, hE _ _ i, j⟩
  · intro s hs
    rw [hF.2.2.1 (3 + s) (by omega), hM.2 14 (by decide), hM.2 15 (by decide), hM.2 16 (by decide)]
    rcases g s hs with h | ⟨q, n, a, b, c, d⟩ | ⟨q, t, n, a, b, c, ⟨ee, f, i, j⟩, d⟩
    · exact Or.inl h
    · exact Or.inr (Or.inl ⟨q, n, a, b, hE _ _ c, d⟩)
    · exact Or.inr (Or.inr ⟨q, t, n, a, b, c, ⟨ee, f, hE _ _ i, j⟩, d⟩)
theorem FC.X {σ σ' : SS} (h : FC σ σ') : FX σ σ' := ⟨fun k hk => h.1 k (by omega), fun j hj => h.2.1 j (by omega), fun k hk => h.2.2.1 k (by omega) (by omega), h.2.2.2⟩
theorem FM.X {μ μ' : MS} (h : FM μ μ') : FXM μ μ' := ⟨fun k hk => h.1 k (by omega), fun j hj => h.2 j (by omega)⟩
theorem pl_41 (a b c d : Int32) (σ : SS) (δ : DS) (μ : MS) (H : Rel σ δ μ) : pLaw Rel 41 a b c d σ δ μ := by
  rcases row_both H.2.2.1.2.1 a b with ⟨k, w, n, hn, hk, hw, g1, g2, rfl, rfl, g3, g4, g5⟩ | ⟨g3, g4⟩
  · obtain ⟨T, RS, h⟩ := H.1
    have hC' : simC T 0 (sA σ 44 (upd (σ.2.1 44) (3 * k + w) c)) := simC_40 h.1.1 (by decide) _
    have hM' : simM T ((setA μ 9 (upd (μ.2 9) (3 * k + w) c)).2 0) := by rw [setA_o _ _ _ (by decide)]; exact h.M
    have hcor : cor T (tS T) RS δ (sA σ 44 (upd (σ.2.1 44) (3 * k + w) c)) (setA μ 9 (upd (μ.2 9) (3 * k + w) c)) := cor_up h hC' hM' h.2.1.1 rfl rfl rfl rfl (fun i _ _ => by rw [setA_o _ _ _ (by decide)])
    have hX : FX σ (sA σ 44 (upd (σ.2.1 44) (3 * k + w) c)) := ⟨fun _ _ => rfl, fun j hj => sA_ne (by omega), fun _ _ => rfl, rfl⟩
    have hXM : FXM μ (setA μ 9 (upd (μ.2 9) (3 * k + w) c)) := ⟨fun _ _ => rfl, fun j hj => setA_o _ _ _ (by omega)⟩
    have hK : rKept (sA σ 44 (upd (σ.2.1 44) (3 * k + w) c)) δ (setA μ 9 (upd (μ.2 9) (3 * k + w) c)) := by
      obtain ⟨h1, h2⟩ := H.2.1.1
      refine ⟨h1, fun hk => ?_⟩
      obtain ⟨K, RK, ⟨a1, a2⟩, a3, a4, a5⟩ := h2 hk
      exact ⟨K, RK, ⟨simC_cg a1 (fun k hk => rfl) (fun j hj i hi => by rw [sA_ne (by omega)]), by rw [setA_o _ _ _ (by decide)]; exact a2⟩, a3, a4, by rw [setA_o _ _ _ (by decide)]; exact a5⟩
    have hRw : rRows (sA σ 44 (upd (σ.2.1 44) (3 * k + w) c)) (setA μ 9 (upd (μ.2 9) (3 * k + w) c)) := by
      refine ⟨n, hn, g1, g2, fun i hi => ?_⟩
      rw [sA_at, setA_at]
      unfold upd
      split
      · rfl
      · exact g5 i hi
    refine pl_0 (r := μ.2 9 (3 * k + w)) ?_ ?_ ⟨⟨T, RS, hcor⟩, RelX_x H.2 hX hXM (exA.rf δ) H.2.2.2.2.2 hK hRw⟩
    · rw [cc41]
      unfold f0_alterRow
      rw [g3, Option.bind_some, if_pos rfl, ix3, ldC_n (by show 3 * k + w < 12; omega) (by omega), g5 _ (by omega), Option.bind_some, cS_at (by show 3 * k + w < 12; omega) (by omega)]
      rfl
    · rw [mc41]
      unfold m_alterRow
      rw [g4, Option.bind_some, if_pos rfl, ix3, ldM_n (by show 3 * k + w < 12; omega) (by omega), Option.bind_some, stM_n (by show 3 * k + w < 12; omega) (by omega)]
      rfl
  · exact pl_0 (r := -9) (σ' := σ) (μ' := μ) (by rw [cc41]; unfold f0_alterRow; rw [g3]; rfl) (by rw [mc41]; unfold m_alterRow; rw [g4]; rfl) H
theorem act_both {T : Tw} {S : Int32} {RS : Rls} {δ : DS} {σ : SS} {μ : MS} (h : cor T S RS δ σ μ) (v : Int32) : (∃ a : Nat, a ≤ tP T ∧ v = nI a ∧ f0_isAct σ v = some true ∧ m_isAct μ v = some (decide (¬ tE T ≤ tY T))) ∨ (f0_isAct σ v = some false ∧ m_isAct μ v = some false) := by
  have hp6 : tP T ≤ 6 := h.2.1.1.1.1
  obtain ⟨o1, o2⟩ := cor_over h
  unfold f0_isAct m_isAct
  rw [show σ.1 0 = nI (tP T) from h.1.1.1.1, show ldM μ 0 (0 : Int32) = some (nI (tP T)) from mF_people (T := wI T 0 S) h.1.2, Option.bind_some]
  rcases in_both v 0 (tP T) (by decide) (by omega) with ⟨a, -, h1, rfl, h2, h3⟩ | ⟨h2, h3⟩
  · left
    refine ⟨a, h1, rfl, ?_, ?_⟩
    · rw [show f0_isIn (nI a) (0 : Int32) (nI (tP T)) = some true from h2]; rfl
    · rw [show m_in (nI a).toInt64 (0 : Int64) (nI (tP T)).toInt64 = some true from h3, Option.bind_some, if_pos rfl, o2, Option.bind_some]
      by_cases ho : tE T ≤ tY T
      · rw [if_pos (decide_eq_true ho), decide_eq_false (not_not_intro ho)]
      · rw [if_neg (by rw [decide_eq_true_eq]; exact ho), decide_eq_true ho]
  · right
    rw [show f0_isIn v (0 : Int32) (nI (tP T)) = some false from h2, show m_in v.toInt64 (0 : Int64) (nI (tP T)).toInt64 = some false from h3]
    exact ⟨rfl, rfl⟩
theorem judge_L {T0 : Tw} {RS : Rls} {δ : DS} {σ0 : SS} {μ0 : MS} (H : Rel σ0 δ μ0) (h0 : cor T0 (tS T0) RS δ σ0 μ0) {n : Nat} (hn : n ≤ 4) : ∀ (r k fuel fuel' : Nat) (T : Tw) (S : Int32) (σ : SS) (μ : MS), cor T S RS δ σ μ → k + r = n → r < fuel → r + 1 < fuel' → sav T0 (σ0.2.2.1 0) (μ0.2 0) σ μ → σ.2.2.2 = σ0.2.2.2 → FC σ0 σ → FM μ0 μ → σ.1 58 = nI n → μ.1 21 = nI n → (∀ i, i < 3 * n → σ.2.1 44 i = μ.2 9 i) → ansB δ (f0_judge_L15 1000 δ fuel σ false (nI k)) (m_judge_L8 1000 fuel' μ (0 : Int32) (nI k)) := by
  intro r
  induction r with
  | zero =>
    intro k fuel fuel' T S σ μ h h1 h2 h3 s e fC fM n1 n2 hr
    obtain ⟨N, rfl⟩ : ∃ n, fuel = n + 1 := ⟨fuel - 1, by omega⟩
    obtain ⟨N', rfl⟩ : ∃ n, fuel' = n + 1 := ⟨fuel' - 1, by omega⟩
    obtain ⟨σ3, μ3, b1, b2, b3⟩ := back_both (U := T) (S := S) H h0 s e fC fM (frC.rf σ) (frM.rf μ)
    refine ⟨0, σ3, μ3, ?_, ?_, b3⟩
    · show (if σ.1 58 ≤ nI k then _ else _) = _
      rw [n1, if_pos ((nN_le (by omega) (by omega)).mpr (by omega)), b1]
      rfl
    · show (if μ.1 21 ≤ nI k then _ else _) = _
      rw [n2, if_pos ((nN_le (by omega) (by omega)).mpr (by omega)), b2]
      rfl
  | succ r ih =>
    intro k fuel fuel' T S σ μ h h1 h2 h3 s e fC fM n1 n2 hr
    obtain ⟨N, rfl⟩ : ∃ n, fuel = n + 1 := ⟨fuel - 1, by omega⟩
    obtain ⟨N', rfl⟩ : ∃ n, fuel' = n + 1 := ⟨fuel' - 1, by omega⟩
    obtain ⟨N'', rfl⟩ : ∃ n, N' = n + 1 := ⟨N' - 1, by omega⟩
    have hk : ¬ nI n ≤ nI k := fun q => by have := (nN_le (by omega) (by omega)).mp q; omega
    have hd10 : tD T ≤ 10 := h.2.1.1.1.2.1
    obtain ⟨o1, o2⟩ := cor_over h
    have hix : (3 : Int32) * nI k = nI (3 * k) := nN_mul 3 k
    have hix1 : nI (3 * k) + (1 : Int32) = nI (3 * k + 1) := nN_add (3 * k) 1
    have hix2 : nI (3 * k) + (2 : Int32) = nI (3 * k + 2) := nN_add (3 * k) 2
    have hk1 : nI k + (1 : Int32) = nI (k + 1) := nI_1 k
    have hk0 : ¬ nI (k + 1) = 0 := fun q => by have := (nN_eq (a := k + 1) (b := 0) (by omega) (by decide)).mp q; omega
    -- the model ends with k + 1
    have hend : ∀ (μ' : MS), μ'.1 21 = nI n → m_judge_L8 1000 (N'' + 1) μ' (nI (k + 1)) (nI (k + 1)) = (m_putsBack 1000 μ').bind fun r1 => some (nI (k + 1), r1) := fun μ' hμ => by
      show (if μ'.1 21 ≤ nI (k + 1) then _ else _) = _
      rw [if_neg hk0]
      split <;> rfl
    have hC0 : ∀ x, f0_judge_L15 1000 δ (N + 1) σ false (nI k) = x ↔ ((f0_isAct σ (μ.2 9 (3 * k))).bind fun r3 => (if r3 = true then (f3_isOver σ 0).bind fun r5 => (if r5 = true then (f3_become σ 0 2).bind fun r12 => some (nI (k + 1), r12) else (f0_passes 1000 δ σ (μ.2 9 (3 * k) - (1 : Int32))).bind fun r6 => (ldC r6.2 44 (nI (3 * k + 1))).bind fun v7 => (if v7 = r6.1 then (ldC r6.2 44 (nI (3 * k + 2))).bind fun v9 => (f0_setOf 1000 r6.2 (1 : Int32)).bind fun r10 => (if v9 = r10 then f0_judge_L15 1000 δ N r6.2 false (nI (k + 1)) else (f3_become r6.2 0 2).bind fun r11 => some (nI (k + 1), r11)) else (f3_become r6.2 0 2).bind fun r8 => some (nI (k + 1), r8))) else (f3_become σ 0 2).bind fun r4 => some (nI (k + 1), r4))) = x := fun x => by
      have : f0_judge_L15 1000 δ (N + 1) σ false (nI k) = ((f0_isAct σ (μ.2 9 (3 * k))).bind fun r3 => (if r3 = true then (f3_isOver σ 0).bind fun r5 => (if r5 = true then (f3_become σ 0 2).bind fun r12 => some (nI (k + 1), r12) else (f0_passes 1000 δ σ (μ.2 9 (3 * k) - (1 : Int32))).bind fun r6 => (ldC r6.2 44 (nI (3 * k + 1))).bind fun v7 => (if v7 = r6.1 then (ldC r6.2 44 (nI (3 * k + 2))).bind fun v9 => (f0_setOf 1000 r6.2 (1 : Int32)).bind fun r10 => (if v9 = r10 then f0_judge_L15 1000 δ N r6.2 false (nI (k + 1)) else (f3_become r6.2 0 2).bind fun r11 => some (nI (k + 1), r11)) else (f3_become r6.2 0 2).bind fun r8 => some (nI (k + 1), r8))) else (f3_become σ 0 2).bind fun r4 => some (nI (k + 1), r4))) := by
        show (if σ.1 58 ≤ nI k then _ else _) = _
        rw [n1, if_neg hk, hix, ldC_n (by show 3 * k < 12; omega) (by omega), hr _ (by omega), Option.bind_some, hix1, hix2, hk1]
      rw [this]
    have hM0 : m_judge_L8 1000 (N'' + 1 + 1) μ (0 : Int32) (nI k) = ((m_isAct μ (μ.2 9 (3 * k))).bind fun r4 => (if r4 = true then (ldM μ 9 (nI (3 * k))).bind fun v5 => (m_goes 1000 μ v5).bind fun r6 => (ldM r6.2 9 (nI (3 * k + 1))).bind fun v7 => (if r6.1 = v7 then (m_those 1000 r6.2 (1 : Int32)).bind fun r8 => (ldM r6.2 9 (nI (3 * k + 2))).bind fun v9 => (if r8 = v9 then m_judge_L8 1000 (N'' + 1) r6.2 (0 : Int32) (nI (k + 1)) else m_judge_L8 1000 (N'' + 1) r6.2 (nI (k + 1)) (nI (k + 1))) else m_judge_L8 1000 (N'' + 1) r6.2 (nI (k + 1)) (nI (k + 1))) else m_judge_L8 1000 (N'' + 1) μ (nI (k + 1)) (nI (k + 1)))) := by
      show (if μ.1 21 ≤ nI k then _ else _) = _
      rw [n2, if_neg hk, if_pos rfl, hix, hix1, hix2, hk1, ldM_n (by show 3 * k < 12; omega) (by omega), Option.bind_some]
    have stop : ∀ (σ' : SS) (μ' : MS), frC σ σ' → frM μ μ' → ∃ σ3 μ3, f3_become σ' 0 2 = some σ3 ∧ m_putsBack 1000 μ' = some μ3 ∧ Rel σ3 δ μ3 := fun σ' μ' q1 q2 => back_both (U := T) (S := S) H h0 s e fC fM q1 q2
    rcases act_both h (μ.2 9 (3 * k)) with ⟨a, ha, hv, p1, p2⟩ | ⟨p1, p2⟩
    · by_cases ho : tE T ≤ tY T
      · obtain ⟨σ3, μ3, b1, b2, b3⟩ := stop σ μ (frC.rf σ) (frM.rf μ)
        refine ⟨nI (k + 1), σ3, μ3, ?_, ?_, b3⟩
        · rw [hC0, p1, Option.bind_some, if_pos rfl, o1, Option.bind_some, if_pos (decide_eq_true ho), b1]
          rfl
        · rw [hM0, p2, Option.bind_some, if_neg (by rw [decide_eq_true_eq]; exact not_not_intro ho), hend μ n2, b2]
          rfl
      · have hp6 : tP T ≤ 6 := h.2.1.1.1.1
        obtain ⟨σ1, μ1, g1, g2, g3, g4, g5⟩ := cor_pass h (by omega) (N := 1000) (by decide) (a := a) (by omega)
        have hd10' : tD (passT T RS a) ≤ 10 := g3.2.1.1.1.2.1
        have t1 := f_set_eq g3.1.1 hd10' (N := 1000) (by decide) (1 : Int32)
        have t2 : m_those 1000 μ1 (1 : Int32) = some (setS (passT T RS a) (1 : Int32) (tD (passT T RS a))) := by
          have := m_set_eq (T := wI (passT T RS a) 0 (S + nI (passW T RS a))) g3.1.2 hd10' (N := 1000) (by decide) (1 : Int32)
          have e : ∀ d, setS (wI (passT T RS a) 0 (S + nI (passW T RS a))) (1 : Int32) d = setS (passT T RS a) (1 : Int32) d := fun d => by
            induction d with
            | zero => rfl
            | succ d ihd =>
              unfold setS
              rw [ihd]
              rfl
          rw [e] at this
          exact this
        have r9 : ∀ i, i < 3 * n → σ1.2.1 44 i = μ1.2 9 i := fun i hi => by rw [g4.2.1 44 (by decide) (by decide), g5.2.1 9 (by decide) (by decide)]; exact hr i hi
        have n1' : σ1.1 58 = nI n := by rw [g4.2.2 58 (by decide)]; exact n1
        have n2' : μ1.1 21 = nI n := by rw [g5.1]; exact n2
        have hCa : ∀ x, f0_judge_L15 1000 δ (N + 1) σ false (nI k) = x ↔ (if μ1.2 9 (3 * k + 1) = nI (passW T RS a) then (if μ1.2 9 (3 * k + 2) = setS (passT T RS a) (1 : Int32) (tD (passT T RS a)) then f0_judge_L15 1000 δ N σ1 false (nI (k + 1)) else (f3_become σ1 0 2).bind fun r11 => some (nI (k + 1), r11)) else (f3_become σ1 0 2).bind fun r8 => some (nI (k + 1), r8)) = x := fun x => by
          rw [hC0, p1, Option.bind_some, if_pos rfl, o1, Option.bind_some, if_neg (by rw [decide_eq_true_eq]; exact ho), hv, g1, Option.bind_some]
          dsimp only
          rw [ldC_n (by show 3 * k + 1 < 12; omega) (by omega), Option.bind_some, ldC_n (by show 3 * k + 2 < 12; omega) (by omega), Option.bind_some, t1, Option.bind_some, r9 _ (by omega), r9 _ (by omega)]
        have hMa : m_judge_L8 1000 (N'' + 1 + 1) μ (0 : Int32) (nI k) = (if nI (passW T RS a) = μ1.2 9 (3 * k + 1) then (if setS (passT T RS a) (1 : Int32) (tD (passT T RS a)) = μ1.2 9 (3 * k + 2) then m_judge_L8 1000 (N'' + 1) μ1 (0 : Int32) (nI (k + 1)) else m_judge_L8 1000 (N'' + 1) μ1 (nI (k + 1)) (nI (k + 1))) else m_judge_L8 1000 (N'' + 1) μ1 (nI (k + 1)) (nI (k + 1))) := by
          rw [hM0, p2, Option.bind_some, if_pos (decide_eq_true ho), ldM_n (by show 3 * k < 12; omega) (by omega), Option.bind_some, hv, g2, Option.bind_some]
          dsimp only
          rw [ldM_n (by show 3 * k + 1 < 12; omega) (by omega), Option.bind_some, t2, Option.bind_some, ldM_n (by show 3 * k + 2 < 12; omega) (by omega), Option.bind_some]
        by_cases q1 : μ1.2 9 (3 * k + 1) = nI (passW T RS a)
        · by_cases q2 : μ1.2 9 (3 * k + 2) = setS (passT T RS a) (1 : Int32) (tD (passT T RS a))
          · obtain ⟨x, σ', μ', z1, z2, z3⟩ := ih (k + 1) N (N'' + 1) _ _ σ1 μ1 g3 (by omega) (by omega) (by omega) (sav_fr s g4 g5) (by rw [g4.1]; exact e) (fC.tr g4.FC) (fM.tr g5.FM) n1' n2' r9
            refine ⟨x, σ', μ', ?_, ?_, z3⟩
            · rw [hCa, if_pos q1, if_pos q2]; exact z1
            · rw [hMa, if_pos q1.symm, if_pos q2.symm]; exact z2
          · obtain ⟨σ3, μ3, b1, b2, b3⟩ := stop σ1 μ1 g4 g5
            refine ⟨nI (k + 1), σ3, μ3, ?_, ?_, b3⟩
            · rw [hCa, if_pos q1, if_neg q2, b1]; rfl
            · rw [hMa, if_pos q1.symm, if_neg (fun z => q2 z.symm), hend μ1 n2', b2]; rfl
        · obtain ⟨σ3, μ3, b1, b2, b3⟩ := stop σ1 μ1 g4 g5
          refine ⟨nI (k + 1), σ3, μ3, ?_, ?_, b3⟩
          · rw [hCa, if_neg q1, b1]; rfl
          · rw [hMa, if_neg (fun z => q1 z.symm), hend μ1 n2', b2]; rfl
    · obtain ⟨σ3, μ3, b1, b2, b3⟩ := stop σ μ (frC.rf σ) (frM.rf μ)
      refine ⟨nI (k + 1), σ3, μ3, ?_, ?_, b3⟩
      · rw [hC0, p1, Option.bind_some, if_neg (by decide), b1]
        rfl
      · rw [hM0, p2, Option.bind_some, if_neg (by decide), hend μ n2, b2]
        rfl
theorem pl_42 (a b c d : Int32) (σ : SS) (δ : DS) (μ : MS) (H : Rel σ δ μ) : pLaw Rel 42 a b c d σ δ μ := by
  obtain ⟨T, RS, h⟩ := H.1
  obtain ⟨n, h1, h2, h3, h4⟩ := H.2.2.1.2.1
  obtain ⟨σ1, μ1, a1, a2, a3, a4, a5, a6, a7, a8⟩ := trial_in h
  obtain ⟨x, σ', μ', z1, z2, z3⟩ := judge_L H h h1 n 0 1000 1000 T (tS T) σ1 μ1 a3 (by omega) (by omega) (by omega) a4 a5 a6 a7 (by rw [a6.1 58 (by decide)]; exact h2) (by rw [a7.1 21 (by decide)]; exact h3) (fun i hi => by rw [a6.2.1 44 (by decide), a7.2 9 (by decide)]; exact h4 i hi)
  refine pl_0 (r := x) (σ' := σ') (μ' := μ') ?_ ?_ z3
  · rw [cc42]
    unfold f0_judge
    rw [a1, Option.bind_some, show f0_judge_L15 1000 δ 1000 σ1 false (0 : Int32) = _ from z1]
    rfl
  · rw [mc42]
    unfold m_judge
    rw [a2, Option.bind_some]
    exact z2
