/-! PLAIN LAW: span, liar -/
set_option maxRecDepth 100000
theorem SG.FX {σ σ' : SS} {δ δ' : DS} (h : SG σ δ σ' δ') : (∀ k, k ≠ 56 → σ'.1 k = σ.1 k) ∧ (∀ j, σ'.2.1 j = σ.2.1 j) ∧ σ'.2.2.1 = σ.2.2.1 := ⟨h.1.1, fun j => by rw [h.1.2.1], h.1.2.2.1⟩
/-- the relation behind looks at strangers -/
theorem Rel_SG {σ σ' : SS} {δ δ' : DS} {μ μ' : MS} {T : Tw} {RS : Rls} (H : Rel σ δ μ) (h : cor T (tS T) RS δ σ μ) (hS : SG σ δ σ' δ') (hM : GF μ μ') : Rel σ' δ' μ' ∧ cor T (tS T) RS δ' σ' μ' := by
  obtain ⟨⟨s1, s2, s3, s4⟩, ⟨s5, s6, s7⟩, -⟩ := hS
  have hc : cor T (tS T) RS δ' σ' μ' := cor_id (simC_cg h.1.1 (fun k hk => s1 _ (by omega)) (fun j hj n hn => by rw [s2])) (by rw [hM.1]; exact h.M) h.2.1.1 h.2.1.2 (by rw [s4]; exact hnd_ex s5 h.2.2.1.1) (by rw [s3]; exact rulC_ext s5.ext h.2.2.1.2) (by rw [hM.1]; exact h.2.2.2)
  refine ⟨⟨⟨T, RS, hc⟩, ?_⟩, hc⟩
  obtain ⟨⟨a, b⟩, ⟨c, d, e⟩, ⟨f, g⟩, hp, i⟩ := H.2
  -- the strangers apart, a frame as of a trial
  have hF : FC σ (σ'.1, σ'.2.1, σ'.2.2.1, fun j => if j = 1 then σ.2.2.2 1 else σ'.2.2.2 j) := ⟨fun k hk => s1 k (by omega), fun j _ => by show σ'.2.1 j = _; rw [s2], fun k _ _ => by show σ'.2.2.1 k = _; rw [s3], rfl⟩
  have hFM := hM.FM
  have k1 := rKept_cg a hF hFM s5
  have k2 := rTape_cg c hF hFM
  have k3 := rRows_cg d hF hFM
  have k4 := rTrace_cg e hF hFM
  have k5 := rSheet_cg f hF hFM s5
  have k6 := rShelf_cg g hF hFM s5
  exact ⟨⟨k1, s6⟩, ⟨k2, k3, k4⟩, ⟨k5, k6⟩, by show σ'.2.1 41 0 = 0; rw [s2]; exact hp, s7⟩
/-- all strangers, both programs -/
theorem fits_both {σ : SS} {δ : DS} {μ : MS} {T : Tw} {RS : Rls} (H : Rel σ δ μ) (h : cor T (tS T) RS δ σ μ) (but : Int32) : ∃ σ' δ' μ', f0_fitsBut 1000 σ δ but = some (nI (cntB (pFit T but) 405), σ', δ') ∧ m_findFits 1000 μ but = some μ' ∧ fitM (pFit T but) 405 μ' ∧ (∀ x, fstB (pFit T but) 405 = some x → σ'.1 56 = nI x) ∧ SG σ δ σ' δ' ∧ Rel σ' δ' μ' ∧ cor T (tS T) RS δ' σ' μ' := by
  have hI := h.2.1.1
  obtain ⟨σ', δ', g1, g2, g3, -⟩ := fitsAll_C hI (but := but) 405 0 1000 (404 : Int32) σ δ h.1.1 H.2.1.2 H.2.2.2.2.2 (by decide) (by decide) rfl
  obtain ⟨μ', q1, q2, q3⟩ := fitsAll_M hI (but := but) 405 0 1000 (stF μ 16 (0 : Int32)) h.M (by decide) (by decide) ⟨rfl, fun x hx => by cases hx⟩
  have hG : GF μ μ' := (gfF μ 16 _ (by decide)).tr q3
  obtain ⟨r1, r2⟩ := Rel_SG H h g2 hG
  rw [Nat.zero_add] at g1
  refine ⟨σ', δ', μ', g1, ?_, q2, g3, g2, r1, r2⟩
  unfold m_findFits
  rw [Option.bind_some]
  exact q1
theorem nn45 (σ : SS) : nn (σ.2.2.2 1) 45 ≤ 45 := nn_le _ _
theorem pl_34 (a b c d : Int32) (σ : SS) (δ : DS) (μ : MS) (H : Rel σ δ μ) : pLaw Rel 34 a b c d σ δ μ := by
  obtain ⟨T, RS, h⟩ := H.1
  rcases in_0_3 a with ⟨w, -, hw, rfl, e1, e2⟩ | ⟨e1, e2⟩
  · obtain ⟨σ', δ', μ', g1, g2, g3, g4, g5, g6, -⟩ := fits_both H h (-1)
    have hl := g5.2.2.1
    have hn := nn45 σ
    have hu := g5.2.2.2
    have hd := dMon_eq g1 hl
    have hcl := cntB_le (pFit T (-1)) 405
    have fC : f0_span 1000 σ δ (nI w) = (if nI w = 0 then some (nI (cntB (pFit T (-1)) 405), σ', δ') else (if nI (cntB (pFit T (-1)) 405) = 0 then some ((-3 : Int32), σ', δ') else (if nI w = (1 : Int32) then some ((1 : Int32) + ((σ'.1 56) / (81 : Int32)), σ', δ') else (if nI w = (2 : Int32) then some ((1 : Int32) + (((σ'.1 56) / (9 : Int32)) - ((σ'.1 56) / (9 : Int32)) / (9 : Int32) * (9 : Int32)), σ', δ') else some ((1 : Int32) + ((σ'.1 56) - (σ'.1 56) / (9 : Int32) * (9 : Int32)), σ', δ'))))) := by
      unfold f0_span
      rw [e1, Option.bind_some, if_pos rfl, hd, Option.bind_some]
    have fM : m_span 1000 μ (nI w) = (if nI w = 0 then some (μ'.1 16, μ') else (if (μ'.1 16) = 0 then some ((-3 : Int32), μ') else (if nI w = (1 : Int32) then some (μ'.1 17, μ') else (if nI w = (2 : Int32) then some (μ'.1 18, μ') else some (μ'.1 19, μ'))))) := by
      unfold m_span
      rw [e2, Option.bind_some, if_pos rfl, g2, Option.bind_some]
      by_cases hz : nI w = 0
      · rw [if_pos hz, if_pos hz, if_pos hz]
      · rw [if_neg hz, if_neg hz, if_neg hz]
    rw [g3.1] at fM
    by_cases w0 : nI w = 0
    · rw [if_pos w0] at fC fM
      exact pl_d (by rw [cc34, fC]) (by rw [mc34, fM]) g6 hl (by omega)
    rw [if_neg w0] at fC fM
    by_cases c0 : cntB (pFit T (-1)) 405 = 0
    · have c0' : nI (cntB (pFit T (-1)) 405) = 0 := by rw [c0]; rfl
      rw [if_pos c0'] at fC fM
      exact pl_d (by rw [cc34, fC]) (by rw [mc34, fM]) g6 hl (by omega)
    have c0' : ¬ nI (cntB (pFit T (-1)) 405) = 0 := fun q => c0 ((n0 (by omega)).mp q)
    rw [if_neg c0'] at fC fM
    obtain ⟨x, hx⟩ : ∃ x, fstB (pFit T (-1)) 405 = some x := by
      cases hh : fstB (pFit T (-1)) 405 with
      | some x => exact ⟨x, rfl⟩
      | none => exact absurd ((fstB_none 405).mp hh) c0
    have hxl := fstB_lt 405 x hx
    obtain ⟨a1, a2, a3⟩ := g3.2 x hx
    have e56 := g4 x hx
    rw [e56] at fC
    rw [a1, a2, a3] at fM
    have i1 : (1 : Int32) + (nI x / (81 : Int32)) = nI (1 + x / 81) := by
      rw [show (81 : Int32) = nI 81 from rfl, nN_div (by omega) (by decide)]; exact nN_add 1 _
    have i2 : (1 : Int32) + ((nI x / (9 : Int32)) - (nI x / (9 : Int32)) / (9 : Int32) * (9 : Int32)) = nI (1 + x / 9 % 9) := by
      rw [show (9 : Int32) = nI 9 from rfl, nN_div (by omega) (by decide), nN_mod (by omega) (by decide)]; exact nN_add 1 _
    have i3 : (1 : Int32) + (nI x - nI x / (9 : Int32) * (9 : Int32)) = nI (1 + x % 9) := by
      rw [show (9 : Int32) = nI 9 from rfl, nN_mod (by omega) (by decide)]; exact nN_add 1 _
    rw [i1, i2, i3] at fC
    by_cases w1 : nI w = (1 : Int32)
    · rw [if_pos w1] at fC fM
      exact pl_d (by rw [cc34, fC]) (by rw [mc34, fM]) g6 hl (by omega)
    rw [if_neg w1] at fC fM
    by_cases w2 : nI w = (2 : Int32)
    · rw [if_pos w2] at fC fM
      exact pl_d (by rw [cc34, fC]) (by rw [mc34, fM]) g6 hl (by omega)
    rw [if_neg w2] at fC fM
    exact pl_d (by rw [cc34, fC]) (by rw [mc34, fM]) g6 hl (by omega)
  · exact pl_0 (r := -1) (σ' := σ) (μ' := μ) (by rw [cc34]; unfold f0_span; rw [e1]; rfl) (by rw [mc34]; unfold m_span; rw [e2]; rfl) H
theorem liar_L {T : Tw} {RS : Rls} : ∀ (m r fuel : Nat) (σ : SS) (δ : DS) (μ : MS), Rel σ δ μ → cor T (tS T) RS δ σ μ → r + m = tR T → m < fuel → ∃ x σ' δ' μ', f0_liar_L13 1000 fuel σ δ (nI r) = some (x, σ', δ') ∧ m_liar_L20 1000 fuel μ true (nI r) = some (x, μ') ∧ Rel σ' δ' μ' ∧ δ.2 ≤ δ'.2 ∧ δ'.2 + nn (σ'.2.2.2 1) 45 ≤ δ.2 + nn (σ.2.2.2 1) 45 := by
  intro m
  induction m with
  | zero =>
    intro r fuel σ δ μ H h h1 h2
    obtain ⟨n, rfl⟩ : ∃ n, fuel = n + 1 := ⟨fuel - 1, by omega⟩
    have hr6 : tR T ≤ 6 := h.2.1.1.1.2.2.2.2.2
    have hl : nI (tR T) ≤ nI r := (nN_le (by omega) (by omega)).mpr (by omega)
    refine ⟨-3, σ, δ, μ, ?_, ?_, H, Nat.le_refl _, Nat.le_refl _⟩
    · show (if σ.1 5 ≤ nI r then _ else _) = _
      rw [show σ.1 5 = nI (tR T) from h.1.1.1.2.2.2.2.2.1, if_pos hl, if_pos hl]
    · show (ldM μ 0 (6 : Int32)).bind _ = _
      rw [mF_reports h.M, Option.bind_some, if_pos hl]
  | succ m ih =>
    intro r fuel σ δ μ H h h1 h2
    obtain ⟨n, rfl⟩ : ∃ n, fuel = n + 1 := ⟨fuel - 1, by omega⟩
    have hr6 : tR T ≤ 6 := h.2.1.1.1.2.2.2.2.2
    have hl : ¬ nI (tR T) ≤ nI r := fun z => by have := (nN_le (by omega) (by omega)).mp z; omega
    obtain ⟨σ1, δ1, μ1, g1, g2, g3, g4, g5, g6, g7⟩ := fits_both H h (nI r)
    have hcl := cntB_le (pFit T (nI r)) 405
    have hC : f0_liar_L13 1000 (n + 1) σ δ (nI r) = (if nI (cntB (pFit T (nI r)) 405) = 0 then f0_liar_L13 1000 n σ1 δ1 (nI (r + 1)) else some (nI r, σ1, δ1)) := by
      show (if σ.1 5 ≤ nI r then _ else _) = _
      rw [show σ.1 5 = nI (tR T) from h.1.1.1.2.2.2.2.2.1, if_neg hl, dMon_eq g1 g5.2.2.1, Option.bind_some]
      dsimp only
      rw [show σ1.1 5 = nI (tR T) from g7.1.1.1.2.2.2.2.2.1, if_neg hl, nI_1]
    have hM : m_liar_L20 1000 (n + 1) μ true (nI r) = (if nI (cntB (pFit T (nI r)) 405) ≤ 0 then m_liar_L20 1000 n μ1 true (nI (r + 1)) else some (nI r, μ1)) := by
      show (ldM μ 0 (6 : Int32)).bind _ = _
      rw [mF_reports h.M, Option.bind_some, if_neg hl, if_pos rfl, g2, Option.bind_some, g3.1, nI_1]
    rw [hC, hM]
    by_cases c0 : cntB (pFit T (nI r)) 405 = 0
    · rw [if_pos (show nI (cntB (pFit T (nI r)) 405) = 0 by rw [c0]; rfl), if_pos (show nI (cntB (pFit T (nI r)) 405) ≤ 0 by rw [c0]; decide)]
      obtain ⟨x, σ', δ', μ', z1, z2, z3, z4, z5⟩ := ih (r + 1) n σ1 δ1 μ1 g6 g7 (by omega) (by omega)
      exact ⟨x, σ', δ', μ', z1, z2, z3, Nat.le_trans g5.2.2.1 z4, Nat.le_trans z5 g5.2.2.2⟩
    · rw [if_neg (fun q => c0 ((n0 (by omega)).mp q)), if_neg (fun q => c0 (by have := (nN_le (a := cntB (pFit T (nI r)) 405) (b := 0) (by omega) (by decide)).mp q; omega))]
      exact ⟨nI r, σ1, δ1, μ1, rfl, rfl, g6, g5.2.2.1, g5.2.2.2⟩
theorem pl_35 (a b c d : Int32) (σ : SS) (δ : DS) (μ : MS) (H : Rel σ δ μ) : pLaw Rel 35 a b c d σ δ μ := by
  obtain ⟨T, RS, h⟩ := H.1
  have hr6 : tR T ≤ 6 := h.2.1.1.1.2.2.2.2.2
  obtain ⟨σ1, δ1, μ1, g1, g2, g3, g4, g5, g6, g7⟩ := fits_both H h (-1)
  have hcl := cntB_le (pFit T (-1)) 405
  have hn := nn45 σ
  have hu := g5.2.2.2
  have hC : f0_liar 1000 σ δ = (if nI (cntB (pFit T (-1)) 405) ≤ 0 then f0_liar_L13 1000 1000 σ1 δ1 (0 : Int32) else some ((-3 : Int32), σ1, δ1)) := by
    unfold f0_liar
    rw [dMon_eq g1 g5.2.2.1, Option.bind_some]
  have hM : m_liar 1000 μ = (if nI (cntB (pFit T (-1)) 405) = 0 then m_liar_L20 1000 1000 μ1 true (0 : Int32) else m_liar_L20 1000 1000 μ1 false (0 : Int32)) := by
    unfold m_liar
    rw [g2, Option.bind_some, g3.1]
  by_cases c0 : cntB (pFit T (-1)) 405 = 0
  · rw [if_pos (show nI (cntB (pFit T (-1)) 405) ≤ 0 by rw [c0]; decide)] at hC
    rw [if_pos (show nI (cntB (pFit T (-1)) 405) = 0 by rw [c0]; rfl)] at hM
    obtain ⟨x, σ', δ', μ', z1, z2, z3, z4, z5⟩ := liar_L (tR T) 0 1000 σ1 δ1 μ1 g6 g7 (by omega) (by omega)
    have h1 := g5.2.2.1
    exact pl_d (r := x) (σ' := σ') (δ' := δ') (μ' := μ') (by rw [cc35, hC]; exact z1) (by rw [mc35, hM]; exact z2) z3 (by omega) (by omega)
  · rw [if_neg (fun q => c0 (by have := (nN_le (a := cntB (pFit T (-1)) 405) (b := 0) (by omega) (by decide)).mp q; omega))] at hC
    rw [if_neg (fun q => c0 ((n0 (by omega)).mp q))] at hM
    refine pl_d (r := -3) (σ' := σ1) (δ' := δ1) (μ' := μ1) (by rw [cc35, hC]) ?_ g6 g5.2.2.1 (by omega)
    rw [mc35, hM]
    show (ldM μ1 0 (6 : Int32)).bind _ = _
    rw [mF_reports g7.M, Option.bind_some]
    split
    · rfl
    · rw [if_neg (by decide)]
