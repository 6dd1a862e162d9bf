/-! PLAIN LAW: keep, again -/
set_option maxRecDepth 100000
theorem m_keep_L {N : Nat} : ∀ (r i fuel : Nat) (μ : MS), i + r = 368 → r < fuel → (∀ k, k < i → μ.2 1 k = μ.2 0 k) → ∃ μ', m_keep_L2 N fuel μ (nI i) = some ((1 : Int32), stF μ' 3 (bI true)) ∧ μ'.1 = μ.1 ∧ (∀ j, j ≠ 1 → μ'.2 j = μ.2 j) ∧ ∀ k, k < 368 → μ'.2 1 k = μ.2 0 k := by
  intro r
  induction r with
  | zero =>
    intro i fuel μ h1 h2 h
    obtain ⟨n, rfl⟩ : ∃ n, fuel = n + 1 := ⟨fuel - 1, by omega⟩
    refine ⟨μ, ?_, rfl, fun _ _ => rfl, fun k hk => h k (by omega)⟩
    show (if nI 368 ≤ nI i then _ else _) = _
    rw [if_pos ((nN_le (by omega) (by omega)).mpr (by omega))]
    rfl
  | succ r ih =>
    intro i fuel μ h1 h2 h
    obtain ⟨n, rfl⟩ : ∃ n, fuel = n + 1 := ⟨fuel - 1, by omega⟩
    obtain ⟨μ', g1, g2, g3, g4⟩ := ih (i + 1) n (setA μ 1 (upd (μ.2 1) i (μ.2 0 i))) (by omega) (by omega) (fun k hk => by
      rw [setA_at, setA_o _ _ _ (by decide)]
      unfold upd
      split
      · next e => rw [e]
      · exact h k (by omega))
    refine ⟨μ', ?_, g2, fun j hj => by rw [g3 j hj, setA_o _ _ _ hj], fun k hk => by rw [g4 k hk, setA_o _ _ _ (by decide)]⟩
    show (if nI 368 ≤ nI i then _ else _) = _
    rw [if_neg (fun q => by have := (nN_le (by omega) (by omega)).mp q; omega), ldM_n (by show i < 368; omega) (by omega), Option.bind_some, stM_n (by show i < 368; omega) (by omega), Option.bind_some, nI_1]
    exact g1
theorem m_again_L {N : Nat} : ∀ (r i fuel : Nat) (μ : MS), i + r = 368 → r < fuel → (∀ k, k < i → μ.2 0 k = μ.2 1 k) → ∃ μ', m_again_L12 N fuel μ (nI i) = ((ldM μ' 0 (0 : Int32)).bind fun v1 => some (v1, μ')) ∧ μ'.1 = μ.1 ∧ (∀ j, j ≠ 0 → μ'.2 j = μ.2 j) ∧ ∀ k, k < 368 → μ'.2 0 k = μ.2 1 k := by
  intro r
  induction r with
  | zero =>
    intro i fuel μ h1 h2 h
    obtain ⟨n, rfl⟩ : ∃ n, fuel = n + 1 := ⟨fuel - 1, by omega⟩
    refine ⟨μ, ?_, rfl, fun _ _ => rfl, fun k hk => h k (by omega)⟩
    show (if nI 368 ≤ nI i then _ else _) = _
    rw [if_pos ((nN_le (by omega) (by omega)).mpr (by omega))]
  | succ r ih =>
    intro i fuel μ h1 h2 h
    obtain ⟨n, rfl⟩ : ∃ n, fuel = n + 1 := ⟨fuel - 1, by omega⟩
    obtain ⟨μ', g1, g2, g3, g4⟩ := ih (i + 1) n (setA μ 0 (upd (μ.2 0) i (μ.2 1 i))) (by omega) (by omega) (fun k hk => by
      rw [setA_at, setA_o _ _ _ (by decide)]
      unfold upd
      split
      · next e => rw [e]
      · exact h k (by omega))
    refine ⟨μ', ?_, g2, fun j hj => by rw [g3 j hj, setA_o _ _ _ hj], fun k hk => by rw [g4 k hk, setA_o _ _ _ (by decide)]⟩
    show (if nI 368 ≤ nI i then _ else _) = _
    rw [if_neg (fun q => by have := (nN_le (by omega) (by omega)).mp q; omega), ldM_n (by show i < 368; omega) (by omega), Option.bind_some, stM_n (by show i < 368; omega) (by omega), Option.bind_some, nI_1]
    exact g1
theorem pl_53 (a b c d : Int32) (σ : SS) (δ : DS) (μ : MS) (H : Rel σ δ μ) : pLaw Rel 53 a b c d σ δ μ := by
  obtain ⟨T, RS, h⟩ := H.1
  have hC := h.1.1
  have hM := h.M
  obtain ⟨σ1, a1, a2, a3, a4, a5, a6, a7, a8⟩ := become_eq σ (t0 := 1) (t1 := 0) (by decide) (by decide) (by decide)
  obtain ⟨μ1, b1, b2, b3, b4⟩ := m_keep_L (N := 1000) 368 0 1000 μ (by omega) (by omega) (fun k hk => absurd hk (by omega))
  have i36 : ∀ k, k ≠ 36 → (sI σ1 36 (bI true)).1 k = σ1.1 k := fun k hk => upd_ne hk
  have hC0 : simC T 0 (sI σ1 36 (bI true)) := simC_cg hC (fun k hk => by rw [i36 _ (by omega)]; exact a3 _ (by omega)) (fun j hj n hn => by show σ1.2.1 (13 * 0 + j) n = _; rw [a5 _ (by omega)])
  have hC1 : simC T 1 (sI σ1 36 (bI true)) := simC_cg hC (fun k hk => by rw [i36 _ (by omega)]; exact a2 k hk) (fun j hj n hn => a4 j hj n hn)
  have r0 : σ1.2.2.1 0 = σ.2.2.1 0 := a7 0 (by decide)
  have r1 : σ1.2.2.1 1 = σ.2.2.1 0 := a6 trivial
  have m0 : (stF μ1 3 (bI true)).2 0 = μ.2 0 := b3 0 (by decide)
  have m1 : ∀ i, i < 368 → (stF μ1 3 (bI true)).2 1 i = μ.2 0 i := b4
  have hcor : cor T (tS T) RS δ (sI σ1 36 (bI true)) (stF μ1 3 (bI true)) := cor_id hC0 (by rw [m0]; exact hM) h.2.1.1 h.2.1.2 (by show hnd δ (σ1.2.2.2 0) T; rw [a8]; exact h.2.2.1.1) (by show rulC δ (σ1.2.2.1 0) RS; rw [r0]; exact h.2.2.1.2) (by rw [m0]; exact h.2.2.2)
  have hX : FX σ (sI σ1 36 (bI true)) := ⟨fun k hk => by rw [i36 _ (by omega)]; exact a3 _ (by omega), fun j hj => a5 j (by omega), fun k hk => a7 k (by omega), by show σ1.2.2.2 1 = _; rw [a8]⟩
  have hXM : FXM μ (stF μ1 3 (bI true)) := ⟨fun k hk => by rw [stF_ne (by omega), b2], fun j hj => b3 j (by omega)⟩
  have hK : rKept (sI σ1 36 (bI true)) δ (stF μ1 3 (bI true)) := ⟨⟨rfl, Or.inr rfl⟩, fun _ => ⟨T, RS, ⟨hC1, simM_cg hM (fun i hi _ => m1 i (by omega))⟩, h.2.1, by show rulC δ (σ1.2.2.1 1) RS; rw [r1]; exact h.2.2.1.2, rulM_cg h.2.2.2 h.2.1.2 (fun i hi _ => m1 i hi)⟩⟩
  have hRw : rRows (sI σ1 36 (bI true)) (stF μ1 3 (bI true)) := by
    obtain ⟨n, h1, h2, h3, h4⟩ := H.2.2.1.2.1
    refine ⟨n, h1, by rw [i36 _ (by decide), a3 _ (by omega)]; exact h2, by rw [stF_ne (by decide), b2]; exact h3, fun i hi => ?_⟩
    show σ1.2.1 44 i = μ1.2 9 i
    rw [a5 _ (by omega), b3 _ (by decide)]
    exact h4 i hi
  refine pl_0 (r := 1) (σ' := sI σ1 36 (bI true)) (μ' := stF μ1 3 (bI true)) ?_ ?_ ⟨⟨T, RS, hcor⟩, RelX_x H.2 hX hXM (exA.rf δ) H.2.2.2.2.2 hK hRw⟩
  · rw [cc53]
    unfold f0_keep
    rw [a1]
    rfl
  · rw [mc53]
    exact b1
/-- hands made anew, one after another -/
theorem again_L {K : Tw} (hI : Inv K) {σ0 : SS} {δ0 : DS} : ∀ (r k fuel : Nat) (σ : SS) (δ : DS), simC K 0 σ → k + r = tP K → r < fuel → (∀ p, p < k → ∃ q, σ.2.2.2 0 p = some q ∧ isHand δ q (tA K 0 p) p (tA K 1 p)) → fresh δ → ∃ σ' δ', f0_again_L23 1000 fuel σ δ (nI k) = some (nI (tP K), σ', δ') ∧ simC K 0 σ' ∧ hnd δ' (σ'.2.2.2 0) K ∧ FC σ σ' ∧ exA δ δ' ∧ fresh δ' ∧ δ.2 ≤ δ'.2 ∧ δ'.2 ≤ δ.2 + r ∧ σ'.2.2.1 = σ.2.2.1 := by
  have hp6 : tP K ≤ 6 := hI.1.1
  intro r
  induction r with
  | zero =>
    intro k fuel σ δ hC h1 h2 hH hf
    obtain ⟨n, rfl⟩ : ∃ n, fuel = n + 1 := ⟨fuel - 1, by omega⟩
    have hk : k = tP K := by omega
    refine ⟨σ, δ, ?_, hC, fun p hp => hH p (by omega), FC.rf σ, exA.rf δ, hf, Nat.le_refl _, Nat.le_refl _, rfl⟩
    show (if σ.1 0 ≤ nI k then _ else _) = _
    rw [show σ.1 0 = nI (tP K) from hC.1.1, if_pos ((nN_le (by omega) (by omega)).mpr (by omega))]
  | succ r ih =>
    intro k fuel σ δ hC h1 h2 hH hf
    obtain ⟨n, rfl⟩ : ∃ n, fuel = n + 1 := ⟨fuel - 1, by omega⟩
    have hkk := (hI.2.1 k (by omega)).1
    have hl : δ.2 ≤ (dAdd δ (6 + tA K 0 k) [.int (nI k), .int (nI (tA K 1 k))]).2 := Nat.le_succ _
    have hE := exA_add δ (6 + tA K 0 k) [.int (nI k), .int (nI (tA K 1 k))]
    have hr := dMonV_eq (renew_eq hC hf (p := k) (by omega) hkk) hl
    obtain ⟨σ', δ', g1, g2, g3, g4, g5, g6, g7, g8, g9⟩ := ih (k + 1) n (sR σ 0 (va_up (σ.2.2.2 0) k (some δ.2))) (dAdd δ (6 + tA K 0 k) [.int (nI k), .int (nI (tA K 1 k))]) hC (by omega) (by omega) (fun p hp => by
      show ∃ q, va_up (σ.2.2.2 0) k (some δ.2) p = some q ∧ _
      unfold va_up
      by_cases e : p = k
      · rw [if_pos e]
        subst e
        exact ⟨δ.2, rfl, isHand_add hf _ _ _⟩
      · rw [if_neg e]
        obtain ⟨q, u1, u2⟩ := hH p (by omega)
        exact ⟨q, u1, isHand_ex hE u2⟩) (fresh_add hf _ _)
    rw [dAdd_2] at g7 g8
    refine ⟨σ', δ', ?_, g2, g3, FC.tr ⟨fun _ _ => rfl, fun _ _ => rfl, fun _ _ _ => rfl, rfl⟩ g4, hE.tr g5, g6, by omega, by omega, g9⟩
    show (if σ.1 0 ≤ nI k then _ else _) = _
    rw [show σ.1 0 = nI (tP K) from hC.1.1, if_neg (fun q => by have := (nN_le (by omega) (by omega)).mp q; omega), hr, Option.bind_some, nI_1]
    exact g1
theorem pl_54 (a b c d : Int32) (σ : SS) (δ : DS) (μ : MS) (H : Rel σ δ μ) : pLaw Rel 54 a b c d σ δ μ := by
  obtain ⟨⟨k1, k2⟩, k3⟩ := H.2.1.1
  rcases k2 with hk | hk
  · refine pl_0 (r := -3) (σ' := σ) (μ' := μ) ?_ ?_ H
    · rw [cc54]
      unfold f0_again
      rw [if_pos (by rw [k1]; exact hk)]
    · rw [mc54]
      unfold m_again
      rw [if_pos hk]
  · obtain ⟨K, RK, ⟨c1, c2⟩, ⟨c3, c4⟩, c5, c6⟩ := k3 hk
    have hp6 : tP K ≤ 6 := c3.1.1
    obtain ⟨σ1, a1, a2, a3, a4, a5, a6, a7, a8⟩ := become_eq σ (t0 := 0) (t1 := 1) (by decide) (by decide) (by decide)
    obtain ⟨μ1, b1, b2, b3, b4⟩ := m_again_L (N := 1000) 368 0 1000 μ (by omega) (by omega) (fun k hk => absurd hk (by omega))
    have hC0 : simC K 0 σ1 := simC_cg c1 a2 a4
    obtain ⟨σ2, δ2, g1, g2, g3, g4, g5, g6, g7, g8, g9⟩ := again_L (σ0 := σ) (δ0 := δ) c3 (tP K) 0 1000 σ1 δ hC0 (by omega) (by omega) (fun p hp => absurd hp (by omega)) H.2.2.2.2.2
    have hM0 : simM K (μ1.2 0) := simM_cg c2 (fun i hi _ => b4 i (by omega))
    have hR0 : rulM (μ1.2 0) RK := rulM_cg c6 c4 (fun i hi _ => b4 i hi)
    have hF1 : FC σ σ1 := ⟨fun k hk => a3 k (by omega), fun j hj => a5 j (by omega), fun k h1 h2 => a7 k (by omega), by rw [a8]⟩
    have hFM : FM μ μ1 := ⟨fun k _ => by rw [b2], fun j hj => b3 j (by omega)⟩
    refine pl_d (r := nI (tP K)) (σ' := σ2) (δ' := δ2) (μ' := μ1) ?_ ?_ ⟨⟨K, RK, cor_id g2 hM0 c3 c4 g3 (by rw [g9, a6 trivial]; exact rulC_ext g5.ext c5) hR0⟩, RelX_cg H.2 (hF1.tr g4) hFM g5 g6⟩ g7 (by omega)
    · rw [cc54]
      unfold f0_again
      rw [if_neg (by rw [k1, hk]; decide), a1, Option.bind_some]
      exact g1
    · rw [mc54]
      unfold m_again
      rw [if_neg (by rw [hk]; decide), show (0 : Int32) = nI 0 from rfl, b1, show (0 : Int32) = nI 0 from rfl, mF_at (by decide), show μ1.2 0 0 = nI (tP K) from hM0.1.1]
      rfl
