/-! PLAIN LAW: right hands do what they are told -/
set_option maxRecDepth 100000
def rhV (T : Tw) (d : Nat) : Nat := match tN T d with | none => 1 | some n => if tA T 7 n = 1 then 1 else 4
def rhS (T : Tw) (d : Nat) : Tw := if tA T 4 d = tY T ∧ tA T 7 d = 0 then uS T d (rhV T d) else T
def rhF (T : Tw) (a : Nat) : Nat → Tw
  | 0 => T
  | r + 1 => rhS (rhF T a r) (a + r)
theorem rhV_le (T : Tw) (d : Nat) : rhV T d ≤ 4 := by
  unfold rhV
  split
  · decide
  · split <;> decide
theorem rhS_dB {T : Tw} (h : dB T) (d : Nat) : dB (rhS T d) := by
  unfold rhS
  split
  · exact dB_so h d (rhV_le T d)
  · exact h
theorem aliS_rhS (T : Tw) (d : Nat) : aliS T (rhS T d) := by
  unfold rhS
  split
  · exact aliS_uS T d _
  · exact aliS.rf T
theorem aliS_rhF (T : Tw) (a r : Nat) : aliS T (rhF T a r) := by
  induction r with
  | zero => exact aliS.rf T
  | succ r ih => exact ih.tr (aliS_rhS _ _)
theorem rhF_one (T : Tw) (a r : Nat) : rhF T a (r + 1) = rhF (rhS T a) (a + 1) r := by
  induction r with
  | zero => rfl
  | succ r ih =>
    show rhS (rhF T a (r + 1)) (a + (r + 1)) = rhS (rhF (rhS T a) (a + 1) r) (a + 1 + r)
    rw [ih]
    congr 1
    omega
theorem f_right_L {N : Nat} : ∀ (r : Nat) (T : Tw) (σ : SS) (d fuel : Nat), simC T 0 σ → dB T → (∀ k, k < tD T → tA T 4 k ≤ 15) → tY T ≤ 16 → d + r = tD T → r < fuel → ∃ σ', f0_rightHands_L2 N fuel σ (nI d) = some σ' ∧ simC (rhF T d r) 0 σ' ∧ frC σ σ' := by
  intro r
  induction r with
  | zero =>
    intro T σ d fuel hC hB hw hy h1 h2
    have hb := hB.1
    obtain ⟨n, rfl⟩ : ∃ n, fuel = n + 1 := ⟨fuel - 1, by omega⟩
    refine ⟨σ, ?_, hC, frC.rf σ⟩
    show (if (σ.1 1) ≤ nI d then _ else _) = _
    rw [show σ.1 1 = nI (tD T) from hC.1.2.1, if_pos ((nN_le (by omega) (by omega)).mpr (by omega))]
  | succ r ih =>
    intro T σ d fuel hC hB hw hy h1 h2
    have hb := hB.1
    obtain ⟨n, rfl⟩ : ∃ n, fuel = n + 1 := ⟨fuel - 1, by omega⟩
    have hd := hB.2 d (by omega)
    have hwd := hw d (by omega)
    have e1 : nI d + 1 = nI (d + 1) := nI_1 d
    have al := aliS_rhS T d
    have next : ∀ σ1, simC (rhS T d) 0 σ1 → frC σ σ1 → ∃ σ', f0_rightHands_L2 N n σ1 (nI d + 1) = some σ' ∧ simC (rhF T d (r + 1)) 0 σ' ∧ frC σ σ' := by
      intro σ1 hC1 hf
      rw [e1, rhF_one]
      obtain ⟨σ', g1, g2, g3⟩ := ih (rhS T d) σ1 (d + 1) n hC1 (rhS_dB hB d) (by rw [al.nums.2.1, al.2.1 4 (by decide)]; exact hw) (by rw [al.nums.2.2.2.1]; exact hy) (by rw [al.nums.2.1]; omega) (by omega)
      exact ⟨σ', g1, g2, hf.tr g3⟩
    have go : ∀ v, rhS T d = uS T d v → ∃ σ', (stC σ 7 (nI d) (nI v)).bind (fun σ3 => f0_rightHands_L2 N n σ3 (nI d + 1)) = some σ' ∧ simC (rhF T d (r + 1)) 0 σ' ∧ frC σ σ' := by
      intro v hf
      rw [stC_n (by show d < 10; omega) (by omega)]
      simp only [Option.bind_some]
      exact next _ (by rw [hf]; exact simC_so hC d v) (frC_so σ _)
    have stay : rhS T d = T → ∃ σ', f0_rightHands_L2 N n σ (nI d + 1) = some σ' ∧ simC (rhF T d (r + 1)) 0 σ' ∧ frC σ σ' := fun hf => next σ (by rw [hf]; exact hC) (frC.rf σ)
    show ∃ σ', (if (σ.1 1) ≤ nI d then _ else _) = some σ' ∧ _
    rw [show σ.1 1 = nI (tD T) from hC.1.2.1, if_neg (fun h => by have := (nN_le (by omega) (by omega)).mp h; omega)]
    rw [cD_when hC (by omega), cD_so hC (by omega), cD_need hC (by omega), show σ.1 3 = nI (tY T) from hC.1.2.2.2.1]
    simp only [Option.bind_some]
    by_cases h3 : tA T 4 d = tY T
    · rw [if_pos (by rw [h3])]
      by_cases h4 : tA T 7 d = 0
      · rw [if_pos (by rw [h4]; rfl)]
        have hs : rhS T d = uS T d (rhV T d) := by unfold rhS; rw [if_pos ⟨h3, h4⟩]
        cases hnd : tN T d with
        | none =>
          rw [if_pos (by decide)]
          exact go 1 (by rw [hs]; unfold rhV; rw [hnd])
        | some nn =>
          have hnn := hd.2 nn hnd
          have hsn := (hB.2 nn (by omega)).1
          rw [if_neg (by show ¬ nI nn < 0; exact nN_neg (by omega))]
          simp only [nE]
          rw [cD_so hC (d := nn) (by omega)]
          simp only [Option.bind_some]
          by_cases h5 : tA T 7 nn = 1
          · rw [if_pos (by rw [h5]; rfl)]
            exact go 1 (by rw [hs]; unfold rhV; rw [hnd]; dsimp only; rw [if_pos h5])
          · rw [if_neg (show ¬ nI (tA T 7 nn) = (1 : Int32) from fun h => h5 ((nN_eq (b := 1) (by omega) (by decide)).mp h))]
            exact go 4 (by rw [hs]; unfold rhV; rw [hnd]; dsimp only; rw [if_neg h5])
      · rw [if_neg (show ¬ nI (tA T 7 d) = (0 : Int32) from fun h => h4 ((nN_eq (b := 0) (by omega) (by decide)).mp h))]
        exact stay (by unfold rhS; rw [if_neg (fun h => h4 h.2)])
    · rw [if_neg (fun h => h3 ((nN_eq (by omega) (by omega)).mp h))]
      exact stay (by unfold rhS; rw [if_neg (fun h => h3 h.1)])
/-- the model's first loop: then it goes on with hands -/
theorem m_right_L {N : Nat} (x1 : Int32) : ∀ (r : Nat) (T : Tw) (μ : MS) (d fuel : Nat), simM T (μ.2 0) → dB T → (∀ k, k < tD T → tA T 4 k ≤ 15) → tY T ≤ 16 → d + r = tD T → r < fuel → ∃ μ', m_goes_L9 N fuel μ x1 (nI (tY T)) (nI d) = m_goes_L85 N N μ' x1 (nI (tY T)) (0 : Int32) ∧ simM (rhF T d r) (μ'.2 0) ∧ frM μ μ' := by
  intro r
  induction r with
  | zero =>
    intro T μ d fuel hM hB hw hy h1 h2
    have hb := hB.1
    obtain ⟨n, rfl⟩ : ∃ n, fuel = n + 1 := ⟨fuel - 1, by omega⟩
    refine ⟨μ, ?_, hM, frM.rf μ⟩
    show (ldM μ 0 (5 : Int32)).bind _ = _
    rw [mF_deeds hM]
    simp only [Option.bind_some]
    rw [if_pos ((nN_le (by omega) (by omega)).mpr (by omega))]
  | succ r ih =>
    intro T μ d fuel hM hB hw hy h1 h2
    have hb := hB.1
    obtain ⟨n, rfl⟩ : ∃ n, fuel = n + 1 := ⟨fuel - 1, by omega⟩
    have hd := hB.2 d (by omega)
    have hwd := hw d (by omega)
    have e1 : nI d + 1 = nI (d + 1) := nI_1 d
    have al := aliS_rhS T d
    have next : ∀ μ1, simM (rhS T d) (μ1.2 0) → frM μ μ1 → ∃ μ', m_goes_L9 N n μ1 x1 (nI (tY T)) (nI d + 1) = m_goes_L85 N N μ' x1 (nI (tY T)) (0 : Int32) ∧ simM (rhF T d (r + 1)) (μ'.2 0) ∧ frM μ μ' := by
      intro μ1 hM1 hf
      rw [e1, rhF_one]
      obtain ⟨μ', g1, g2, g3⟩ := ih (rhS T d) μ1 (d + 1) n hM1 (rhS_dB hB d) (by rw [al.nums.2.1, al.2.1 4 (by decide)]; exact hw) (by rw [al.nums.2.2.2.1]; exact hy) (by rw [al.nums.2.1]; omega) (by omega)
      rw [al.nums.2.2.2.1] at g1
      exact ⟨μ', g1, g2, hf.tr g3⟩
    have go : ∀ v, rhS T d = uS T d v → ∃ μ', (stM μ 0 (nI (26 + 5 * d + 4)) (nI v)).bind (fun μ3 => m_goes_L9 N n μ3 x1 (nI (tY T)) (nI d + 1)) = m_goes_L85 N N μ' x1 (nI (tY T)) (0 : Int32) ∧ simM (rhF T d (r + 1)) (μ'.2 0) ∧ frM μ μ' := by
      intro v hf
      rw [m_so_st (by omega)]
      simp only [Option.bind_some]
      exact next _ (by rw [setA_0, hf]; exact simM_so hM (by omega) v) (frM_so μ (by omega) _)
    have stay : rhS T d = T → ∃ μ', m_goes_L9 N n μ x1 (nI (tY T)) (nI d + 1) = m_goes_L85 N N μ' x1 (nI (tY T)) (0 : Int32) ∧ simM (rhF T d (r + 1)) (μ'.2 0) ∧ frM μ μ' := fun hf => next μ (by rw [hf]; exact hM) (frM.rf μ)
    show ∃ μ', (ldM μ 0 (5 : Int32)).bind _ = _ ∧ _
    rw [mF_deeds hM]
    simp only [Option.bind_some]
    rw [if_neg (fun h => by have := (nN_le (by omega) (by omega)).mp h; omega)]
    rw [mD_when hM (by omega), mD_so hM (by omega), mD_need hM (by omega)]
    simp only [Option.bind_some, m_spot_so]
    by_cases h3 : tA T 4 d = tY T
    · rw [if_pos (by rw [h3])]
      by_cases h4 : tA T 7 d = 0
      · rw [if_pos (by rw [h4]; rfl)]
        have hs : rhS T d = uS T d (rhV T d) := by unfold rhS; rw [if_pos ⟨h3, h4⟩]
        cases hnd : tN T d with
        | none =>
          rw [if_pos (by decide)]
          exact go 1 (by rw [hs]; unfold rhV; rw [hnd])
        | some nn =>
          have hnn := hd.2 nn hnd
          have hsn := (hB.2 nn (by omega)).1
          rw [if_neg (by show ¬ nI nn < 0; exact nN_neg (by omega))]
          simp only [nE]
          rw [mD_so hM (d := nn) (by omega)]
          simp only [Option.bind_some]
          by_cases h5 : tA T 7 nn = 1
          · rw [if_pos (by rw [h5]; rfl)]
            exact go 1 (by rw [hs]; unfold rhV; rw [hnd]; dsimp only; rw [if_pos h5])
          · rw [if_neg (show ¬ nI (tA T 7 nn) = (1 : Int32) from fun h => h5 ((nN_eq (b := 1) (by omega) (by decide)).mp h))]
            exact go 4 (by rw [hs]; unfold rhV; rw [hnd]; dsimp only; rw [if_neg h5])
      · rw [if_neg (show ¬ nI (tA T 7 d) = (0 : Int32) from fun h => h4 ((nN_eq (b := 0) (by omega) (by decide)).mp h))]
        exact stay (by unfold rhS; rw [if_neg (fun h => h4 h.2)])
    · rw [if_neg (fun h => h3 ((nN_eq (by omega) (by omega)).mp h))]
      exact stay (by unfold rhS; rw [if_neg (fun h => h3 h.1)])
/-- right hands leave a town as it can be -/
theorem rhF_closed {T : Tw} (hI : Inv T) : ∀ r, r ≤ tD T → (∀ k, k < tD T → tA (rhF T 0 r) 7 k = 1 → ∀ n, tN T k = some n → tA (rhF T 0 r) 7 n = 1) ∧ (∀ k, tA T 7 k = 1 → tA (rhF T 0 r) 7 k = 1) ∧ (∀ k, r ≤ k → tA (rhF T 0 r) 7 k = tA T 7 k) := by
  intro r
  induction r with
  | zero => intro _; exact ⟨fun k hk h n hn => (hI.2.2.1 k hk).2.2.2.2.2 h n hn, fun _ h => h, fun _ _ => rfl⟩
  | succ r ih =>
    intro hr
    obtain ⟨i1, i2, i3⟩ := ih (by omega)
    have al := aliS_rhF T 0 r
    have es : ∀ k, tA (rhF T 0 (r + 1)) 7 k = if k = r ∧ (tA (rhF T 0 r) 4 r = tY (rhF T 0 r) ∧ tA (rhF T 0 r) 7 r = 0) then rhV (rhF T 0 r) r else tA (rhF T 0 r) 7 k := fun k => by
      show tA (rhS (rhF T 0 r) (0 + r)) 7 k = _
      rw [Nat.zero_add]
      unfold rhS
      by_cases h : tA (rhF T 0 r) 4 r = tY (rhF T 0 r) ∧ tA (rhF T 0 r) 7 r = 0
      · rw [if_pos h, uS_so]
        by_cases hk : k = r
        · rw [if_pos hk, if_pos ⟨hk, h⟩]
        · rw [if_neg hk, if_neg (fun q => hk q.1)]
      · rw [if_neg h, if_neg (fun q => h q.2)]
    have keep1 : ∀ k, tA (rhF T 0 r) 7 k = 1 → tA (rhF T 0 (r + 1)) 7 k = 1 := fun k h => by
      rw [es, if_neg]
      · exact h
      · rintro ⟨q1, -, q2⟩
        rw [q1, q2] at h
        cases h
    refine ⟨fun k hk h n hn => ?_, fun k h => keep1 k (i2 k h), fun k hk => by rw [es, if_neg (fun q => by omega)]; exact i3 k (by omega)⟩
    rw [es] at h
    by_cases hc : k = r ∧ (tA (rhF T 0 r) 4 r = tY (rhF T 0 r) ∧ tA (rhF T 0 r) 7 r = 0)
    · rw [if_pos hc] at h
      obtain ⟨hk2, -⟩ := hc
      subst hk2
      unfold rhV at h
      rw [al.nums.2.2.2.2.2.1, hn] at h
      dsimp only at h
      split at h
      · rename_i h1; exact keep1 n h1
      · cases h
    · rw [if_neg hc] at h
      exact keep1 n (i1 k hk h n hn)
theorem Inv_right {T : Tw} (hI : Inv T) : Inv (rhF T 0 (tD T)) := by
  have hB : ∀ r, dB (rhF T 0 r) := fun r => by
    induction r with
    | zero => exact hI.dB
    | succ r ih => exact rhS_dB ih _
  exact Inv_ali hI (aliS_rhF T 0 _) (fun k hk => ((hB (tD T)).2 k (by rw [(aliS_rhF T 0 (tD T)).nums.2.1]; exact hk)).1) (fun k hk h n hn => (rhF_closed hI (tD T) (Nat.le_refl _)).1 k hk h n hn)
