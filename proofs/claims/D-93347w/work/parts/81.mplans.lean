/-! PLAIN LAW: all plans: the model's walk -/
set_option maxRecDepth 100000
theorem setS_sc (T : Tw) (S so : Int32) (d : Nat) : setS (wI T 0 S) so d = setS T so d := by
  induction d with
  | zero => rfl
  | succ d ih =>
    unfold setS
    rw [ih]
    rfl
theorem m_those_sc {T : Tw} {S : Int32} {μ : MS} (hM : simM (wI T 0 S) (μ.2 0)) (hd : tD T ≤ 10) (so : Int32) : m_those 1000 μ so = some (setS T so (tD T)) := by
  have := m_set_eq (T := wI T 0 S) hM hd (N := 1000) (by decide) so
  rw [setS_sc] at this
  exact this
def psM (s : PSt) (μ : MS) : Prop := μ.1 10 = s.1 ∧ μ.1 11 = s.2.1 ∧ s.2.2.1 ≤ 4 ∧ ∀ i, i < s.2.2.1 → μ.2 8 i = nI (s.2.2.2 i)
def lsM (W : Int32) (s : Int32 × Int32) (μ : MS) : Prop := μ.1 14 = W ∧ μ.1 12 = s.1 ∧ μ.1 13 = s.2
def GM (k : Nat) (μ μ' : MS) : Prop := ((∀ i, ¬ (10 ≤ i ∧ i ≤ 15) → μ'.1 i = μ.1 i) ∧ ∀ j, j ≠ 0 → j ≠ 3 → j ≠ 6 → j ≠ 7 → j ≠ 8 → μ'.2 j = μ.2 j) ∧ (∀ i, i < 12 * k → μ'.2 6 i = μ.2 6 i) ∧ (∀ i, i < k → μ'.2 7 i = μ.2 7 i) ∧ ∀ i, (i = 1 ∨ 136 ≤ i) → μ'.2 0 i = μ.2 0 i
theorem GM.rf (k : Nat) (μ : MS) : GM k μ μ := ⟨⟨fun _ _ => rfl, fun _ _ _ _ _ _ => rfl⟩, fun _ _ => rfl, fun _ _ => rfl, fun _ _ => rfl⟩
theorem GM.tr {k : Nat} {a b c : MS} (h : GM k a b) (g : GM k b c) : GM k a c := ⟨⟨fun i hi => (g.1.1 i hi).trans (h.1.1 i hi), fun j h1 h2 h3 h4 h5 => (g.1.2 j h1 h2 h3 h4 h5).trans (h.1.2 j h1 h2 h3 h4 h5)⟩, fun i hi => (g.2.1 i hi).trans (h.2.1 i hi), fun i hi => (g.2.2.1 i hi).trans (h.2.2.1 i hi), fun i hi => (g.2.2.2 i hi).trans (h.2.2.2 i hi)⟩
theorem GM.le {k l : Nat} {a b : MS} (h : GM l a b) (hk : k ≤ l) : GM k a b := ⟨h.1, fun i hi => h.2.1 i (by omega), fun i hi => h.2.2.1 i (by omega), h.2.2.2⟩
theorem GM.FM {k : Nat} {μ μ' : MS} (h : GM k μ μ') : FM μ μ' := ⟨fun i hi => h.1.1 i (by omega), fun j hj => h.1.2 j (by omega) (by omega) (by omega) (by omega) (by omega)⟩
theorem frM.GM {μ μ' : MS} (h : frM μ μ') (k : Nat) : GM k μ μ' := ⟨⟨fun i _ => by rw [h.1], fun j h0 h3 _ _ _ => h.2.1 j h0 h3⟩, fun i _ => by rw [h.2.1 6 (by decide) (by decide)], fun i _ => by rw [h.2.1 7 (by decide) (by decide)], h.2.2⟩
theorem psM_fr {s : PSt} {μ μ' : MS} (h : psM s μ) (g : frM μ μ') : psM s μ' := ⟨by rw [g.1]; exact h.1, by rw [g.1]; exact h.2.1, h.2.2.1, by rw [g.2.1 8 (by decide) (by decide)]; exact h.2.2.2⟩
theorem lsM_fr {W : Int32} {s : Int32 × Int32} {μ μ' : MS} (h : lsM W s μ) (g : frM μ μ') : lsM W s μ' := ⟨by rw [g.1]; exact h.1, by rw [g.1]; exact h.2.1, by rw [g.1]; exact h.2.2⟩
theorem stF_at (μ : MS) (k : Nat) (x : Int32) : (stF μ k x).1 k = x := upd_at _ _ _
theorem m_L70 {T : Tw} {S : Int32} {μ : MS} {W : Int32} {sL : Int32 × Int32} {k w : Nat} {ln : Nat → Nat} (hM : simM (wI T 0 S) (μ.2 0)) (hd : tD T ≤ 10) (hk : k ≤ 4) (hL : lsM W sL μ) (hl : ∀ i, i < k → μ.2 7 i = nI (ln i) ∧ ln i < 1000) : ∀ (r j fuel : Nat), j + r = k → r < fuel → ∃ μ', m_ended_L70 1000 fuel μ (nI k) (nI (actsN ln j)) (nI j) = some μ' ∧ μ'.2 = μ.2 ∧ (∀ i, i ≠ 12 → i ≠ 13 → μ'.1 i = μ.1 i) ∧ lsM W (leafL W k T ln w sL) μ' := by
  intro r
  induction r with
  | zero =>
    intro j fuel h1 h2
    obtain ⟨n, rfl⟩ : ∃ n, fuel = n + 1 := ⟨fuel - 1, by omega⟩
    obtain ⟨l1, l2, l3⟩ := hL
    have hal := actsN_le ln k
    have e14 : (stF μ 13 (μ.1 13 ||| setS T (1 : Int32) (tD T))).1 14 = W := l1
    have e12 : (stF μ 13 (μ.1 13 ||| setS T (1 : Int32) (tD T))).1 12 = sL.1 := l2
    have hh : μ.1 13 ||| setS T (1 : Int32) (tD T) = sL.2 ||| setS T (1 : Int32) (tD T) := by rw [l3]
    have fin : ∀ x : Int32, (∀ i, i ≠ 12 → i ≠ 13 → (stF (stF μ 13 (μ.1 13 ||| setS T (1 : Int32) (tD T))) 12 x).1 i = μ.1 i) := fun x i h1 h2 => by rw [stF_ne h1, stF_ne h2]
    have hj : j = k := by omega
    subst hj
    have hstep : m_ended_L70 1000 (n + 1) μ (nI j) (nI (actsN ln j)) (nI j) = (if W &&& (setS T (1 : Int32) (tD T) ^^^ (-1 : Int32)) = 0 then (if sL.1 ≤ nI (actsN ln j) then some (stF (stF μ 13 (μ.1 13 ||| setS T (1 : Int32) (tD T))) 12 sL.1) else some (stF (stF μ 13 (μ.1 13 ||| setS T (1 : Int32) (tD T))) 12 (nI (actsN ln j)))) else some (stF (stF μ 13 (μ.1 13 ||| setS T (1 : Int32) (tD T))) 12 sL.1)) := by
      show (if nI j ≤ nI j then _ else _) = _
      rw [if_pos ((nN_le (by omega) (by omega)).mpr (Nat.le_refl _)), m_those_sc hM hd, Option.bind_some, Option.bind_some, e14, e12]
      rfl
    rw [hstep]
    unfold leafL
    by_cases hc : W &&& (setS T (1 : Int32) (tD T) ^^^ (-1 : Int32)) = 0
    · rw [if_pos hc, if_pos hc]
      by_cases hf : sL.1 ≤ nI (actsN ln j)
      · rw [if_pos hf, if_neg (by rw [Int32.not_lt]; exact hf)]
        exact ⟨_, rfl, rfl, fin _, l1, rfl, hh⟩
      · rw [if_neg hf, if_pos (by rw [← Int32.not_le]; exact hf)]
        exact ⟨_, rfl, rfl, fin _, l1, rfl, hh⟩
    · rw [if_neg hc, if_neg hc]
      exact ⟨_, rfl, rfl, fin _, l1, rfl, hh⟩
  | succ r ih =>
    intro j fuel h1 h2
    obtain ⟨n, rfl⟩ : ∃ n, fuel = n + 1 := ⟨fuel - 1, by omega⟩
    obtain ⟨μ', g1, g2⟩ := ih (j + 1) n (by omega) (by omega)
    refine ⟨μ', ?_, g2⟩
    obtain ⟨l1, l2⟩ := hl j (by omega)
    have hal := actsN_le ln j
    have hs : actsN ln (j + 1) = actsN ln j + (if ln j = 0 then 0 else 1) := rfl
    rw [hs] at g1
    show (if nI k ≤ nI j then _ else _) = _
    rw [if_neg (fun q => by have := (nN_le (by omega) (by omega)).mp q; omega), ldM_n (by show j < 4; omega) (by omega), l1, Option.bind_some, nI_1]
    by_cases h0 : ln j = 0
    · rw [if_pos h0] at g1
      rw [if_pos (show nI (ln j) ≤ 0 by rw [h0]; decide), Int32.add_zero]
      exact g1
    · rw [if_neg h0] at g1
      rw [if_neg (show ¬ nI (ln j) ≤ 0 from fun q => by have := (nN_le (a := ln j) (b := 0) (by omega) (by decide)).mp q; omega), show nI (actsN ln j) + (1 : Int32) = nI (actsN ln j + 1) from nI_1 _]
      exact g1
theorem m_L20 {k : Nat} (hk : k ≤ 4) {x2 : Int32} : ∀ (r j fuel : Nat) (μ : MS), j + r = k → r < fuel → μ.1 10 = x2 → (∀ i, i < j → μ.2 8 i = μ.2 7 i) → ∃ μ1, m_ended_L20 1000 fuel μ (nI k) x2 (nI j) = m_ended_L70 1000 1000 (stF μ1 11 (μ.1 11 + (1 : Int32))) (nI k) (0 : Int32) (0 : Int32) ∧ μ1.1 = μ.1 ∧ (∀ j, j ≠ 8 → μ1.2 j = μ.2 j) ∧ ∀ i, i < k → μ1.2 8 i = μ.2 7 i := by
  intro r
  induction r with
  | zero =>
    intro j fuel μ h1 h2 hx h
    obtain ⟨n, rfl⟩ : ∃ n, fuel = n + 1 := ⟨fuel - 1, by omega⟩
    refine ⟨μ, ?_, rfl, fun _ _ => rfl, fun i hi => h i (by omega)⟩
    show (if nI k ≤ nI j then _ else _) = _
    rw [if_pos ((nN_le (by omega) (by omega)).mpr (by omega)), if_pos hx.symm, Option.bind_some]
  | succ r ih =>
    intro j fuel μ h1 h2 hx h
    obtain ⟨n, rfl⟩ : ∃ n, fuel = n + 1 := ⟨fuel - 1, by omega⟩
    obtain ⟨μ1, g1, g2, g3, g4⟩ := ih (j + 1) n (setA μ 8 (upd (μ.2 8) j (μ.2 7 j))) (by omega) (by omega) hx (fun i hi => by
      rw [setA_at, setA_o _ _ _ (by decide)]
      by_cases e : i = j
      · rw [e, upd_at]
      · rw [upd_ne e]; exact h i (by omega))
    refine ⟨μ1, ?_, g2, fun j' hj' => by rw [g3 j' hj', setA_o _ _ _ hj'], fun i hi => by rw [g4 i hi, setA_o _ _ _ (by decide)]⟩
    show (if nI k ≤ nI j then _ else _) = _
    rw [if_neg (fun q => by have := (nN_le (by omega) (by omega)).mp q; omega), ldM_n (by show j < 4; omega) (by omega), Option.bind_some, stM_n (by show j < 4; omega) (by omega), Option.bind_some, nI_1]
    exact g1
theorem gmF {k : Nat} (μ : MS) (i : Nat) (x : Int32) (hi : 10 ≤ i ∧ i ≤ 15) : GM k μ (stF μ i x) := ⟨⟨fun j hj => upd_ne (fun e => hj (e ▸ hi)), fun _ _ _ _ _ _ => rfl⟩, fun _ _ => rfl, fun _ _ => rfl, fun _ _ => rfl⟩
theorem ended_M {T : Tw} {S : Int32} {μ : MS} {W : Int32} {sP : PSt} {sL : Int32 × Int32} {k w : Nat} {ln : Nat → Nat} (hM : simM (wI T 0 S) (μ.2 0)) (hd : tD T ≤ 10) (hk : k ≤ 4) (hP : psM sP μ) (hL : lsM W sL μ) (hl : ∀ i, i < k → μ.2 7 i = nI (ln i) ∧ ln i < 1000) : ∃ μ', m_ended 1000 μ (nI k) (nI w) = some μ' ∧ μ'.2 0 = μ.2 0 ∧ psM (leafP k T ln w sP) μ' ∧ lsM W (leafL W k T ln w sL) μ' ∧ GM k μ μ' := by
  obtain ⟨p1, p2, p3, p4⟩ := hP
  have frm : ∀ μ1 μ' : MS, μ'.2 = μ1.2 → (∀ i, i ≠ 12 → i ≠ 13 → μ'.1 i = μ1.1 i) → GM k μ1 μ' := fun μ1 μ' h1 h2 => ⟨⟨fun i hi => h2 i (by omega) (by omega), fun j _ _ _ _ _ => by rw [h1]⟩, fun i _ => by rw [h1], fun i _ => by rw [h1], fun i _ => by rw [h1]⟩
  unfold m_ended leafP
  rw [p1]
  by_cases h1 : nI w ≤ sP.1
  · rw [if_pos h1, if_pos h1]
    by_cases h2 : nI w = sP.1
    · rw [if_pos h2, if_pos h2, Option.bind_some]
      obtain ⟨μ', g1, g2, g3, g4⟩ := m_L70 (μ := stF μ 11 (μ.1 11 + (1 : Int32))) (w := w) hM hd hk hL hl k 0 1000 (by omega) (by omega)
      refine ⟨μ', g1, by rw [g2]; rfl, ⟨by rw [g3 _ (by decide) (by decide)]; exact p1, by rw [g3 _ (by decide) (by decide), stF_at, p2], p3, by rw [g2]; exact p4⟩, g4, (gmF _ 11 _ (by decide)).tr (frm _ _ g2 g3)⟩
    · rw [if_neg h2, if_neg h2, Option.bind_some]
      obtain ⟨μ', g1, g2, g3, g4⟩ := m_L70 (μ := stF μ 11 (μ.1 11 + (0 : Int32))) (w := w) hM hd hk hL hl k 0 1000 (by omega) (by omega)
      refine ⟨μ', g1, by rw [g2]; rfl, ⟨by rw [g3 _ (by decide) (by decide)]; exact p1, by rw [g3 _ (by decide) (by decide), stF_at, Int32.add_zero, p2], p3, by rw [g2]; exact p4⟩, g4, (gmF _ 11 _ (by decide)).tr (frm _ _ g2 g3)⟩
  · rw [if_neg h1, if_neg h1, Option.bind_some, Option.bind_some]
    obtain ⟨μ1, q1, q2, q3, q4⟩ := m_L20 hk (x2 := nI w) k 0 1000 (stF (stF μ 10 (nI w)) 11 (0 : Int32)) (by omega) (by omega) rfl (fun i hi => absurd hi (by omega))
    have hM1 : simM (wI T 0 S) ((stF μ1 11 ((stF (stF μ 10 (nI w)) 11 (0 : Int32)).1 11 + (1 : Int32))).2 0) := by
      show simM (wI T 0 S) (μ1.2 0)
      rw [q3 0 (by decide)]
      exact hM
    have hL1 : lsM W sL (stF μ1 11 ((stF (stF μ 10 (nI w)) 11 (0 : Int32)).1 11 + (1 : Int32))) := ⟨by rw [stF_ne (by decide), q2]; exact hL.1, by rw [stF_ne (by decide), q2]; exact hL.2.1, by rw [stF_ne (by decide), q2]; exact hL.2.2⟩
    obtain ⟨μ', g1, g2, g3, g4⟩ := m_L70 (w := w) hM1 hd hk hL1 (fun i hi => by
      have := hl i hi
      show μ1.2 7 i = _ ∧ _
      rw [q3 7 (by decide)]
      exact this) k 0 1000 (by omega) (by omega)
    have e1 : GM k μ μ1 := ⟨⟨fun i hi => by rw [q2, stF_ne (by omega), stF_ne (by omega)], fun j _ _ _ _ h8 => q3 j h8⟩, fun i _ => by rw [q3 6 (by decide)]; rfl, fun i _ => by rw [q3 7 (by decide)]; rfl, fun i _ => by rw [q3 0 (by decide)]; rfl⟩
    refine ⟨μ', q1.trans g1, ?_, ⟨?_, ?_, hk, fun i hi => ?_⟩, g4, e1.tr ((gmF _ 11 _ (by decide)).tr (frm _ _ g2 g3))⟩
    · rw [g2]
      show μ1.2 0 = μ.2 0
      rw [q3 0 (by decide)]; rfl
    · rw [g3 _ (by decide) (by decide), stF_ne (by decide), q2]; rfl
    · rw [g3 _ (by decide) (by decide), stF_at]; rfl
    · have hi' : i < k := hi
      rw [g2]
      show μ1.2 8 i = nI (ln i)
      rw [q4 i hi']
      exact (hl i hi').1
theorem plans_M {RS : Rls} {W : Int32} : ∀ (r k n D w : Nat) (T : Tw) (S : Int32) (ln : Nat → Nat) (sP : PSt) (sL : Int32 × Int32) (μ : MS), corM T S RS μ → r ≤ tE T - tY T → k + r = n → n ≤ 4 → r < D → psM sP μ → lsM W sL μ → (∀ i, i < k → μ.2 7 i = nI (ln i) ∧ ln i < 1000) → ∃ μ', m_plans 1000 D μ (nI k) (nI n) (nI w) = some μ' ∧ simM (wI T 0 S) (μ'.2 0) ∧ psM (trv RS leafP r k T ln w sP) μ' ∧ lsM W (trv RS (leafL W) r k T ln w sL) μ' ∧ GM k μ μ' := by
  intro r
  induction r with
  | zero =>
    intro k n D w T S ln sP sL μ h hr hk hn hD hP hL hl
    obtain ⟨D, rfl⟩ : ∃ n, D = n + 1 := ⟨D - 1, by omega⟩
    have hkn : k = n := by omega
    subst hkn
    obtain ⟨μ', g1, g2, g3, g4, g5⟩ := ended_M (w := w) h.1 h.2.1.1.1.2.1 hn hP hL hl
    refine ⟨μ', ?_, by rw [g2]; exact h.1, g3, g4, g5⟩
    show (if nI k = nI k then _ else _) = _
    rw [if_pos rfl, g1]
    rfl
  | succ r ih =>
    intro k n D w T S ln sP sL μ h hr hk hn hD hP hL hl
    obtain ⟨D, rfl⟩ : ∃ n, D = n + 1 := ⟨D - 1, by omega⟩
    have hI := h.2.1.1
    have hp6 : tP T ≤ 6 := hI.1.1
    have hy : tY T < tE T := by omega
    have loop : ∀ (m a fuel : Nat) (sP : PSt) (sL : Int32 × Int32) (μ : MS), corM T S RS μ → a + m = tP T + 1 → m < fuel → psM sP μ → lsM W sL μ → (∀ i, i < k → μ.2 7 i = nI (ln i) ∧ ln i < 1000) → ∃ μ', m_plans_L15 1000 (m_plans 1000 D) fuel μ (nI k) (nI n) (nI w) (nI a) = some μ' ∧ simM (wI T 0 S) (μ'.2 0) ∧ (∀ s0, sP = fo (fun a s => trv RS leafP r (k + 1) (passT T RS a) (uN ln k a) (w + passW T RS a) s) a s0 → psM (fo (fun a s => trv RS leafP r (k + 1) (passT T RS a) (uN ln k a) (w + passW T RS a) s) (tP T + 1) s0) μ') ∧ (∀ s0, sL = fo (fun a s => trv RS (leafL W) r (k + 1) (passT T RS a) (uN ln k a) (w + passW T RS a) s) a s0 → lsM W (fo (fun a s => trv RS (leafL W) r (k + 1) (passT T RS a) (uN ln k a) (w + passW T RS a) s) (tP T + 1) s0) μ') ∧ GM k μ μ' := by
      intro m
      induction m with
      | zero =>
        intro a fuel sP sL μ h hm hf hP hL hl
        obtain ⟨N, rfl⟩ : ∃ n, fuel = n + 1 := ⟨fuel - 1, by omega⟩
        refine ⟨μ, ?_, h.1, fun s0 hs0 => by rw [← show a = tP T + 1 by omega, ← hs0]; exact hP, fun s0 hs0 => by rw [← show a = tP T + 1 by omega, ← hs0]; exact hL, GM.rf k μ⟩
        show (ldM μ 0 (0 : Int32)).bind _ = _
        rw [show ldM μ 0 (0 : Int32) = some (nI (tP T)) from mF_people (T := wI T 0 S) h.1, Option.bind_some, if_pos ((nN_lt (by omega) (by omega)).mpr (by omega))]
      | succ m ihm =>
        intro a fuel sP sL μ h hm hf hP hL hl
        obtain ⟨N, rfl⟩ : ∃ n, fuel = n + 1 := ⟨fuel - 1, by omega⟩
        obtain ⟨f, s1, s2, s3⟩ := m_saves_eq (k := k) (by omega) h.1
        have c1 : corM T S RS (setA (setA μ 6 f) 7 (upd (μ.2 7) k (nI a))) := ⟨by rw [setA_o _ _ _ (by decide), setA_o _ _ _ (by decide)]; exact h.1, h.2.1, by rw [setA_o _ _ _ (by decide), setA_o _ _ _ (by decide)]; exact h.2.2⟩
        have sv1 : msv T S k (setA (setA μ 6 f) 7 (upd (μ.2 7) k (nI a))) := by
          unfold msv
          rw [setA_o _ _ _ (by decide)]
          exact s2
        have g01 : GM k μ (setA (setA μ 6 f) 7 (upd (μ.2 7) k (nI a))) := ⟨⟨fun _ _ => rfl, fun j h0 h3 h6 h7 h8 => by rw [setA_o _ _ _ h7, setA_o _ _ _ h6]⟩, fun i hi => by rw [setA_o _ _ _ (by decide), setA_at]; exact s3 i hi, fun i hi => by rw [setA_at]; exact upd_ne (by omega), fun i _ => by rw [setA_o _ _ _ (by decide), setA_o _ _ _ (by decide)]⟩
        have l1 : ∀ i, i < k + 1 → (setA (setA μ 6 f) 7 (upd (μ.2 7) k (nI a))).2 7 i = nI (uN ln k a i) ∧ uN ln k a i < 1000 := fun i hi => by
          rw [setA_at]
          show (if i = k then nI a else μ.2 7 i) = nI (if i = k then a else ln i) ∧ (if i = k then a else ln i) < 1000
          by_cases e : i = k
          · rw [if_pos e, if_pos e]; exact ⟨rfl, by omega⟩
          · rw [if_neg e, if_neg e]; exact hl i (by omega)
        obtain ⟨μ1, q1, q2, q3⟩ := m_pass c1 hy (a := a) (by omega)
        obtain ⟨e1, e2, e3, e4, e5, e6⟩ := pass_ali hI RS a
        have hP1 : psM sP μ1 := psM_fr (μ := setA (setA μ 6 f) 7 (upd (μ.2 7) k (nI a))) ⟨hP.1, hP.2.1, hP.2.2.1, fun i hi => by rw [setA_o _ _ _ (by decide), setA_o _ _ _ (by decide)]; exact hP.2.2.2 i hi⟩ q3
        have hL1 : lsM W sL μ1 := lsM_fr (μ := setA (setA μ 6 f) 7 (upd (μ.2 7) k (nI a))) ⟨hL.1, hL.2.1, hL.2.2⟩ q3
        obtain ⟨μ2, u1, u2, u3, u3', u4⟩ := ih (k + 1) n D (w + passW T RS a) (passT T RS a) _ (uN ln k a) sP sL μ1 q2 (by rw [e3, e4]; omega) (by omega) hn (by omega) hP1 hL1 (fun i hi => by rw [q3.2.1 7 (by decide) (by decide)]; exact l1 i hi)
        have sv2 : msv T S k μ2 := by
          refine ⟨fun d hd => ?_, ?_, ?_⟩
          · rw [u4.2.1 _ (by omega), q3.2.1 6 (by decide) (by decide)]; exact sv1.1 d hd
          · rw [u4.2.1 _ (by omega), q3.2.1 6 (by decide) (by decide)]; exact sv1.2.1
          · rw [u4.2.1 _ (by omega), q3.2.1 6 (by decide) (by decide)]; exact sv1.2.2
        obtain ⟨g, v1, v2, v3⟩ := m_back_so hI (by omega) u2 sv2
        have g23 : GM k μ2 (setA μ2 0 g) := ⟨⟨fun _ _ => rfl, fun j h0 _ _ _ _ => setA_o _ _ _ h0⟩, fun i _ => by rw [setA_o _ _ _ (by decide)], fun i _ => by rw [setA_o _ _ _ (by decide)], fun i hi => by rw [setA_at]; exact v3 i hi⟩
        have gA : GM k μ (setA μ2 0 g) := ((g01.tr (q3.GM k)).tr (u4.le (by omega))).tr g23
        have c3 : corM T S RS (setA μ2 0 g) := ⟨by rw [setA_at]; exact v2, h.2.1, frM_rul gA.2.2.2 h.2.2⟩
        obtain ⟨μ4, z1, z2, z3, z3', z4⟩ := ihm (a + 1) N (trv RS leafP r (k + 1) (passT T RS a) (uN ln k a) (w + passW T RS a) sP) (trv RS (leafL W) r (k + 1) (passT T RS a) (uN ln k a) (w + passW T RS a) sL) (setA μ2 0 g) c3 (by omega) (by omega) ⟨u3.1, u3.2.1, u3.2.2.1, fun i hi => by rw [setA_o _ _ _ (by decide)]; exact u3.2.2.2 i hi⟩ u3' (fun i hi => by rw [gA.2.2.1 i hi]; exact hl i hi)
        refine ⟨μ4, ?_, z2, fun s0 hs0 => z3 s0 (by show _ = (fun a s => trv RS leafP r (k + 1) (passT T RS a) (uN ln k a) (w + passW T RS a) s) a (fo _ a s0); rw [← hs0]), fun s0 hs0 => z3' s0 (by show _ = (fun a s => trv RS (leafL W) r (k + 1) (passT T RS a) (uN ln k a) (w + passW T RS a) s) a (fo _ a s0); rw [← hs0]), gA.tr z4⟩
        have hst : stM (setA μ 6 f) 7 (nI k) (nI a) = some (setA (setA μ 6 f) 7 (upd (μ.2 7) k (nI a))) := by
          rw [stM_n (by show k < 4; omega) (by omega), setA_o _ _ _ (by decide)]
        show (ldM μ 0 (0 : Int32)).bind _ = _
        rw [show ldM μ 0 (0 : Int32) = some (nI (tP T)) from mF_people (T := wI T 0 S) h.1, Option.bind_some, if_neg (fun q => by have := (nN_lt (by omega) (by omega)).mp q; omega), s1, Option.bind_some, hst, Option.bind_some, q1, Option.bind_some]
        dsimp only
        rw [show nI k + (1 : Int32) = nI (k + 1) from nI_1 k, nN_add, u1, Option.bind_some, v1, Option.bind_some, nI_1]
        exact z1
    obtain ⟨μ', g1, g2, g3, g3', g4⟩ := loop (tP T + 1) 0 1000 sP sL μ h (by omega) (by omega) hP hL hl
    refine ⟨μ', ?_, g2, g3 sP rfl, g3' sL rfl, g4⟩
    show (if nI k = nI n then _ else _) = _
    rw [if_neg (fun q => by have := (nN_eq (by omega) (by omega)).mp q; omega)]
    exact g1
