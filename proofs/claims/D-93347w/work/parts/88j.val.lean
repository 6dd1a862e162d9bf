/-! PLAIN LAW: rules read from the tape: numbers, made objects -/
set_option maxRecDepth 100000
theorem bnd_id {α : Type} (x : Option α) : (x.bind fun r => some r) = x := by cases x <;> rfl
def nv (t : Nat → Nat) : Nat → Nat → Nat → Nat
  | 0, _, x => x
  | r + 1, k, x => nv t r (k + 1) (10 * x + t k - 48)
theorem isG_le {b : Nat} (h : isG b = true) : 48 ≤ b ∧ b ≤ 57 := by
  unfold isG at h
  exact of_decide_eq_true h
theorem nv_lt (t : Nat → Nat) : ∀ (r k x : Nat), (∀ i, k ≤ i → i < k + r → isG (t i) = true) → nv t r k x < (x + 1) * 10 ^ r := by
  intro r
  induction r with
  | zero => intro k x _; show x < _; omega
  | succ r ih =>
    intro k x h
    have := isG_le (h k (Nat.le_refl _) (by omega))
    have h1 := ih (k + 1) (10 * x + t k - 48) (fun i h2 h3 => h i (by omega) (by omega))
    have h2 : (10 * x + t k - 48 + 1) * 10 ^ r ≤ (10 * x + 10) * 10 ^ r := Nat.mul_le_mul_right _ (by omega)
    show nv t r (k + 1) (10 * x + t k - 48) < _
    rw [Nat.pow_succ, Nat.mul_comm (10 ^ r) 10, ← Nat.mul_assoc, show (x + 1) * 10 = 10 * x + 10 by omega]
    omega
theorem sg_G {b : Nat} (hb : b < 256) (h : isG b = true) : sgB b = nI b := (byte_all ⟨b, hb⟩).2.1 (by have := isG_le h; show b < 128; omega)
theorem dig_eq {x b : Nat} (hb : isG b = true) : (((10 : Int32) * nI x) + nI b) - (48 : Int32) = nI (10 * x + b - 48) := by
  have := isG_le hb
  rw [show (10 : Int32) = nI 10 from rfl, nN_mul, nN_add]
  exact nN_sub (a := 10 * x + b) (b := 48) (by omega)
theorem figure_L {n : Nat} {t : Nat → Nat} {s e : Nat} {σ : SS} {μ : MS} (h : st n t s e σ μ) (hg : ∀ i, s ≤ i → i < e → isG (t i) = true) (d : DS) : ∀ (r k fuel x : Nat), k + r = e → s ≤ k → r < fuel → f0_figure_L47 1000 fuel σ d (nI x) (nI k) = (f0_next 1000 σ).bind fun r1 => some (.inr (nI (nv t r k x), r1, d)) := by
  have hn := h.1.1
  have hen := h.2.1.2.1
  intro r
  induction r with
  | zero =>
    intro k fuel x h1 h2 h3
    obtain ⟨N, rfl⟩ : ∃ n, fuel = n + 1 := ⟨fuel - 1, by omega⟩
    show (if σ.1 43 ≤ nI k then _ else _) = _
    rw [h.2.2.1.2, if_pos ((nN_le (by omega) (by omega)).mpr (by omega))]
    rfl
  | succ r ih =>
    intro k fuel x h1 h2 h3
    obtain ⟨N, rfl⟩ : ∃ n, fuel = n + 1 := ⟨fuel - 1, by omega⟩
    obtain ⟨b1, b2, b3⟩ := h.1.2.2.2 k (by omega)
    have hd := hg k h2 (by omega)
    show (if σ.1 43 ≤ nI k then _ else _) = _
    rw [h.2.2.1.2, if_neg (fun z => by have := (nN_le (by omega) (by omega)).mp z; omega), ldC_n (by show k < 200; omega) (by omega), b2, sg_G b1 hd, Option.bind_some, dig_eq hd, nI_1]
    exact ih (k + 1) N _ (by omega) (by omega) (by omega)
theorem number_L {n : Nat} {t : Nat → Nat} {s e : Nat} {σ : SS} {μ0 : MS} (h : st n t s e σ μ0) (hg : ∀ i, s ≤ i → i < e → isG (t i) = true) (A : Int32) : ∀ (r k fuel x : Nat) (μ : MS), (∀ k, k ≠ 26 → μ.1 k = μ0.1 k) → μ.2 = μ0.2 → μ.1 26 = nI x → k + r = e → s ≤ k → r < fuel → ∃ μ1, (∀ k, k ≠ 26 → μ1.1 k = μ0.1 k) ∧ μ1.2 = μ0.2 ∧ μ1.1 26 = nI (nv t r k x) ∧ m_number_L43 1000 fuel μ A true (nI k) = if A < nI (nv t r k x) then m_wants 1000 μ1 false else m_wants 1000 μ1 true := by
  have hn := h.1.1
  have hen := h.2.1.2.1
  intro r
  induction r with
  | zero =>
    intro k fuel x μ g1 g2 g3 h1 h2 h3
    obtain ⟨N, rfl⟩ : ∃ n, fuel = n + 1 := ⟨fuel - 1, by omega⟩
    refine ⟨μ, g1, g2, g3, ?_⟩
    show (if μ.1 25 ≤ nI k then _ else _) = _
    rw [g1 25 (by decide), h.2.2.2.2.1, if_pos ((nN_le (by omega) (by omega)).mpr (by omega)), if_pos rfl, g3, bnd_id, bnd_id]
    rfl
  | succ r ih =>
    intro k fuel x μ g1 g2 g3 h1 h2 h3
    obtain ⟨N, rfl⟩ : ∃ n, fuel = n + 1 := ⟨fuel - 1, by omega⟩
    obtain ⟨b1, b2, b3⟩ := h.1.2.2.2 k (by omega)
    have hd := hg k h2 (by omega)
    obtain ⟨μ1, z1, z2, z3, z4⟩ := ih (k + 1) N (10 * x + t k - 48) (stF μ 26 (nI (10 * x + t k - 48))) (fun k hk => (stF_ne hk).trans (g1 k hk)) g2 (stF_at _ _ _) (by omega) (by omega) (by omega)
    refine ⟨μ1, z1, z2, z3, ?_⟩
    show (if μ.1 25 ≤ nI k then _ else _) = _
    rw [g1 25 (by decide), h.2.2.2.2.1, if_neg (fun z => by have := (nN_le (by omega) (by omega)).mp z; omega), if_pos rfl, ldM_n (by show k < 200; omega) (by omega), g2, b3, g3, Option.bind_some, Option.bind_some, dig_eq hd, nI_1]
    exact z4
/-- a number or a fault -/
theorem number_both {n : Nat} {t : Nat → Nat} {s e : Nat} {σ : SS} {μ : MS} (h : st n t s e σ μ) {A : Nat} (hA : A ≤ 9999) (d : DS) : (∃ v s' e' σ' μ', v ≤ A ∧ e ≤ s' ∧ s < e ∧ f0_figure 1000 σ d = some (.inr (nI v, σ', d)) ∧ m_number 1000 μ (nI A) = some μ' ∧ st n t s' e' σ' μ' ∧ tkC σ σ' ∧ μ'.1 26 = nI v ∧ (∀ k, k ≠ 24 → k ≠ 25 → k ≠ 26 → k ≠ 29 → μ'.1 k = μ.1 k) ∧ μ'.2 = μ.2) ∨ (∃ v σ' μ', A < v ∧ v ≤ 9999 ∧ f0_figure 1000 σ d = some (.inr (nI v, σ', d)) ∧ tkC σ σ' ∧ m_number 1000 μ (nI A) = some μ' ∧ wr n s e μ' ∧ (∀ k, k ≠ 26 → k ≠ 29 → μ'.1 k = μ.1 k) ∧ μ'.2 = μ.2) ∨ (∃ μ', f0_figure 1000 σ d = some (.inl (2, sI σ 72 (nI s), d)) ∧ m_number 1000 μ (nI A) = some μ' ∧ wr n s e μ' ∧ (∀ k, k ≠ 26 → k ≠ 29 → μ'.1 k = μ.1 k) ∧ μ'.2 = μ.2) := by
  have hn := h.1.1
  have hen := h.2.1.2.1
  have hse := h.2.1.1
  have hlen : (nI e - nI s) = nI (e - s) := nN_sub hse
  have hb := byteAt_eq h.1 (i := s) (by omega)
  -- a fault
  have bad : ∀ (μ0 : MS), (∀ k, k ≠ 26 → μ0.1 k = μ.1 k) → μ0.2 = μ.2 → ∃ μ', m_number_L43 1000 1000 μ0 (nI A) false (μ0.1 24) = some μ' ∧ wr n s e μ' ∧ (∀ k, k ≠ 26 → k ≠ 29 → μ'.1 k = μ.1 k) ∧ μ'.2 = μ.2 := fun μ0 g1 g2 => by
    obtain ⟨μ', w1, w2, w3, w4⟩ := wants_f (σ := σ) (μ := μ0) (n := n) (t := t) (s := s) (e := e) ⟨tape_cg h.1 rfl rfl (g1 23 (by decide)) (by rw [g2]), h.2.1, h.2.2.1, (g1 24 (by decide)).trans h.2.2.2.1, (g1 25 (by decide)).trans h.2.2.2.2.1, (g1 29 (by decide)).trans h.2.2.2.2.2⟩
    refine ⟨μ', ?_, w2, fun k k1 k2 => (w3 k k2).trans (g1 k k1), w4.trans g2⟩
    show (if μ0.1 25 ≤ μ0.1 24 then _ else _) = _
    rw [w1]
    split
    · rfl
    · rfl
  by_cases hd : s < n ∧ isG (t s) = true
  · have hlt : s < e := by rcases h.2.1.2.2 with c | c <;> omega
    obtain ⟨b1, b2, b3⟩ := h.1.2.2.2 s hd.1
    rw [if_pos hd.1] at hb
    have hg : ∀ i, s ≤ i → i < e → isG (t i) = true := by
      rcases h.2.1.2.2 with c | ⟨-, c | c | c⟩
      · omega
      · have := LG (c s (Nat.le_refl _) hlt)
        rw [hd.2] at this; cases this
      · exact c
      · rw [c.2.2] at hd; cases hd.2
    have eC0 : f0_figure 1000 σ d = if (4 : Int32) < nI (e - s) then some (Sum.inl (2, sI σ 72 (nI s), d)) else f0_figure_L47 1000 1000 σ d (0 : Int32) (nI s) := by
      unfold f0_figure
      rw [h.2.2.1.1, h.2.2.1.2, hlen, if_neg (fun z => by have := (nN_lt (a := e - s) (b := 1) (by omega) (by decide)).mp z; omega), ldC_n (by show s < 200; omega) (by omega), b2]
      by_cases c4 : (4 : Int32) < nI (e - s)
      · rw [if_pos c4, if_pos c4]
        rfl
      · rw [if_neg c4, if_neg c4, Option.bind_some, by_G b1, hd.2, Option.bind_some, if_pos rfl]
    have eM0 : m_number 1000 μ (nI A) = if (5 : Int32) ≤ nI (e - s) then m_number_L43 1000 1000 (stF μ 26 0) (nI A) false ((stF μ 26 0).1 24) else m_number_L43 1000 1000 (stF μ 26 0) (nI A) true ((stF μ 26 0).1 24) := by
      unfold m_number
      rw [h.2.2.2.1, h.2.2.2.2.1, hlen, hb, Option.bind_some, by_mG b1, hd.2, Option.bind_some, if_pos rfl]
      rfl
    by_cases h4 : e - s ≤ 4
    · have hv : nv t (e - s) s 0 < 10000 := by
        have h1 := nv_lt t (e - s) s 0 (fun i h2 h3 => hg i h2 (by omega))
        have h2 : 10 ^ (e - s) ≤ 10 ^ 4 := Nat.pow_le_pow_right (by decide) h4
        omega
      have c4 : ¬ (4 : Int32) < nI (e - s) := fun z => by have := (nN_lt (a := 4) (b := e - s) (by decide) (by omega)).mp z; omega
      have c5 : ¬ (5 : Int32) ≤ nI (e - s) := fun z => by have := (nN_le (a := 5) (b := e - s) (by decide) (by omega)).mp z; omega
      rw [if_neg c4, show f0_figure_L47 1000 1000 σ d (0 : Int32) (nI s) = _ from figure_L h hg d (e - s) s 1000 0 (by omega) (Nat.le_refl _) (by omega)] at eC0
      obtain ⟨μ1, z1, z2, z3, z4⟩ := number_L h hg (nI A) (e - s) s 1000 0 (stF μ 26 0) (fun k hk => stF_ne hk) rfl (stF_at _ _ _) (by omega) (Nat.le_refl _) (by omega)
      rw [if_neg c5, show (stF μ 26 0).1 24 = nI s from (stF_ne (by decide)).trans h.2.2.2.1, z4] at eM0
      have hst1 : st n t s e σ μ1 := ⟨tape_cg h.1 rfl rfl (z1 23 (by decide)) (by rw [z2]), h.2.1, h.2.2.1, (z1 24 (by decide)).trans h.2.2.2.1, (z1 25 (by decide)).trans h.2.2.2.2.1, (z1 29 (by decide)).trans h.2.2.2.2.2⟩
      obtain ⟨s', e', σ', μ', y1, y2, y3, y4, y5, y6, y7⟩ := next_st hst1
      rw [y2, Option.bind_some] at eC0
      by_cases hvA : nv t (e - s) s 0 ≤ A
      · rw [if_neg (fun z => by have := (nN_lt (by omega) (by omega)).mp z; omega), y3] at eM0
        exact Or.inl ⟨_, s', e', σ', μ', hvA, y1, hlt, eC0, eM0, y4, y5, (y6 26 (by decide) (by decide) (by decide)).trans z3, fun k k1 k2 k3 k4 => (y6 k k1 k2 k4).trans (z1 k k3), y7.trans z2⟩
      · rw [if_pos ((nN_lt (by omega) (by omega)).mpr (by omega))] at eM0
        obtain ⟨μ', w1, w2, w3, w4⟩ := wants_f hst1
        rw [w1] at eM0
        exact Or.inr (Or.inl ⟨_, σ', μ', by omega, by omega, eC0, y5, eM0, w2, fun k k1 k2 => (w3 k k2).trans (z1 k k1), w4.trans z2⟩)
    · have c4 : (4 : Int32) < nI (e - s) := (nN_lt (a := 4) (b := e - s) (by decide) (by omega)).mpr (by omega)
      have c5 : (5 : Int32) ≤ nI (e - s) := (nN_le (a := 5) (b := e - s) (by decide) (by omega)).mpr (by omega)
      rw [if_pos c4] at eC0
      rw [if_pos c5] at eM0
      obtain ⟨μ', w1, w2⟩ := bad (stF μ 26 0) (fun k hk => stF_ne hk) rfl
      exact Or.inr (Or.inr ⟨μ', eC0, eM0.trans w1, w2⟩)
  · obtain ⟨μ', w1, w2⟩ := bad (stF μ 26 0) (fun k hk => stF_ne hk) rfl
    refine Or.inr (Or.inr ⟨μ', ?_, ?_, w2⟩)
    · unfold f0_figure
      rw [h.2.2.1.1, h.2.2.1.2, hlen]
      by_cases c1 : nI (e - s) < (1 : Int32)
      · rw [if_pos c1]; rfl
      · rw [if_neg c1]
        by_cases c4 : (4 : Int32) < nI (e - s)
        · rw [if_pos c4]; rfl
        · have hse' : s < e := by
            rcases Nat.lt_or_ge s e with h | h
            · exact h
            · exact absurd ((nN_lt (a := e - s) (b := 1) (by omega) (by decide)).mpr (by omega)) c1
          obtain ⟨b1, b2, b3⟩ := h.1.2.2.2 s (by omega)
          have hF : isG (t s) = false := by
            cases hL : isG (t s) with
            | false => rfl
            | true => exact absurd ⟨by omega, hL⟩ hd
          rw [if_neg c4, ldC_n (by show s < 200; omega) (by omega), b2, Option.bind_some, by_G b1, hF]
          rfl
    · unfold m_number
      rw [h.2.2.2.1, hb, Option.bind_some]
      have hF : m_isDigit (if s < n then nI (t s) else -1) = some false := by
        by_cases c : s < n
        · rw [if_pos c, by_mG (h.1.2.2.2 s c).1]
          cases hL : isG (t s) with
          | false => rfl
          | true => exact absurd ⟨c, hL⟩ hd
        · rw [if_neg c]; rfl
      rw [hF, Option.bind_some, if_neg (by decide)]
      exact w1
