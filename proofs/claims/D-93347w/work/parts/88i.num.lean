/-! PLAIN LAW: rules read from the tape: names, numbers -/
set_option maxRecDepth 100000
def cntW (j : Nat) : Nat := [6, 3, 5].getD j 0
def basW (j : Nat) : Nat := [0, 6, 9].getD j 0
theorem wLd_n {j i : Nat} (h : i < cntW j) (hj : j < 3) : wLd j (nI i) = some (basW j + i) ∧ basW j + i < 21 := by
  rcases (show j = 0 ∨ j = 1 ∨ j = 2 by omega) with rfl | rfl | rfl
  · rcases (show i = 0 ∨ i = 1 ∨ i = 2 ∨ i = 3 ∨ i = 4 ∨ i = 5 by have : i < 6 := h; omega) with rfl | rfl | rfl | rfl | rfl | rfl <;> decide
  · rcases (show i = 0 ∨ i = 1 ∨ i = 2 by have : i < 3 := h; omega) with rfl | rfl | rfl <;> decide
  · rcases (show i = 0 ∨ i = 1 ∨ i = 2 ∨ i = 3 ∨ i = 4 by have : i < 5 := h; omega) with rfl | rfl | rfl | rfl | rfl <;> decide
theorem nm_ne : ∀ i j : Fin 21, nm i.val = nm j.val → i = j := by decide +kernel
theorem nm_in {i j : Nat} (hi : i < 21) (hj : j < 21) (h : nm i = nm j) : i = j := by
  have := nm_ne ⟨i, hi⟩ ⟨j, hj⟩ h
  exact Fin.mk.inj this
/-- the component's names -/
theorem nameOf_L {n : Nat} {t : Nat → Nat} {s e : Nat} {σ : SS} {μ : MS} (h : st n t s e σ μ) {j : Nat} (hj : j < 3) : ∀ i fuel, i < cntW j → i + 1 < fuel → (∃ i', i' ≤ i ∧ wl t s e = nm (basW j + i') ∧ f0_nameOf_L5 1000 fuel σ j (nI i) = (f0_next 1000 σ).bind fun r => some (nI i', r)) ∨ ((∀ i', i' ≤ i → wl t s e ≠ nm (basW j + i')) ∧ f0_nameOf_L5 1000 fuel σ j (nI i) = some (-1, σ)) := by
  intro i
  induction i with
  | zero =>
    intro fuel h1 h2
    obtain ⟨N, rfl⟩ : ∃ n, fuel = n + 1 + 1 := ⟨fuel - 2, by omega⟩
    obtain ⟨w1, w2⟩ := wLd_n h1 hj
    have e0 : f0_nameOf_L5 1000 (N + 1 + 1) σ j (nI 0) = if decide (wl t s e = nm (basW j + 0)) = true then (f0_next 1000 σ).bind fun r => some (nI 0, r) else some (-1, σ) := by
      show (if nI 0 < 0 then _ else _) = _
      rw [if_neg (by decide), w1, Option.bind_some, isName_eq h w2, Option.bind_some]
      by_cases c : decide (wl t s e = nm (basW j + 0)) = true
      · rw [if_pos c, if_pos c, if_neg (show ¬ nI 0 < 0 by decide)]
      · rw [if_neg c, if_neg c]
        rfl
    rw [e0]
    by_cases c : wl t s e = nm (basW j + 0)
    · exact Or.inl ⟨0, Nat.le_refl _, c, if_pos (decide_eq_true c)⟩
    · refine Or.inr ⟨fun i' hi' => ?_, if_neg (by rw [decide_eq_true_eq]; exact c)⟩
      have : i' = 0 := by omega
      rw [this]; exact c
  | succ i ih =>
    intro fuel h1 h2
    obtain ⟨N, rfl⟩ : ∃ n, fuel = n + 1 := ⟨fuel - 1, by omega⟩
    obtain ⟨w1, w2⟩ := wLd_n h1 hj
    have hc8 : cntW j ≤ 6 := by
      rcases (show j = 0 ∨ j = 1 ∨ j = 2 by omega) with rfl | rfl | rfl <;> decide
    have hsub : nI (i + 1) + (-1) = nI i := by
      rw [← Int32.sub_eq_add_neg]
      exact nN_sub (a := i + 1) (b := 1) (by omega)
    have e0 : f0_nameOf_L5 1000 (N + 1) σ j (nI (i + 1)) = if decide (wl t s e = nm (basW j + (i + 1))) = true then (f0_next 1000 σ).bind fun r => some (nI (i + 1), r) else f0_nameOf_L5 1000 N σ j (nI i) := by
      show (if nI (i + 1) < 0 then _ else _) = _
      rw [if_neg (nN_neg (by omega)), w1, Option.bind_some, isName_eq h w2, Option.bind_some, if_neg (nN_neg (by omega) : ¬ nI (i + 1) < 0), hsub]
    rw [e0]
    by_cases c : wl t s e = nm (basW j + (i + 1))
    · exact Or.inl ⟨i + 1, Nat.le_refl _, c, if_pos (decide_eq_true c)⟩
    · rw [if_neg (by rw [decide_eq_true_eq]; exact c)]
      rcases ih N (by omega) (by omega) with ⟨i', g1, g2, g3⟩ | ⟨g1, g2⟩
      · exact Or.inl ⟨i', by omega, g2, g3⟩
      · refine Or.inr ⟨fun i' hi' => ?_, g2⟩
        by_cases ei : i' = i + 1
        · rw [ei]; exact c
        · exact g1 i' (by omega)
theorem nameOf_eq {n : Nat} {t : Nat → Nat} {s e : Nat} {σ : SS} {μ : MS} (h : st n t s e σ μ) {j : Nat} (hj : j < 3) : (∃ i, i < cntW j ∧ wl t s e = nm (basW j + i) ∧ f0_nameOf 1000 σ j = (f0_next 1000 σ).bind fun r => some (nI i, r)) ∨ ((∀ i, i < cntW j → wl t s e ≠ nm (basW j + i)) ∧ f0_nameOf 1000 σ j = some (-1, σ)) := by
  have hc : 1 ≤ cntW j ∧ cntW j ≤ 6 ∧ wLen j = some (nI (cntW j)) := by
    rcases (show j = 0 ∨ j = 1 ∨ j = 2 by omega) with rfl | rfl | rfl <;> decide
  have e0 : f0_nameOf 1000 σ j = f0_nameOf_L5 1000 1000 σ j (nI (cntW j - 1)) := by
    unfold f0_nameOf
    rw [hc.2.2, Option.bind_some, show nI (cntW j) - (1 : Int32) = nI (cntW j - 1) from nN_sub (a := cntW j) (b := 1) hc.1]
  rw [e0]
  rcases nameOf_L h hj (cntW j - 1) 1000 (by omega) (by omega) with ⟨i', g1, g2, g3⟩ | ⟨g1, g2⟩
  · exact Or.inl ⟨i', by omega, g2, g3⟩
  · exact Or.inr ⟨fun i hi => g1 i (by omega), g2⟩
/-! the model's names -/
theorem kind_M {n : Nat} {t : Nat → Nat} {s e : Nat} {σ : SS} {μ : MS} (h : st n t s e σ μ) : (∃ i, i < 6 ∧ wl t s e = nm i ∧ m_kindHere 1000 μ = some (nI i)) ∨ ((∀ i, i < 6 → wl t s e ≠ nm i) ∧ m_kindHere 1000 μ = some (-1)) := by
  obtain ⟨r, h1, h2⟩ := word_both h
  have a0 := h2 0 (by decide) (by decide) (by decide) (by decide)
  have a1 := h2 1 (by decide) (by decide) (by decide) (by decide)
  have a2 := h2 2 (by decide) (by decide) (by decide) (by decide)
  have a3 := h2 3 (by decide) (by decide) (by decide) (by decide)
  have a4 := h2 4 (by decide) (by decide) (by decide) (by decide)
  have a5 := h2 5 (by decide) (by decide) (by decide) (by decide)
  rw [show lI (hsW (nm 0) 0) = (263620 : Int64) from rfl] at a0
  rw [show lI (hsW (nm 1) 0) = (3625566372 : Int64) from rfl] at a1
  rw [show lI (hsW (nm 2) 0) = (217652402 : Int64) from rfl] at a2
  rw [show lI (hsW (nm 3) 0) = (679214 : Int64) from rfl] at a3
  rw [show lI (hsW (nm 4) 0) = (635383 : Int64) from rfl] at a4
  rw [show lI (hsW (nm 5) 0) = (267570 : Int64) from rfl] at a5
  unfold m_kindHere
  rw [h1, Option.bind_some]
  by_cases b0 : wl t s e = nm 0
  · exact Or.inl ⟨0, by decide, b0, if_pos (a0.mpr b0)⟩
  rw [if_neg (fun z => b0 (a0.mp z))]
  by_cases b1 : wl t s e = nm 1
  · exact Or.inl ⟨1, by decide, b1, if_pos (a1.mpr b1)⟩
  rw [if_neg (fun z => b1 (a1.mp z))]
  by_cases b2 : wl t s e = nm 2
  · exact Or.inl ⟨2, by decide, b2, if_pos (a2.mpr b2)⟩
  rw [if_neg (fun z => b2 (a2.mp z))]
  by_cases b3 : wl t s e = nm 3
  · exact Or.inl ⟨3, by decide, b3, if_pos (a3.mpr b3)⟩
  rw [if_neg (fun z => b3 (a3.mp z))]
  by_cases b4 : wl t s e = nm 4
  · exact Or.inl ⟨4, by decide, b4, if_pos (a4.mpr b4)⟩
  rw [if_neg (fun z => b4 (a4.mp z))]
  by_cases b5 : wl t s e = nm 5
  · exact Or.inl ⟨5, by decide, b5, if_pos (a5.mpr b5)⟩
  rw [if_neg (fun z => b5 (a5.mp z))]
  refine Or.inr ⟨fun i hi => ?_, rfl⟩
  rcases (show i = 0 ∨ i = 1 ∨ i = 2 ∨ i = 3 ∨ i = 4 ∨ i = 5 by omega) with rfl | rfl | rfl | rfl | rfl | rfl <;> assumption
theorem fact_M {n : Nat} {t : Nat → Nat} {s e : Nat} {σ : SS} {μ : MS} (h : st n t s e σ μ) : (∃ i, i < 5 ∧ wl t s e = nm (9 + i) ∧ m_factHere 1000 μ = some (-1 - nI i)) ∨ ((∀ i, i < 5 → wl t s e ≠ nm (9 + i)) ∧ m_factHere 1000 μ = some 0) := by
  obtain ⟨r, h1, h2⟩ := word_both h
  have a0 := h2 9 (by decide) (by decide) (by decide) (by decide)
  have a1 := h2 10 (by decide) (by decide) (by decide) (by decide)
  have a2 := h2 11 (by decide) (by decide) (by decide) (by decide)
  have a3 := h2 12 (by decide) (by decide) (by decide) (by decide)
  have a4 := h2 13 (by decide) (by decide) (by decide) (by decide)
  rw [show lI (hsW (nm 9) 0) = (824370 : Int64) from rfl] at a0
  rw [show lI (hsW (nm 10) 0) = (658552979 : Int64) from rfl] at a1
  rw [show lI (hsW (nm 11) 0) = (7930981 : Int64) from rfl] at a2
  rw [show lI (hsW (nm 12) 0) = (674919554696 : Int64) from rfl] at a3
  rw [show lI (hsW (nm 13) 0) = (492210354 : Int64) from rfl] at a4
  unfold m_factHere
  rw [h1, Option.bind_some]
  by_cases b0 : wl t s e = nm 9
  · exact Or.inl ⟨0, by decide, b0, (if_pos (a0.mpr b0)).trans rfl⟩
  rw [if_neg (fun z => b0 (a0.mp z))]
  by_cases b1 : wl t s e = nm 10
  · exact Or.inl ⟨1, by decide, b1, (if_pos (a1.mpr b1)).trans rfl⟩
  rw [if_neg (fun z => b1 (a1.mp z))]
  by_cases b2 : wl t s e = nm 11
  · exact Or.inl ⟨2, by decide, b2, (if_pos (a2.mpr b2)).trans rfl⟩
  rw [if_neg (fun z => b2 (a2.mp z))]
  by_cases b3 : wl t s e = nm 12
  · exact Or.inl ⟨3, by decide, b3, (if_pos (a3.mpr b3)).trans rfl⟩
  rw [if_neg (fun z => b3 (a3.mp z))]
  by_cases b4 : wl t s e = nm 13
  · exact Or.inl ⟨4, by decide, b4, (if_pos (a4.mpr b4)).trans rfl⟩
  rw [if_neg (fun z => b4 (a4.mp z))]
  refine Or.inr ⟨fun i hi => ?_, rfl⟩
  rcases (show i = 0 ∨ i = 1 ∨ i = 2 ∨ i = 3 ∨ i = 4 by omega) with rfl | rfl | rfl | rfl | rfl <;> assumption
/-! going on; a fault -/
def eC (σ σ' : SS) : Prop := (∀ k, k ≠ 42 → k ≠ 43 → k ≠ 72 → σ'.1 k = σ.1 k) ∧ σ'.2 = σ.2
def eM (μ μ' : MS) : Prop := (∀ k, k < 24 ∨ 29 < k → μ'.1 k = μ.1 k) ∧ ∀ j, j ≠ 0 → μ'.2 j = μ.2 j
theorem eC.rf (σ : SS) : eC σ σ := ⟨fun _ _ _ _ => rfl, rfl⟩
theorem eC.tr {a b c : SS} (h : eC a b) (g : eC b c) : eC a c := ⟨fun k k1 k2 k3 => (g.1 k k1 k2 k3).trans (h.1 k k1 k2 k3), g.2.trans h.2⟩
theorem eM.rf (μ : MS) : eM μ μ := ⟨fun _ _ => rfl, fun _ _ => rfl⟩
theorem eM.tr {a b c : MS} (h : eM a b) (g : eM b c) : eM a c := ⟨fun k hk => (g.1 k hk).trans (h.1 k hk), fun j hj => (g.2 j hj).trans (h.2 j hj)⟩
theorem tkC.E {σ σ' : SS} (h : tkC σ σ') : eC σ σ' := ⟨fun k k1 k2 _ => h.1 k k1 k2, h.2⟩
theorem eC72 (σ : SS) (x : Int32) : eC σ (sI σ 72 x) := ⟨fun _ _ _ k3 => sI_ne k3, rfl⟩
theorem eMs (μ : MS) {k : Nat} (x : Int32) (hk : 24 ≤ k ∧ k ≤ 29) : eM μ (stF μ k x) := ⟨fun j hj => stF_ne (by omega), fun _ _ => rfl⟩
/-- the model goes wrong at a place -/
def wr (n s e : Nat) (μ : MS) : Prop := n ≤ 200 ∧ s ≤ e ∧ e ≤ n ∧ μ.1 23 = nI n ∧ μ.1 24 = nI s ∧ μ.1 25 = nI e ∧ μ.1 29 = 1
theorem wr_cg {n s e : Nat} {μ μ' : MS} (h : wr n s e μ) (h1 : μ'.1 23 = μ.1 23) (h2 : μ'.1 24 = μ.1 24) (h3 : μ'.1 25 = μ.1 25) (h4 : μ'.1 29 = 1) : wr n s e μ' := ⟨h.1, h.2.1, h.2.2.1, h1.trans h.2.2.2.1, h2.trans h.2.2.2.2.1, h3.trans h.2.2.2.2.2.1, h4⟩
theorem wants_f {n : Nat} {t : Nat → Nat} {s e : Nat} {σ : SS} {μ : MS} (h : st n t s e σ μ) : ∃ μ', m_wants 1000 μ false = some μ' ∧ wr n s e μ' ∧ (∀ k, k ≠ 29 → μ'.1 k = μ.1 k) ∧ μ'.2 = μ.2 := by
  refine ⟨stF μ 29 1, ?_, ⟨h.1.1, h.2.1.1, h.2.1.2.1, (stF_ne (by decide)).trans h.1.2.2.1, (stF_ne (by decide)).trans h.2.2.2.1, (stF_ne (by decide)).trans h.2.2.2.2.1, stF_at _ _ _⟩, fun k hk => stF_ne hk, rfl⟩
  unfold m_wants
  rw [if_pos h.2.2.2.2.2, if_neg (by decide)]
  rfl
theorem wants_w {n s e : Nat} {μ : MS} (h : wr n s e μ) (b : Bool) : ∃ μ', m_wants 1000 μ b = some μ' ∧ wr n s e μ' ∧ (∀ k, k ≠ 29 → μ'.1 k = μ.1 k) ∧ μ'.2 = μ.2 := by
  refine ⟨stF μ 29 1, ?_, wr_cg h (stF_ne (by decide)) (stF_ne (by decide)) (stF_ne (by decide)) (stF_at _ _ _), fun k hk => stF_ne hk, rfl⟩
  unfold m_wants
  rw [if_neg (by rw [h.2.2.2.2.2.2]; decide)]
  rfl
theorem word_w {n s e : Nat} {μ : MS} (h : wr n s e μ) : m_word 1000 μ = some 0 := by
  obtain ⟨h1, h2, h3, h4, h5, h6, h7⟩ := h
  unfold m_word
  rw [h5]
  refine word_0 (e := e) (by omega) h6 (fun x1 => ?_) 200 s 1000 (0 : Int64) (by omega) (by omega) (by omega)
  rw [h7, if_neg (by decide)]
theorem writes_w {n s e : Nat} {μ : MS} (h : wr n s e μ) (c : Int32) : m_writes μ c = some μ := by
  unfold m_writes
  rw [h.2.2.2.2.2.2, if_neg (by decide)]
theorem next_st {n : Nat} {t : Nat → Nat} {s e : Nat} {σ : SS} {μ : MS} (h : st n t s e σ μ) : ∃ s' e' σ' μ', e ≤ s' ∧ f0_next 1000 σ = some σ' ∧ m_wants 1000 μ true = some μ' ∧ st n t s' e' σ' μ' ∧ tkC σ σ' ∧ (∀ k, k ≠ 24 → k ≠ 25 → k ≠ 29 → μ'.1 k = μ.1 k) ∧ μ'.2 = μ.2 := by
  have hT : tape n t σ (stF μ 29 0) := tape_cg h.1 rfl rfl (stF_ne (by decide)) rfl
  obtain ⟨s', e', σ', μ', z1, z2, z3, z4, z5, z6, z7, z8⟩ := token_both hT h.2.1.2.1 h.2.2.1.2 ((stF_ne (by decide)).trans h.2.2.2.2.1)
  refine ⟨s', e', σ', μ', z1, z3, ?_, ⟨tape_cg hT (z7.1 41 (by decide) (by decide)) (by rw [z7.2]) (z8.1 23 (by decide) (by decide)) (by rw [z8.2]), z2, z5, z6.1, z6.2, (z8.1 29 (by decide) (by decide)).trans (stF_at _ _ _)⟩, z7, fun k k1 k2 k3 => (z8.1 k k1 k2).trans (stF_ne k3), z8.2⟩
  unfold m_wants
  rw [if_pos h.2.2.2.2.2, if_pos rfl, Option.bind_some, if_pos (show (stF μ 29 (bI false)).1 29 = 0 from stF_at _ _ _), show m_token 1000 (stF μ 29 (bI false)) = some μ' from z4]
  rfl
