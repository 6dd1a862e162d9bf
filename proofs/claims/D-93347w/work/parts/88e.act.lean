/-! PLAIN LAW: the host: act -/
set_option maxRecDepth 100000
def aC (σ σ' : SS) : Prop := (∀ k, k ≠ 70 → σ'.1 k = σ.1 k) ∧ (∀ j, j ≠ 45 → σ'.2.1 j = σ.2.1 j) ∧ σ'.2.2 = σ.2.2
def aM (μ μ' : MS) : Prop := (∀ k, k < 37 ∨ 41 < k → μ'.1 k = μ.1 k) ∧ ∀ j, j ≠ 17 → μ'.2 j = μ.2 j
def trc (w : Int32) (σ0 : SS) (μ0 : MS) (p g k n : Nat) (σ : SS) (μ : MS) : Prop := (σ.1 70 = nI n ∧ μ.1 37 = nI n ∧ ∀ i, i < n → σ.2.1 45 i = μ.2 17 i) ∧ (μ.1 38 = nI p ∧ μ.1 39 = nI g ∧ μ.1 40 = nI k) ∧ μ.1 41 = w ∧ aC σ0 σ ∧ aM μ0 μ
theorem ran_both {σ0 σ : SS} {μ0 μ : MS} {p g k n : Nat} (h : trc 0 σ0 μ0 p g k n σ μ) (hn : n < 30) (x : Int32) : ∃ σ' μ', f4_ran σ x = some σ' ∧ m_runs μ x = some μ' ∧ trc 0 σ0 μ0 p g k (n + 1) σ' μ' := by
  obtain ⟨⟨h1, h2, h3⟩, ⟨h4, h5, h6⟩, h7, ⟨h8, h9, h10⟩, h11, h12⟩ := h
  have hne : ¬ nI n = (30 : Int32) := fun z => by have := (nN_eq (b := 30) (by omega) (by decide)).mp z; omega
  have hle : ¬ (30 : Int32) ≤ nI n := fun z => by have := (nN_le (a := 30) (by decide) (by omega)).mp z; omega
  refine ⟨sI (sA σ 45 (upd (σ.2.1 45) n x)) 70 (nI (n + 1)), stF (setA μ 17 (upd (μ.2 17) n x)) 37 (nI (n + 1)), ?_, ?_, ⟨⟨upd_at σ.1 70 _, stF_at _ _ _, fun i hi => ?_⟩, ⟨(stF_ne (by decide)).trans h4, (stF_ne (by decide)).trans h5, (stF_ne (by decide)).trans h6⟩, (stF_ne (by decide)).trans h7, ⟨fun k hk => (upd_ne hk).trans (h8 k hk), fun j hj => ?_, h10⟩, fun k hk => (stF_ne (by omega)).trans (h11 k hk), fun j hj => (setA_o _ _ _ hj).trans (h12 j hj)⟩⟩
  · unfold f4_ran
    rw [h1, if_neg hne, stC_n (by show n < 30; exact hn) (by omega), Option.bind_some, Option.bind_some, show (sA σ 45 (upd (σ.2.1 45) n x)).1 70 = nI n from h1, nI_1]
  · unfold m_runs
    rw [if_pos h7, h2, if_neg hle, stM_n (by show n < 30; exact hn) (by omega), Option.bind_some, Option.bind_some, show (setA μ 17 (upd (μ.2 17) n x)).1 37 = nI n from h2, nI_1]
  · show (sA σ 45 (upd (σ.2.1 45) n x)).2.1 45 i = (setA μ 17 (upd (μ.2 17) n x)).2 17 i
    rw [setA_at, sA_at]
    by_cases e : i = n
    · rw [e, upd_at, upd_at]
    · rw [upd_ne e, upd_ne e]
      exact h3 i (by omega)
  · show (sA σ 45 (upd (σ.2.1 45) n x)).2.1 j = _
    rw [sA_ne hj]
    exact h9 j hj
/-! a hand's own facts -/
theorem h_hd {δ : DS} {q k p g : Nat} (h : isHand δ q k p g) (hk : 1 ≤ k ∧ k ≤ 5) : dHd δ q = some (6 + k) := by
  unfold dHd
  rw [hand_ci h, Option.bind_some, if_pos ⟨by omega, by omega⟩]
theorem h_cl {δ : DS} {q k p g : Nat} (h : isHand δ q k p g) : dcl δ (6 + k) q = some () := by
  unfold dcl
  rw [show dl δ q = _ from h]
  exact if_pos rfl
theorem h_gr {δ : DS} {q k p g : Nat} (h : isHand δ q k p g) (hk : 1 ≤ k ∧ k ≤ 5) (σ : SS) : y7_grace σ δ q = some (.inr (nI g, σ, δ)) := by
  unfold y7_grace
  rw [(hand_int hk h).2]
  rfl
theorem h_nu {δ : DS} {q k p g : Nat} (h : isHand δ q k p g) (hk : 1 ≤ k ∧ k ≤ 5) (σ : SS) : y7_number σ δ q = some (.inr (nI p, σ, δ)) := by
  unfold y7_number
  rw [(hand_int hk h).1]
  rfl
theorem h_Gr {δ : DS} {q k p g : Nat} (h : isHand δ q k p g) (hk : 1 ≤ k ∧ k ≤ 5) (σ : SS) : yGrace σ δ q = some (.inr (nI g, σ, δ)) := by
  unfold yGrace
  rw [hand_ci h, Option.bind_some, h_gr h hk]
  rcases (show k = 1 ∨ k = 2 ∨ k = 3 ∨ k = 4 ∨ k = 5 by omega) with rfl | rfl | rfl | rfl | rfl <;> rfl
theorem h_Nu {δ : DS} {q k p g : Nat} (h : isHand δ q k p g) (hk : 1 ≤ k ∧ k ≤ 5) (σ : SS) : yNumber σ δ q = some (.inr (nI p, σ, δ)) := by
  unfold yNumber
  rw [hand_ci h, Option.bind_some, h_nu h hk]
  rcases (show k = 1 ∨ k = 2 ∨ k = 3 ∨ k = 4 ∨ k = 5 by omega) with rfl | rfl | rfl | rfl | rfl <;> rfl
theorem dHd_b {α : Type} {δ : DS} {q k p g : Nat} (h : isHand δ q k p g) (hk : 1 ≤ k ∧ k ≤ 5) (F : Option α) : ((dHd δ q).bind fun _ => F) = F := by
  rw [h_hd h hk]
  rfl
theorem dcl_b {α : Type} {δ : DS} {q k p g : Nat} (h : isHand δ q k p g) {c : Nat} (hc : c = 6 + k) (F : Option α) : ((dcl δ c q).bind fun _ => F) = F := by
  subst hc
  rw [h_cl h]
  rfl
/-! gives -/
theorem y21_eq {δ : DS} {q k p g : Nat} (h : isHand δ q k p g) (hk : 1 ≤ k ∧ k ≤ 5) {σ σ' : SS} (hr : f4_ran σ 10 = some σ') (a : Int32) : y21_gives σ δ q a = some (.inr (a - nI g, σ', δ)) := by
  unfold y21_gives
  rw [hr, Option.bind_some, yb_inr (h_Gr h hk σ') (Nat.le_refl _)]
theorem gives_both {δ : DS} {q p g k n : Nat} {σ0 σ : SS} {μ0 μ : MS} (hq : isHand δ q k p g) (hk : 1 ≤ k ∧ k ≤ 5) (h : trc 0 σ0 μ0 p g k n σ μ) (hn : n ≤ 25) (a : Int32) : ∃ v n' σ' μ', n' ≤ n + 2 ∧ yGives σ δ q a = some (.inr (v, σ', δ)) ∧ m_gives μ a = some (v, μ') ∧ trc 0 σ0 μ0 p g k n' σ' μ' := by
  have hci : dci δ q = some (6 + k) := hand_ci hq
  rcases (show k = 1 ∨ k = 3 ∨ (k ≠ 1 ∧ k ≠ 3) by omega) with rfl | rfl | ⟨k1, k3⟩
  · obtain ⟨σ1, μ1, a1, a2, a3⟩ := ran_both h (by omega) 20
    obtain ⟨σ2, μ2, b1, b2, b3⟩ := ran_both a3 (by omega) 10
    refine ⟨a - nI g + nI p, n + 1 + 1, σ2, μ2, by omega, ?_, ?_, b3⟩
    · unfold yGives
      rw [hci, Option.bind_some, if_pos (show 6 + 1 = 7 from rfl)]
      unfold y8_gives
      rw [a1, Option.bind_some, dHd_b hq hk, yb_inr (y21_eq hq hk b1 a) (Nat.le_refl _)]
      dsimp only
      rw [dcl_b hq rfl, yb_inr (h_nu hq hk _) (Nat.le_refl _)]
    · unfold m_gives
      rw [h.2.1.2.2, if_pos (show nI 1 = (1 : Int32) from rfl), a2, Option.bind_some]
      unfold m_gives_B14
      rw [a3.2.1.2.2, if_neg (by decide), b2, Option.bind_some, b3.2.1.2.2, if_pos (show nI 1 = (1 : Int32) from rfl), b3.2.1.2.1, b3.2.1.1]
  · obtain ⟨σ1, μ1, a1, a2, a3⟩ := ran_both h (by omega) 50
    obtain ⟨σ2, μ2, b1, b2, b3⟩ := ran_both a3 (by omega) 10
    refine ⟨(a - nI g) * 3, n + 1 + 1, σ2, μ2, by omega, ?_, ?_, b3⟩
    · unfold yGives
      rw [hci, Option.bind_some, if_neg (by decide), if_neg (by decide), if_pos (show 6 + 3 = 9 from rfl)]
      unfold y10_gives
      rw [a1, Option.bind_some, dHd_b hq hk, yb_inr (y21_eq hq hk b1 a) (Nat.le_refl _)]
    · unfold m_gives
      rw [h.2.1.2.2, if_neg (by decide)]
      unfold m_gives_B14
      rw [h.2.1.2.2, if_pos (show nI 3 = (3 : Int32) from rfl), a2, Option.bind_some, b2, Option.bind_some, b3.2.1.2.2, if_neg (by decide), if_pos (show nI 3 = (3 : Int32) from rfl), b3.2.1.2.1]
  · obtain ⟨σ1, μ1, a1, a2, a3⟩ := ran_both h (by omega) 10
    have n1 : ¬ nI k = (1 : Int32) := fun z => k1 ((nN_eq (b := 1) (by omega) (by decide)).mp z)
    have n3 : ¬ nI k = (3 : Int32) := fun z => k3 ((nN_eq (b := 3) (by omega) (by decide)).mp z)
    refine ⟨a - nI g, n + 1, σ1, μ1, by omega, ?_, ?_, a3⟩
    · unfold yGives
      rw [hci, Option.bind_some, y21_eq hq hk a1 a]
      rcases (show k = 2 ∨ k = 4 ∨ k = 5 by omega) with rfl | rfl | rfl <;> rfl
    · unfold m_gives
      rw [h.2.1.2.2, if_neg n1]
      unfold m_gives_B14
      rw [h.2.1.2.2, if_neg n3, a2, Option.bind_some, a3.2.1.2.2, if_neg n1, if_neg n3, a3.2.1.2.1]
/-! takes -/
theorem y22_both {δ : DS} {q p g k n : Nat} {σ0 σ : SS} {μ0 μ : MS} (hq : isHand δ q k p g) (hk : 1 ≤ k ∧ k ≤ 5) (h : trc 0 σ0 μ0 p g k n σ μ) (hn : n ≤ 24) (a : Int32) : ∃ v n' σ' μ1 μ', n' ≤ n + 3 ∧ y22_takes σ δ q a = some (.inr (v * 2, σ', δ)) ∧ m_runs μ 11 = some μ1 ∧ m_gives μ1 a = some (v, μ') ∧ trc 0 σ0 μ0 p g k n' σ' μ' := by
  obtain ⟨σ1, μ1, a1, a2, a3⟩ := ran_both h (by omega) 11
  obtain ⟨v, n', σ2, μ2, b0, b1, b2, b3⟩ := gives_both hq hk a3 (by omega) a
  refine ⟨v, n', σ2, μ1, μ2, by omega, ?_, a2, b2, b3⟩
  unfold y22_takes
  rw [a1, Option.bind_some, yb_inr b1 (Nat.le_refl _)]
theorem takes_both {δ : DS} {q p g k n : Nat} {σ0 σ : SS} {μ0 μ : MS} (hq : isHand δ q k p g) (hk : 1 ≤ k ∧ k ≤ 5) (h : trc 0 σ0 μ0 p g k n σ μ) (hn : n ≤ 20) (a : Int32) : ∃ v n' σ' μ', n' ≤ n + 4 ∧ yTakes σ δ q a = some (.inr (v, σ', δ)) ∧ m_takes μ a = some (v, μ') ∧ trc 0 σ0 μ0 p g k n' σ' μ' := by
  have hci : dci δ q = some (6 + k) := hand_ci hq
  rcases (show k = 2 ∨ k = 3 ∨ k = 5 ∨ (k ≠ 2 ∧ k ≠ 3 ∧ k ≠ 5) by omega) with rfl | rfl | rfl | ⟨k1, k3, k5⟩
  · obtain ⟨σ1, μ1, a1, a2, a3⟩ := ran_both h (by omega) 30
    obtain ⟨v, n', σ2, μ2, μ3, b0, b1, b2, b3, b4⟩ := y22_both hq hk a3 (by omega) a
    refine ⟨0 - v * 2, n', σ2, μ3, by omega, ?_, ?_, b4⟩
    · unfold yTakes
      rw [hci, Option.bind_some, if_neg (by decide), if_pos (show 6 + 2 = 8 from rfl)]
      unfold y9_takes
      rw [a1, Option.bind_some, dHd_b hq hk, yb_inr b1 (Nat.le_refl _)]
    · unfold m_takes
      rw [h.2.1.2.2, if_pos (show nI 2 = (2 : Int32) from rfl), a2, Option.bind_some]
      unfold m_takes_B32
      rw [a3.2.1.2.2, if_neg (by decide), b2, Option.bind_some, b3, Option.bind_some, if_pos rfl]
  · obtain ⟨σ1, μ1, a1, a2, a3⟩ := ran_both h (by omega) 30
    obtain ⟨v, n', σ2, μ2, μ3, b0, b1, b2, b3, b4⟩ := y22_both hq hk a3 (by omega) a
    refine ⟨0 - v * 2, n', σ2, μ3, by omega, ?_, ?_, b4⟩
    · unfold yTakes
      rw [hci, Option.bind_some, if_neg (by decide), if_neg (by decide), if_pos (show 6 + 3 = 9 from rfl)]
      unfold y9_takes
      rw [a1, Option.bind_some, dHd_b hq hk, yb_inr b1 (Nat.le_refl _)]
    · unfold m_takes
      rw [h.2.1.2.2, if_neg (by decide), if_pos (show nI 3 = (3 : Int32) from rfl), a2, Option.bind_some]
      unfold m_takes_B32
      rw [a3.2.1.2.2, if_neg (by decide), b2, Option.bind_some, b3, Option.bind_some, if_pos rfl]
  · obtain ⟨σ1, μ1, a1, a2, a3⟩ := ran_both h (by omega) 60
    obtain ⟨v, n', σ2, μ2, μ3, b0, b1, b2, b3, b4⟩ := y22_both hq hk a3 (by omega) a
    refine ⟨(v * 2) ^^^ nI g, n', σ2, μ3, by omega, ?_, ?_, b4⟩
    · unfold yTakes
      rw [hci, Option.bind_some, if_neg (by decide), if_neg (by decide), if_neg (by decide), if_neg (by decide), if_pos (show 6 + 5 = 11 from rfl)]
      unfold y12_takes
      rw [a1, Option.bind_some, dHd_b hq hk, yb_inr b1 (Nat.le_refl _)]
      dsimp only
      rw [dcl_b hq rfl, yb_inr (h_gr hq hk _) (Nat.le_refl _)]
    · unfold m_takes
      rw [h.2.1.2.2, if_neg (by decide), if_neg (by decide)]
      unfold m_takes_B32
      rw [h.2.1.2.2, if_pos (show nI 5 = (5 : Int32) from rfl), a2, Option.bind_some, b2, Option.bind_some, b3, Option.bind_some, if_neg (by decide), b4.2.1.2.2, if_pos (show nI 5 = (5 : Int32) from rfl), b4.2.1.2.1]
  · obtain ⟨v, n', σ2, μ2, μ3, b0, b1, b2, b3, b4⟩ := y22_both hq hk h (by omega) a
    have n1 : ¬ nI k = (2 : Int32) := fun z => k1 ((nN_eq (b := 2) (by omega) (by decide)).mp z)
    have n3 : ¬ nI k = (3 : Int32) := fun z => k3 ((nN_eq (b := 3) (by omega) (by decide)).mp z)
    have n5 : ¬ nI k = (5 : Int32) := fun z => k5 ((nN_eq (b := 5) (by omega) (by decide)).mp z)
    refine ⟨v * 2, n', σ2, μ3, by omega, ?_, ?_, b4⟩
    · unfold yTakes
      rw [hci, Option.bind_some, b1]
      rcases (show k = 1 ∨ k = 4 by omega) with rfl | rfl <;> rfl
    · unfold m_takes
      rw [h.2.1.2.2, if_neg n1, if_neg n3]
      unfold m_takes_B32
      rw [h.2.1.2.2, if_neg n5, b2, Option.bind_some, b3, Option.bind_some, if_neg (by decide), b4.2.1.2.2, if_neg n5]
/-! splits, swears: the parting may fail -/
def pou (σ0 : SS) (μ0 : MS) (p g k m : Nat) (δ : DS) (F : Option (XR (Int32 × SS × DS))) (G : Option (Int32 × MS)) : Prop := ∃ n' σ' μ' v, n' ≤ m ∧ ((F = some (.inr (v, σ', δ)) ∧ G = some (v, μ') ∧ trc 0 σ0 μ0 p g k n' σ' μ') ∨ (F = some (.inl (6, σ', δ)) ∧ (∃ w, G = some (w, μ')) ∧ trc 1 σ0 μ0 p g k n' σ' μ'))
theorem y23_both {δ : DS} {q p g k n : Nat} {σ0 σ : SS} {μ0 μ : MS} (hq : isHand δ q k p g) (hk : 1 ≤ k ∧ k ≤ 5) (h : trc 0 σ0 μ0 p g k n σ μ) (hn : n ≤ 25) (a : Int32) : pou σ0 μ0 p g k (n + 1) δ (y23_splits σ δ q a) (m_plainSplits μ a) := by
  obtain ⟨σ1, μ1, a1, a2, a3⟩ := ran_both h (by omega) 12
  have eC : y23_splits σ δ q a = if (nI g - nI p) = 0 then some (Sum.inl (6, σ1, δ)) else some (Sum.inr (a - a / (nI g - nI p) * (nI g - nI p), σ1, δ)) := by
    unfold y23_splits
    rw [a1, Option.bind_some, yb_inr (h_Gr hq hk _) (Nat.le_refl _)]
    dsimp only
    rw [yb_inr (h_Nu hq hk _) (Nat.le_refl _)]
  have eM : m_plainSplits μ a = if nI g = nI p then some ((0 : Int32), stF μ1 41 (bI true)) else if (nI g - nI p) = 0 then none else some (a - a / (nI g - nI p) * (nI g - nI p), μ1) := by
    unfold m_plainSplits
    rw [a2, Option.bind_some, a3.2.1.1, a3.2.1.2.1]
    rfl
  obtain ⟨⟨h1, h2, h3⟩, ⟨h4, h5, h6⟩, h7, h8, h9, h10⟩ := a3
  by_cases e : nI g = nI p
  · refine ⟨n + 1, σ1, stF μ1 41 1, 0, Nat.le_refl _, Or.inr ⟨?_, ⟨0, ?_⟩, ⟨h1, (stF_ne (by decide)).trans h2, h3⟩, ⟨(stF_ne (by decide)).trans h4, (stF_ne (by decide)).trans h5, (stF_ne (by decide)).trans h6⟩, stF_at _ _ _, h8, fun k hk => (stF_ne (by omega)).trans (h9 k hk), h10⟩⟩
    · rw [eC, if_pos (by rw [e]; exact Int32.sub_self _)]
    · rw [eM, if_pos e]
      rfl
  · have e2 : ¬ (nI g - nI p) = 0 := fun z => e (by have := Int32.sub_add_cancel (nI g) (nI p); rw [z, Int32.zero_add] at this; exact this.symm)
    refine ⟨n + 1, σ1, μ1, a - a / (nI g - nI p) * (nI g - nI p), Nat.le_refl _, Or.inl ⟨?_, ?_, ⟨h1, h2, h3⟩, ⟨h4, h5, h6⟩, h7, h8, h9, h10⟩⟩
    · rw [eC, if_neg e2]
    · rw [eM, if_neg e, if_neg e2]
theorem y11_both {δ : DS} {q p g k n : Nat} {σ0 σ : SS} {μ0 μ μ1 : MS} (hq : isHand δ q k p g) (hk : 1 ≤ k ∧ k ≤ 5) (h : trc 0 σ0 μ0 p g k n σ μ) (hn : n ≤ 24) (hr : m_runs μ 40 = some μ1) (a : Int32) : pou σ0 μ0 p g k (n + 2) δ (y11_splits σ δ q a) (m_plainSplits μ1 (a + 5)) := by
  obtain ⟨σ1, μ1', a1, a2, a3⟩ := ran_both h (by omega) 40
  rw [hr] at a2
  cases a2
  obtain ⟨n', σ2, μ2, v, b0, b | b⟩ := y23_both hq hk a3 (by omega) (a + 5)
  · refine ⟨n', σ2, μ2, v, by omega, Or.inl ⟨?_, b.2.1, b.2.2⟩⟩
    unfold y11_splits
    rw [a1, Option.bind_some, dHd_b hq hk, yb_inr b.1 (Nat.le_refl _)]
  · refine ⟨n', σ2, μ2, v, by omega, Or.inr ⟨?_, b.2.1, b.2.2⟩⟩
    unfold y11_splits
    rw [a1, Option.bind_some, dHd_b hq hk]
    exact yb_inl b.1 (Nat.le_add_right _ _)
theorem splits_both {δ : DS} {q p g k n : Nat} {σ0 σ : SS} {μ0 μ : MS} (hq : isHand δ q k p g) (hk : 1 ≤ k ∧ k ≤ 5) (h : trc 0 σ0 μ0 p g k n σ μ) (hn : n ≤ 20) (a : Int32) : pou σ0 μ0 p g k (n + 5) δ (ySplits σ δ q a) (m_splits μ a) := by
  have hci : dci δ q = some (6 + k) := hand_ci hq
  rcases (show k = 4 ∨ k = 5 ∨ (k ≠ 4 ∧ k ≠ 5) by omega) with rfl | rfl | ⟨k4, k5⟩
  · obtain ⟨σ1, μ1, a1, a2, a3⟩ := ran_both h (by omega) 40
    obtain ⟨n', σ2, μ2, v, b0, b⟩ := y11_both hq hk h (by omega) a2 a
    have eC : ySplits σ δ q a = y11_splits σ δ q a := by
      unfold ySplits
      rw [hci]
      rfl
    have eM : m_splits μ a = (m_plainSplits μ1 (a + 5)).bind fun r7 => some (r7.1, r7.2) := by
      unfold m_splits
      rw [h.2.1.2.2, if_pos (show nI 4 = (4 : Int32) from rfl), a2, Option.bind_some]
    rw [eC, eM]
    rcases b with b | ⟨b1, ⟨w, b2⟩, b3⟩
    · exact ⟨n', σ2, μ2, v, by omega, Or.inl ⟨b.1, by rw [b.2.1]; rfl, b.2.2⟩⟩
    · exact ⟨n', σ2, μ2, v, by omega, Or.inr ⟨b1, ⟨w, by rw [b2]; rfl⟩, b3⟩⟩
  · obtain ⟨σ1, μ1, a1, a2, a3⟩ := ran_both h (by omega) 61
    obtain ⟨σ1', μ1', -, c2, c3⟩ := ran_both a3 (by omega) 40
    obtain ⟨n', σ2, μ2, v, b0, b⟩ := y11_both hq hk a3 (by omega) c2 a
    have eM : m_splits μ a = (m_plainSplits μ1' (a + 5)).bind fun r4 => (if (r4.2.1 41) = 0 then (m_gives r4.2 (r4.2.1 38)).bind fun r5 => some (r4.1 + r5.1, r5.2) else some ((0 : Int32), r4.2)) := by
      unfold m_splits
      rw [h.2.1.2.2, if_neg (by decide), if_pos (show nI 5 = (5 : Int32) from rfl), a2, Option.bind_some, c2, Option.bind_some]
    have eC : ySplits σ δ q a = y12_splits σ δ q a := by
      unfold ySplits
      rw [hci]
      rfl
    rw [eC, eM]
    unfold y12_splits
    rw [a1, Option.bind_some, dHd_b hq hk]
    rcases b with b | ⟨b1, ⟨w, b2⟩, b3⟩
    · obtain ⟨σ3, μ3, d1, d2, d3⟩ := ran_both b.2.2 (by omega) 10
      refine ⟨n' + 1, σ3, μ3, v + (nI p - nI g), by omega, Or.inl ⟨?_, ?_, d3⟩⟩
      · rw [yb_inr b.1 (Nat.le_refl _)]
        dsimp only
        rw [dcl_b hq rfl, yb_inr (h_nu hq hk _) (Nat.le_refl _)]
        dsimp only
        rw [dcl_b hq rfl, yb_inr (y21_eq hq hk d1 _) (Nat.le_refl _)]
      · rw [b.2.1, Option.bind_some]
        dsimp only
        rw [if_pos b.2.2.2.2.1, b.2.2.2.1.1]
        unfold m_gives
        rw [b.2.2.2.1.2.2, if_neg (by decide)]
        unfold m_gives_B14
        rw [b.2.2.2.1.2.2, if_neg (by decide), d2, Option.bind_some, d3.2.1.2.2, if_neg (by decide), if_neg (by decide), d3.2.1.2.1]
        rfl
    · refine ⟨n', σ2, μ2, v, by omega, Or.inr ⟨yb_inl b1 (Nat.le_add_right _ _), ⟨0, ?_⟩, b3⟩⟩
      rw [b2, Option.bind_some]
      dsimp only
      rw [b3.2.2.1]
      rfl
  · obtain ⟨n', σ2, μ2, v, b0, b⟩ := y23_both hq hk h (by omega) a
    have n4 : ¬ nI k = (4 : Int32) := fun z => k4 ((nN_eq (b := 4) (by omega) (by decide)).mp z)
    have n5 : ¬ nI k = (5 : Int32) := fun z => k5 ((nN_eq (b := 5) (by omega) (by decide)).mp z)
    have eC : ySplits σ δ q a = y23_splits σ δ q a := by
      unfold ySplits
      rw [hci]
      rcases (show k = 1 ∨ k = 2 ∨ k = 3 by omega) with rfl | rfl | rfl <;> rfl
    have eM : m_splits μ a = (m_plainSplits μ a).bind fun r7 => some (r7.1, r7.2) := by
      unfold m_splits
      rw [h.2.1.2.2, if_neg n4, if_neg n5]
    rw [eC, eM]
    rcases b with b | ⟨b1, ⟨w, b2⟩, b3⟩
    · exact ⟨n', σ2, μ2, v, by omega, Or.inl ⟨b.1, by rw [b.2.1]; rfl, b.2.2⟩⟩
    · exact ⟨n', σ2, μ2, v, by omega, Or.inr ⟨b1, ⟨w, by rw [b2]; rfl⟩, b3⟩⟩

theorem y24_both {δ : DS} {q p g k n : Nat} {σ0 σ : SS} {μ0 μ μ1 : MS} (hq : isHand δ q k p g) (hk : 1 ≤ k ∧ k ≤ 5) (h : trc 0 σ0 μ0 p g k n σ μ) (hn : n ≤ 18) (hr : m_runs μ 13 = some μ1) (a : Int32) : ∃ v n' σ' μ', n' ≤ n + 5 ∧ y24_swears σ δ q a = some (.inr (v ^^^ nI p, σ', δ)) ∧ m_takes μ1 a = some (v, μ') ∧ trc 0 σ0 μ0 p g k n' σ' μ' := by
  obtain ⟨σ1, μ1', a1, a2, a3⟩ := ran_both h (by omega) 13
  rw [hr] at a2
  cases a2
  obtain ⟨v, n', σ2, μ2, b0, b1, b2, b3⟩ := takes_both hq hk a3 (by omega) a
  refine ⟨v, n', σ2, μ2, by omega, ?_, b2, b3⟩
  unfold y24_swears
  rw [a1, Option.bind_some, yb_inr b1 (Nat.le_refl _)]
  dsimp only
  rw [yb_inr (h_Nu hq hk _) (Nat.le_refl _)]
theorem swears_both {δ : DS} {q p g k n : Nat} {σ0 σ : SS} {μ0 μ : MS} (hq : isHand δ q k p g) (hk : 1 ≤ k ∧ k ≤ 5) (h : trc 0 σ0 μ0 p g k n σ μ) (hn : n ≤ 12) (a : Int32) : pou σ0 μ0 p g k (n + 12) δ (ySwears σ δ q a) (m_swears μ a) := by
  have hci : dci δ q = some (6 + k) := hand_ci hq
  by_cases e : k = 3
  · subst e
    obtain ⟨σ1, μ1, a1, a2, a3⟩ := ran_both h (by omega) 51
    obtain ⟨-, μ2, -, c2, -⟩ := ran_both a3 (by omega) 13
    obtain ⟨v, n', σ3, μ3, b0, b1, b2, b3⟩ := y24_both hq hk a3 (by omega) c2 a
    obtain ⟨n'', σ4, μ4, w, d0, d⟩ := y23_both hq hk b3 (by omega) (nI g)
    have eM : m_swears μ a = (m_plainSplits μ3 (nI g)).bind fun r7 => some ((v ^^^ nI p) - r7.1, r7.2) := by
      unfold m_swears
      rw [h.2.1.2.2, if_pos (show nI 3 = (3 : Int32) from rfl), a2, Option.bind_some, c2, Option.bind_some, b2, Option.bind_some]
      dsimp only
      rw [b3.2.1.2.2, if_pos (show nI 3 = (3 : Int32) from rfl), b3.2.1.2.1, b3.2.1.1]
      unfold m_splits
      rw [b3.2.1.2.2, if_neg (by decide), if_neg (by decide)]
      cases m_plainSplits μ3 (nI g) with
      | none => rfl
      | some x => rfl
    have eC : ySwears σ δ q a = yb xnA δ (y23_splits σ3 δ q (nI g)) fun r4 => some (Sum.inr ((v ^^^ nI p) - r4.1, r4.2.1, r4.2.2)) := by
      unfold ySwears
      rw [hci, Option.bind_some, if_neg (by decide), if_neg (by decide), if_pos (show 6 + 3 = 9 from rfl)]
      unfold y10_swears
      rw [a1, Option.bind_some, dHd_b hq hk, yb_inr b1 (Nat.le_refl _)]
      dsimp only
      rw [dcl_b hq rfl, yb_inr (h_gr hq hk _) (Nat.le_refl _)]
      dsimp only
      rw [dcl_b hq rfl]
    rw [eC, eM]
    rcases d with d | ⟨d1, ⟨x, d2⟩, d3⟩
    · exact ⟨n'', σ4, μ4, (v ^^^ nI p) - w, by omega, Or.inl ⟨yb_inr d.1 (Nat.le_refl _), by rw [d.2.1]; rfl, d.2.2⟩⟩
    · exact ⟨n'', σ4, μ4, 0, by omega, Or.inr ⟨yb_inl d1 (Nat.le_add_right _ _), ⟨(v ^^^ nI p) - x, by rw [d2]; rfl⟩, d3⟩⟩
  · have n3 : ¬ nI k = (3 : Int32) := fun z => e ((nN_eq (b := 3) (by omega) (by decide)).mp z)
    obtain ⟨-, μ2, -, c2, -⟩ := ran_both h (by omega) 13
    obtain ⟨v, n', σ3, μ3, b0, b1, b2, b3⟩ := y24_both hq hk h (by omega) c2 a
    refine ⟨n', σ3, μ3, v ^^^ nI p, by omega, Or.inl ⟨?_, ?_, b3⟩⟩
    · unfold ySwears
      rw [hci, Option.bind_some, b1]
      rcases (show k = 1 ∨ k = 2 ∨ k = 4 ∨ k = 5 by omega) with rfl | rfl | rfl | rfl <;> rfl
    · unfold m_swears
      rw [h.2.1.2.2, if_neg n3, c2, Option.bind_some, b2, Option.bind_some]
      dsimp only
      rw [b3.2.1.2.2, if_neg n3, b3.2.1.1]
/-- all but the trace as it was -/
theorem Rel_act {σ σ' : SS} {δ : DS} {μ μ' : MS} (H : Rel σ δ μ) (hC : aC σ σ') (hM : aM μ μ') (ht : rTrace σ' μ') : Rel σ' δ μ' := by
  obtain ⟨⟨T, RS, h⟩, ⟨a, b⟩, ⟨c, d, -⟩, ⟨f, g⟩, hp, i⟩ := H
  obtain ⟨hi, ha, hr⟩ := hC
  obtain ⟨mi, ma⟩ := hM
  refine ⟨⟨T, RS, cor_id (simC_cg h.1.1 (fun k hk => hi _ (by omega)) (fun j hj n hn => by rw [ha _ (by omega)])) (by rw [ma 0 (by decide)]; exact h.M) h.2.1.1 h.2.1.2 (by rw [hr]; exact h.2.2.1.1) (by rw [hr]; exact h.2.2.1.2) (by rw [ma 0 (by decide)]; exact h.2.2.2)⟩, ⟨?_, ?_⟩, ⟨?_, ?_, ht⟩, ⟨?_, ?_⟩, by unfold rPart; rw [ha 41 (by decide)]; exact hp, i⟩
  · exact rKept_k a ⟨fun k hk => hi k (by omega), fun j hj => ha j (by omega), by rw [hr]⟩ ⟨mi 3 (by decide), ma 1 (by decide)⟩ (exA.rf δ)
  · intro k hk
    rw [hr]
    exact b k hk
  · obtain ⟨n, g1, g2, g3, g4⟩ := c
    exact ⟨n, g1, by rw [hi 41 (by decide)]; exact g2, by rw [mi 23 (by decide)]; exact g3, by rw [ha 46 (by decide), ma 10 (by decide)]; exact g4⟩
  · obtain ⟨n, g1, g2, g3, g4⟩ := d
    exact ⟨n, g1, by rw [hi 58 (by decide)]; exact g2, by rw [mi 21 (by decide)]; exact g3, by rw [ha 44 (by decide), ma 9 (by decide)]; exact g4⟩
  · unfold rSheet
    rw [hr, ma 11 (by decide), ma 12 (by decide), ma 13 (by decide)]
    exact f
  · unfold rShelf
    rw [hr, ma 14 (by decide), ma 15 (by decide), ma 16 (by decide)]
    exact g
theorem sw_is {δ : DS} {q k p g : Nat} (h : isHand δ q k p g) (hk : 1 ≤ k ∧ k ≤ 5) : dIs δ "LeftUndoes$Swears" (some q) = some true := by
  show (dNm δ q).bind _ = _
  rw [hand_nm h hk, Option.bind_some]
  rcases (show k = 1 ∨ k = 2 ∨ k = 3 ∨ k = 4 ∨ k = 5 by omega) with rfl | rfl | rfl | rfl | rfl <;> decide
theorem sw_no {δ : DS} {q t n : Nat} {ar : (Nat → Int32) ⊕ (Nat → Int64) ⊕ (Nat → UInt32) ⊕ (Nat → UInt64) ⊕ (Nat → Option Nat)} (h : dl δ q = some (.inl (tIx t, n, ar))) (ht : t ≤ 4) : dIs δ "LeftUndoes$Swears" (some q) = some false := by
  show (dNm δ q).bind _ = _
  rw [row_nm h (tIx_lt t), Option.bind_some]
  rcases (show t = 0 ∨ t = 1 ∨ t = 2 ∨ t = 3 ∨ t = 4 by omega) with rfl | rfl | rfl | rfl | rfl <;> decide

theorem pl_50 (a b c d : Int32) (σ : SS) (δ : DS) (μ : MS) (H : Rel σ δ μ) : pLaw Rel 50 a b c d σ δ μ := by
  obtain ⟨T, RS, h⟩ := H.1
  have hI := h.2.1.1
  have hSf := H.2.2.2.1.2
  have hC0 : aC σ (sI σ 70 0) := ⟨fun k hk => upd_ne hk, fun _ _ => rfl, rfl⟩
  have hM0 : ∀ x, aM μ (stF (stF (stF μ 37 0) 41 (bI false)) 38 x) := fun x => ⟨fun k hk => (stF_ne (by omega)).trans ((stF_ne (by omega)).trans (stF_ne (by omega))), fun _ _ => rfl⟩
  have t0 : ∀ x, rTrace (sI σ 70 0) (stF (stF (stF μ 37 0) 41 (bI false)) 38 x) := fun x => ⟨0, by decide, upd_at σ.1 70 0, (stF_ne (by decide)).trans ((stF_ne (by decide)).trans (stF_at _ _ _)), fun i hi => absurd hi (by omega)⟩
  have z : ∀ x, Rel (sI σ 70 0) δ (stF (stF (stF μ 37 0) 41 (bI false)) 38 x) := fun x => Rel_act H hC0 (hM0 x) (t0 x)
  have eM : m_act μ a b c = (m_onShelf (stF (stF μ 37 0) 41 (bI false)) a).bind fun r3 => (if r3 < 0 then some ((0 : Int32), stF (stF (stF μ 37 0) 41 (bI false)) 38 r3) else (m_in b.toInt64 (0 : Int64) (3 : Int64)).bind fun r5 => (if r5 = true then (m_its (stF (stF (stF μ 37 0) 41 (bI false)) 38 r3) r3 (1 : Int32)).bind fun r6 => (m_its (stF (stF (stF (stF μ 37 0) 41 (bI false)) 38 r3) 39 r6) r3 (0 : Int32)).bind fun r8 => (if b = 0 then (m_gives (stF (stF (stF (stF (stF μ 37 0) 41 (bI false)) 38 r3) 39 r6) 40 r8) c).bind fun r13 => (if (r13.2.1 41) = 0 then some (r13.1, r13.2) else some ((-15 : Int32), r13.2)) else (if b = (1 : Int32) then (m_takes (stF (stF (stF (stF (stF μ 37 0) 41 (bI false)) 38 r3) 39 r6) 40 r8) c).bind fun r12 => (if (r12.2.1 41) = 0 then some (r12.1, r12.2) else some ((-15 : Int32), r12.2)) else (if b = (2 : Int32) then (m_splits (stF (stF (stF (stF (stF μ 37 0) 41 (bI false)) 38 r3) 39 r6) 40 r8) c).bind fun r11 => (if (r11.2.1 41) = 0 then some (r11.1, r11.2) else some ((-15 : Int32), r11.2)) else (m_swears (stF (stF (stF (stF (stF μ 37 0) 41 (bI false)) 38 r3) 39 r6) 40 r8) c).bind fun r10 => (if (r10.2.1 41) = 0 then some (r10.1, r10.2) else some ((-15 : Int32), r10.2))))) else some ((0 : Int32), stF (stF (stF μ 37 0) 41 (bI false)) 38 r3))) := rfl
  have no : ∀ x2, f0_act_B33 (sI σ 70 0) δ x2 c none = some (0, sI σ 70 0, δ) := fun _ => rfl
  rcases shelf_both a with ⟨s, hs, rfl, e1, e2, e3⟩ | ⟨e1, e2⟩
  · have hh : heldC T s (sI σ 70 0) δ (stF (stF μ 37 0) 41 (bI false)) := held_both (σ := sI σ 70 0) (μ := stF (stF μ 37 0) 41 (bI false)) (cor_id (simC_cg h.1.1 (fun k hk => upd_ne (by omega)) (fun _ _ _ _ => rfl)) h.M h.2.1.1 h.2.1.2 h.2.2.1.1 h.2.2.1.2 h.2.2.2) hSf hs rfl (fun _ _ _ => rfl)
    have hC1 : f0_act σ δ (nI s) b c = ((f0_isIn b (0 : Int32) (3 : Int32)).bind fun r3 => (if r3 = true then yh xnA δ (f0_held (sI σ 70 0) δ (nI s)) (fun y => none) fun r4 => f0_act_B33 r4.2.1 r4.2.2 b c r4.1 else f0_act_B33 (sI σ 70 0) δ b c none)) := by
      unfold f0_act
      rw [Option.bind_some, e1, Option.bind_some, if_pos rfl]
    -- nobody on the shelf
    have nobody : ∀ o, f0_held (sI σ 70 0) δ (nI s) = some (.inr (o, sI σ 70 0, δ)) → (∀ x2, f0_act_B33 (sI σ 70 0) δ x2 c o = some (0, sI σ 70 0, δ)) → m_onShelf (stF (stF μ 37 0) 41 (bI false)) (nI s) = some (-1) → pLaw Rel 50 (nI s) b c d σ δ μ := fun o g1 g2 g3 => by
      refine pl_0 (r := 0) (σ' := sI σ 70 0) (μ' := stF (stF (stF μ 37 0) 41 (bI false)) 38 (-1)) ?_ ?_ (z _)
      · rw [cc50, hC1]
        rcases in_0_3 b with ⟨n, -, h2, rfl, e4, e5⟩ | ⟨e4, e5⟩
        · rw [e4, Option.bind_some, if_pos rfl, yh_inr g1 (Nat.le_refl _)]
          exact g2 _
        · rw [e4, Option.bind_some, if_neg (by decide), no]
      · rw [mc50, eM, g3, Option.bind_some, if_pos (by decide)]
    rcases hh with ⟨g1, g2, -⟩ | ⟨q, p, hp, hq, g1, g2, -⟩ | ⟨q, t, n, ar, ht, hn, g0, g1, g2, -⟩
    · exact nobody none g1 no g2
    · have hk : 1 ≤ tA T 0 p ∧ tA T 0 p ≤ 5 := (hI.2.1 p hp).1
      have hp6 : p < 6 := by have := hI.1.1; omega
      have hneg : ¬ nI p < 0 := nN_neg (by omega)
      rw [g2, Option.bind_some, if_neg hneg] at eM
      rcases in_0_3 b with ⟨n, -, hn, rfl, e4, e5⟩ | ⟨e4, e5⟩
      · rw [e5, Option.bind_some, if_pos rfl, mP_grace (μ := stF (stF (stF μ 37 0) 41 (bI false)) 38 (nI p)) h.M hp6, Option.bind_some, mP_kind (μ := stF (stF (stF (stF μ 37 0) 41 (bI false)) 38 (nI p)) 39 (nI (tA T 1 p))) h.M hp6, Option.bind_some] at eM
        rw [e4, Option.bind_some, if_pos rfl, yh_inr g1 (Nat.le_refl _)] at hC1
        dsimp only at hC1
        generalize hμ1 : stF (stF (stF (stF (stF μ 37 0) 41 (bI false)) 38 (nI p)) 39 (nI (tA T 1 p))) 40 (nI (tA T 0 p)) = μ1 at eM
        have ht : trc 0 σ μ p (tA T 1 p) (tA T 0 p) 0 (sI σ 70 0) μ1 := by
          subst hμ1
          exact ⟨⟨upd_at σ.1 70 0, (stF_ne (by decide)).trans ((stF_ne (by decide)).trans ((stF_ne (by decide)).trans ((stF_ne (by decide)).trans (stF_at _ _ _)))), fun i hi => absurd hi (by omega)⟩, ⟨(stF_ne (by decide)).trans ((stF_ne (by decide)).trans (stF_at _ _ _)), (stF_ne (by decide)).trans (stF_at _ _ _), stF_at _ _ _⟩, (stF_ne (by decide)).trans ((stF_ne (by decide)).trans ((stF_ne (by decide)).trans (stF_at _ _ _))), hC0, fun k hk => (stF_ne (by omega)).trans ((stF_ne (by omega)).trans ((hM0 (nI p)).1 k hk)), fun _ _ => rfl⟩
        have hB : f0_act_B33 (sI σ 70 0) δ (nI n) c (some q) = (if nI n = (0 : Int32) then yh xnA δ (yGives (sI σ 70 0) δ q c) (fun y => (if y.1 = 6 then some ((-15 : Int32), y.2.1) else none)) fun r2 => some (r2.1, r2.2.1, r2.2.2) else (if nI n = (1 : Int32) then yh xnA δ (yTakes (sI σ 70 0) δ q c) (fun y => (if y.1 = 6 then some ((-15 : Int32), y.2.1) else none)) fun r3 => some (r3.1, r3.2.1, r3.2.2) else (if nI n = (2 : Int32) then yh xnA δ (ySplits (sI σ 70 0) δ q c) (fun y => (if y.1 = 6 then some ((-15 : Int32), y.2.1) else none)) fun r4 => some (r4.1, r4.2.1, r4.2.2) else yh xnA δ (ySwears (sI σ 70 0) δ q c) (fun y => (if y.1 = 6 then some ((-15 : Int32), y.2.1) else none)) fun r5 => some (r5.1, r5.2.1, r5.2.2)))) := by
          unfold f0_act_B33
          rw [sw_is hq hk, Option.bind_some, if_pos rfl, show dCk δ "LeftUndoes$Swears" (some q) = some true from sw_is hq hk, Option.bind_some, if_pos rfl]
          rfl
        rw [hB] at hC1
        have fin : ∀ w n' σ' μ', n' ≤ 30 → trc w σ μ p (tA T 1 p) (tA T 0 p) n' σ' μ' → Rel σ' δ μ' := fun w n' σ' μ' g3 g4 => Rel_act H g4.2.2.2.1 g4.2.2.2.2 ⟨n', g3, g4.1.1, g4.1.2.1, g4.1.2.2⟩
        have ok : ∀ (F : Option (XR (Int32 × SS × DS))) (G : Option (Int32 × MS)) (m : Nat), m ≤ 30 → pou σ μ p (tA T 1 p) (tA T 0 p) m δ F G → ∃ v σ' μ', (yh xnA δ F (fun y => (if y.1 = 6 then some ((-15 : Int32), y.2.1) else none)) fun r2 => some (r2.1, r2.2.1, r2.2.2)) = some (v, σ', δ) ∧ (G.bind fun r13 => (if (r13.2.1 41) = 0 then some (r13.1, r13.2) else some ((-15 : Int32), r13.2))) = some (v, μ') ∧ Rel σ' δ μ' := fun F G m hm hp => by
          obtain ⟨n', σ', μ', v, x0, ⟨x1, x2, x3⟩ | ⟨x1, ⟨w, x2⟩, x3⟩⟩ := hp
          · exact ⟨v, σ', μ', yh_inr x1 (Nat.le_refl _), by rw [x2, Option.bind_some, if_pos x3.2.2.1], fin 0 n' σ' μ' (by omega) x3⟩
          · exact ⟨-15, σ', μ', yh_inl (y := (6, σ', δ)) x1 (Nat.le_add_right _ _) rfl, by rw [x2, Option.bind_some]; dsimp only; rw [x3.2.2.1]; rfl, fin 1 n' σ' μ' (by omega) x3⟩
        have pg : ∀ {F : Option (XR (Int32 × SS × DS))} {G : Option (Int32 × MS)} {m : Nat}, (∃ v n' σ' μ', n' ≤ m ∧ F = some (.inr (v, σ', δ)) ∧ G = some (v, μ') ∧ trc 0 σ μ p (tA T 1 p) (tA T 0 p) n' σ' μ') → pou σ μ p (tA T 1 p) (tA T 0 p) m δ F G := fun ⟨v, n', σ', μ', x0, x1, x2, x3⟩ => ⟨n', σ', μ', v, x0, Or.inl ⟨x1, x2, x3⟩⟩
        rcases (show n = 0 ∨ n = 1 ∨ n = 2 ∨ n = 3 by omega) with rfl | rfl | rfl | rfl
        · obtain ⟨v, σ', μ', y1, y2, y3⟩ := ok _ _ _ (by decide) (pg (gives_both hq hk ht (by decide) c))
          exact pl_0 (r := v) (σ' := σ') (μ' := μ') (by rw [cc50, hC1]; exact y1) (by rw [mc50, eM]; exact y2) y3
        · obtain ⟨v, σ', μ', y1, y2, y3⟩ := ok _ _ _ (by decide) (pg (takes_both hq hk ht (by decide) c))
          exact pl_0 (r := v) (σ' := σ') (μ' := μ') (by rw [cc50, hC1]; exact y1) (by rw [mc50, eM]; exact y2) y3
        · obtain ⟨v, σ', μ', y1, y2, y3⟩ := ok _ _ _ (by decide) (splits_both hq hk ht (by decide) c)
          exact pl_0 (r := v) (σ' := σ') (μ' := μ') (by rw [cc50, hC1]; exact y1) (by rw [mc50, eM]; exact y2) y3
        · obtain ⟨v, σ', μ', y1, y2, y3⟩ := ok _ _ _ (by decide) (swears_both hq hk ht (by decide) c)
          exact pl_0 (r := v) (σ' := σ') (μ' := μ') (by rw [cc50, hC1]; exact y1) (by rw [mc50, eM]; exact y2) y3
      · refine pl_0 (r := 0) (σ' := sI σ 70 0) (μ' := stF (stF (stF μ 37 0) 41 (bI false)) 38 (nI p)) ?_ ?_ (z _)
        · rw [cc50, hC1, e4, Option.bind_some, if_neg (by decide), no]
        · rw [mc50, eM, e5, Option.bind_some, if_neg (by decide)]
    · refine nobody (some q) g1 (fun x2 => ?_) g2
      unfold f0_act_B33
      rw [sw_no g0 ht]
      rfl
  · have em : m_onShelf (stF (stF μ 37 0) 41 (bI false)) a = some (-1) := by
      unfold m_onShelf
      rw [e2]
      rfl
    refine pl_0 (r := 0) (σ' := sI σ 70 0) (μ' := stF (stF (stF μ 37 0) 41 (bI false)) 38 (-1)) ?_ ?_ (z _)
    · rw [cc50]
      unfold f0_act
      rw [Option.bind_some, e1, Option.bind_some, if_neg (by decide), no]
    · rw [mc50, eM, em, Option.bind_some, if_pos (by decide)]
