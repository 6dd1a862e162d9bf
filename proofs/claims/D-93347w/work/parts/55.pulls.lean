/-! PLAIN LAW: what stands (the model), pulls, sets of deeds, what a year is worth -/
set_option maxRecDepth 100000
theorem m_stands_L {T : Tw} {μ : MS} (hM : simM T (μ.2 0)) (hI : Inv T) (N : Nat) {p : Nat} (hp : p < 2 ^ 31) : ∀ (r d fuel : Nat), d + r = tD T → r < fuel → m_standWeight_L4 N μ fuel (nI p) (nI (sN (standing T p) d)) (nI d) = some (nI (stands T p)) := by
  have hd6 : tD T ≤ 10 := hI.1.2.1
  intro r
  induction r with
  | zero =>
    intro d fuel h1 h2
    obtain ⟨n, rfl⟩ : ∃ n, fuel = n + 1 := ⟨fuel - 1, by omega⟩
    show (ldM μ 0 (5 : Int32)).bind _ = _
    rw [mF_deeds hM]
    simp only [Option.bind_some]
    rw [if_pos ((nN_le (by omega) (by omega)).mpr (by omega)), show d = tD T by omega]
    rfl
  | succ r ih =>
    intro d fuel h1 h2
    obtain ⟨n, rfl⟩ : ∃ n, fuel = n + 1 := ⟨fuel - 1, by omega⟩
    have hw := hI.2.2.1 d (by omega)
    have hp6 : tP T ≤ 6 := hI.1.1
    show (ldM μ 0 (5 : Int32)).bind _ = _
    rw [mF_deeds hM]
    simp only [Option.bind_some]
    rw [if_neg (fun h => by have := (nN_le (by omega) (by omega)).mp h; omega)]
    rw [mD_whose hM (by omega), mD_so hM (by omega), mD_weight hM (by omega)]
    simp only [Option.bind_some]
    have hn := ih (d + 1) n (by omega) (by omega)
    have hs : sN (standing T p) (d + 1) = sN (standing T p) d + standing T p d := rfl
    rw [hs] at hn
    have e1 : nI d + 1 = nI (d + 1) := nI_1 d
    rw [e1, if_neg (nN_neg hp), show (1 : Int32) = nI 1 from rfl, show (0 : Int32) = nI 0 from rfl, nN_add, nN_add]
    by_cases h4 : tA T 7 d = 1
    · rw [if_pos (by rw [h4])]
      by_cases h3 : tA T 3 d = p
      · rw [if_pos (by rw [h3])]
        unfold standing at hn
        rw [if_pos ⟨h3, h4⟩] at hn
        exact hn
      · rw [if_neg (fun h => h3 ((nN_eq (by omega) hp).mp h))]
        unfold standing at hn
        rw [if_neg (fun h => h3 h.1)] at hn
        exact hn
    · rw [if_neg (fun h => h4 ((nN_eq (by omega) (by omega)).mp h))]
      unfold standing at hn
      rw [if_neg (fun h => h4 h.2)] at hn
      exact hn
theorem m_stands_eq {T : Tw} {μ : MS} (hM : simM T (μ.2 0)) (hI : Inv T) {N p : Nat} (hN : 11 ≤ N) (hp : p < 2 ^ 31) : m_standWeight N μ (nI p) = some (nI (stands T p)) := by
  have hd6 : tD T ≤ 10 := hI.1.2.1
  exact m_stands_L hM hI N hp (tD T) 0 N (by omega) (by omega)
/-! pulls -/
theorem nN_div {a b : Nat} (ha : a < 2 ^ 31) (hb : b < 2 ^ 31) : nI a / nI b = nI (a / b) := by
  apply Int32.toInt_inj.mp
  rw [Int32.toInt_div, nI_toInt ha, nI_toInt hb, nI_toInt (Nat.lt_of_le_of_lt (Nat.div_le_self a b) ha)]
  rw [show (a : Int).tdiv (b : Int) = ((a / b : Nat) : Int) from by rw [Int.ofNat_tdiv]]
  apply Int.bmod_eq_of_le
  · have : (0 : Int) ≤ ((a / b : Nat) : Int) := Int.natCast_nonneg _
    omega
  · have := Nat.div_le_self a b
    omega
theorem nN_mod {a b : Nat} (ha : a < 2 ^ 31) (hb : b < 2 ^ 31) : nI a - nI a / nI b * nI b = nI (a % b) := by
  rw [nN_div ha hb, nN_mul, nN_sub (Nat.div_mul_le_self a b)]
  congr 1
  have := Nat.div_add_mod a b
  rw [Nat.mul_comm] at this
  omega
theorem m_pullOf_eq {k s y : Nat} (hk : k ≤ 5) (hs : s ≤ 9) (hy : y ≤ 40) : m_pullOf (nI k) (nI s) (nI y) = some (nI (pull k s y)) := by
  have e : ∀ j : Nat, j < 6 → (nI k = nI j ↔ k = j) := fun j hj => nN_eq (by omega) (by omega)
  unfold m_pullOf pull
  rw [show (1 : Int32) = nI 1 from rfl, show (2 : Int32) = nI 2 from rfl, show (3 : Int32) = nI 3 from rfl, show (4 : Int32) = nI 4 from rfl, show (5 : Int32) = nI 5 from rfl, show (9 : Int32) = nI 9 from rfl, show (0 : Int32) = nI 0 from rfl]
  simp only [e 1 (by decide), e 2 (by decide), e 3 (by decide), e 4 (by decide), e 5 (by decide)]
  rw [nN_mod (by omega) (by omega), nN_div (by omega) (by omega), nN_add]
  have e2 : (nI (y % 3) = nI 2) ↔ y % 3 = 2 := nN_eq (by omega) (by omega)
  have e3 : (nI y < nI 9) ↔ y < 9 := nN_lt (by omega) (by omega)
  simp only [e2, e3]
  repeat' split
  all_goals rfl
theorem m_pulls_eq {T : Tw} {μ : MS} (hM : simM T (μ.2 0)) (hI : Inv T) {p : Nat} (hp : p < tP T) : m_pulls μ (nI p) = some (nI (pull (tA T 0 p) (tA T 2 p) (tY T))) := by
  have hp6 : tP T ≤ 6 := hI.1.1
  have hy : tY T ≤ 16 := Nat.le_trans hI.1.2.2.2.2.1 hI.1.2.2.2.1
  have hh := hI.2.1 p hp
  unfold m_pulls
  rw [mP_kind hM (by omega), mP_strength hM (by omega), mF_year hM]
  simp only [Option.bind_some]
  rw [m_pullOf_eq hh.1.2 hh.2.2.2 (by omega)]
  rfl
theorem hand_pull {δ : DS} {q k p g s y : Nat} (hk : 1 ≤ k ∧ k ≤ 5) (hs : s ≤ 9) (hy : y ≤ 40) (h : isHand δ q k p g) : hPull δ q (nI s) (nI y) = some (nI (pull k s y)) := by
  have h0 := hand_ci h
  unfold hPull
  rw [h0]
  simp only [Option.bind_some]
  rcases (show k = 1 ∨ k = 2 ∨ k = 3 ∨ k = 4 ∨ k = 5 by omega) with rfl | rfl | rfl | rfl | rfl
  · show f8_pull δ q (nI s) (nI y) = _
    unfold f8_pull f7_pull
    rw [h0]
    simp only [Option.bind_some]
    rw [show (3 : Int32) = nI 3 from rfl, nN_mod (by omega) (by omega), show (2 : Int32) = nI 2 from rfl]
    have e2 : (nI (y % 3) = nI 2) ↔ y % 3 = 2 := nN_eq (by omega) (by omega)
    simp only [e2]
    unfold pull
    rw [if_pos rfl]
    split <;> rfl
  · rfl
  · show f10_pull δ q (nI s) (nI y) = _
    unfold f10_pull f7_pull
    rw [h0]
    simp only [Option.bind_some]
    rw [show (1 : Int32) = nI 1 from rfl, nN_add]
    rfl
  · show f11_pull δ q (nI s) (nI y) = _
    unfold f11_pull f7_pull
    rw [h0]
    simp only [Option.bind_some]
    rw [show (2 : Int32) = nI 2 from rfl, nN_div (by omega) (by omega)]
    rfl
  · show f12_pull δ q (nI s) (nI y) = _
    unfold f12_pull f11_pull f7_pull
    rw [h0]
    simp only [Option.bind_some]
    rw [show (2 : Int32) = nI 2 from rfl, nN_div (by omega) (by omega), show (9 : Int32) = nI 9 from rfl]
    have e3 : (nI y < nI 9) ↔ y < 9 := nN_lt (by omega) (by omega)
    simp only [e3]
    unfold pull
    by_cases h9 : y < 9
    · simp [h9]
    · simp [h9]
/-! sets of deeds -/
def setS (T : Tw) (so : Int32) : Nat → Int32
  | 0 => 0
  | d + 1 => setS T so d ||| (if nI (tA T 7 d) = so then (1 : Int32) <<< (nI d &&& 31) else 0)
theorem f_set_L {T : Tw} {σ : SS} (hC : simC T 0 σ) (hd6 : tD T ≤ 10) (N : Nat) (so : Int32) : ∀ (r d fuel : Nat), d + r = tD T → r < fuel → f0_setOf_L4 N σ fuel so (setS T so d) (nI d) = some (setS T so (tD T)) := by
  intro r
  induction r with
  | zero =>
    intro d fuel h1 h2
    obtain ⟨n, rfl⟩ : ∃ n, fuel = n + 1 := ⟨fuel - 1, by omega⟩
    show (if (σ.1 1) ≤ nI d then _ else _) = _
    rw [show σ.1 1 = nI (tD T) from hC.1.2.1, if_pos ((nN_le (by omega) (by omega)).mpr (by omega)), show d = tD T by omega]
  | succ r ih =>
    intro d fuel h1 h2
    obtain ⟨n, rfl⟩ : ∃ n, fuel = n + 1 := ⟨fuel - 1, by omega⟩
    show (if (σ.1 1) ≤ nI d then _ else _) = _
    rw [show σ.1 1 = nI (tD T) from hC.1.2.1, if_neg (fun h => by have := (nN_le (by omega) (by omega)).mp h; omega)]
    rw [cD_so hC (by omega)]
    simp only [Option.bind_some]
    have hn := ih (d + 1) n (by omega) (by omega)
    have hs : setS T so (d + 1) = setS T so d ||| (if nI (tA T 7 d) = so then (1 : Int32) <<< (nI d &&& 31) else 0) := rfl
    rw [hs] at hn
    rw [show nI d + 1 = nI (d + 1) from nI_1 d]
    by_cases h : nI (tA T 7 d) = so
    · rw [if_pos h] at hn ⊢; exact hn
    · rw [if_neg h] at hn ⊢; exact hn
theorem f_set_eq {T : Tw} {σ : SS} (hC : simC T 0 σ) (hd6 : tD T ≤ 10) {N : Nat} (hN : 11 ≤ N) (so : Int32) : f0_setOf N σ so = some (setS T so (tD T)) := f_set_L hC hd6 N so (tD T) 0 N (by omega) (by omega)
theorem m_set_L {T : Tw} {μ : MS} (hM : simM T (μ.2 0)) (hd6 : tD T ≤ 10) (N : Nat) (so : Int32) : ∀ (r d fuel : Nat), d + r = tD T → r < fuel → m_those_L4 N μ fuel so (setS T so d) (nI d) = some (setS T so (tD T)) := by
  intro r
  induction r with
  | zero =>
    intro d fuel h1 h2
    obtain ⟨n, rfl⟩ : ∃ n, fuel = n + 1 := ⟨fuel - 1, by omega⟩
    show (ldM μ 0 (5 : Int32)).bind _ = _
    rw [mF_deeds hM]
    simp only [Option.bind_some]
    rw [if_pos ((nN_le (by omega) (by omega)).mpr (by omega)), show d = tD T by omega]
  | succ r ih =>
    intro d fuel h1 h2
    obtain ⟨n, rfl⟩ : ∃ n, fuel = n + 1 := ⟨fuel - 1, by omega⟩
    show (ldM μ 0 (5 : Int32)).bind _ = _
    rw [mF_deeds hM]
    simp only [Option.bind_some]
    rw [if_neg (fun h => by have := (nN_le (by omega) (by omega)).mp h; omega)]
    rw [mD_so hM (by omega)]
    simp only [Option.bind_some]
    have hn := ih (d + 1) n (by omega) (by omega)
    have hs : setS T so (d + 1) = setS T so d ||| (if nI (tA T 7 d) = so then (1 : Int32) <<< (nI d &&& 31) else 0) := rfl
    rw [hs] at hn
    rw [show nI d + 1 = nI (d + 1) from nI_1 d]
    by_cases h : nI (tA T 7 d) = so
    · rw [if_pos h] at hn ⊢; exact hn
    · rw [if_neg h] at hn ⊢; exact hn
theorem m_set_eq {T : Tw} {μ : MS} (hM : simM T (μ.2 0)) (hd6 : tD T ≤ 10) {N : Nat} (hN : 11 ≤ N) (so : Int32) : m_those N μ so = some (setS T so (tD T)) := m_set_L hM hd6 N so (tD T) 0 N (by omega) (by omega)
