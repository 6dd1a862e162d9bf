/-! PLAIN LAW: strangers -/
set_option maxRecDepth 100000
/-- how many aren't made yet -/
def nn (f : Nat → Option Nat) : Nat → Nat
  | 0 => 0
  | k + 1 => nn f k + (if f k = none then 1 else 0)
theorem nn_le (f : Nat → Option Nat) (n : Nat) : nn f n ≤ n := by
  induction n with
  | zero => exact Nat.le_refl _
  | succ n ih =>
    show nn f n + (if f n = none then 1 else 0) ≤ n + 1
    split <;> omega
theorem nn_up {f : Nat → Option Nat} {k q : Nat} (h : f k = none) : ∀ n, nn (va_up f k (some q)) n + (if k < n then 1 else 0) = nn f n := by
  intro n
  induction n with
  | zero => rfl
  | succ n ih =>
    have h1 : nn (va_up f k (some q)) (n + 1) = nn (va_up f k (some q)) n + (if va_up f k (some q) n = none then 1 else 0) := rfl
    have h2 : nn f (n + 1) = nn f n + (if f n = none then 1 else 0) := rfl
    rw [h1, h2]
    by_cases e : n = k
    · have h3 : va_up f k (some q) n = some q := if_pos e
      rw [h3]
      subst e
      simp [h] at ih ⊢
      omega
    · have h3 : va_up f k (some q) n = f n := if_neg e
      rw [h3]
      by_cases hk : k < n
      · have hk1 : k < n + 1 := by omega
        simp only [hk, hk1, if_true] at ih ⊢
        omega
      · have hk1 : ¬ k < n + 1 := by omega
        simp only [hk, hk1, if_false] at ih ⊢
        omega
/-- what looking at strangers may change -/
def SG (σ : SS) (δ : DS) (σ' : SS) (δ' : DS) : Prop := ((∀ k, k ≠ 56 → σ'.1 k = σ.1 k) ∧ σ'.2.1 = σ.2.1 ∧ σ'.2.2.1 = σ.2.2.1 ∧ σ'.2.2.2 0 = σ.2.2.2 0) ∧ (exA δ δ' ∧ rStr σ' δ' ∧ fresh δ') ∧ δ.2 ≤ δ'.2 ∧ δ'.2 + nn (σ'.2.2.2 1) 45 ≤ δ.2 + nn (σ.2.2.2 1) 45
theorem SG.rf {σ : SS} {δ : DS} (h : rStr σ δ) (hf : fresh δ) : SG σ δ σ δ := ⟨⟨fun _ _ => rfl, rfl, rfl, rfl⟩, ⟨exA.rf δ, h, hf⟩, Nat.le_refl _, Nat.le_refl _⟩
theorem SG.tr {σ1 σ2 σ3 : SS} {δ1 δ2 δ3 : DS} (h : SG σ1 δ1 σ2 δ2) (g : SG σ2 δ2 σ3 δ3) : SG σ1 δ1 σ3 δ3 := ⟨⟨fun k hk => (g.1.1 k hk).trans (h.1.1 k hk), g.1.2.1.trans h.1.2.1, g.1.2.2.1.trans h.1.2.2.1, g.1.2.2.2.trans h.1.2.2.2⟩, ⟨h.2.1.1.tr g.2.1.1, g.2.1.2⟩, Nat.le_trans h.2.2.1 g.2.2.1, Nat.le_trans g.2.2.2 h.2.2.2⟩
theorem SG.sim {σ1 σ2 : SS} {δ1 δ2 : DS} (h : SG σ1 δ1 σ2 δ2) {T : Tw} (hC : simC T 0 σ1) : simC T 0 σ2 := simC_cg hC (fun k hk => h.1.1 _ (by omega)) (fun j hj n hn => by rw [h.1.2.1])
theorem SG_56 {σ : SS} {δ : DS} (h : rStr σ δ) (hf : fresh δ) (x : Int32) : SG σ δ (sI σ 56 x) δ := ⟨⟨fun k hk => upd_ne hk, rfl, rfl, rfl⟩, ⟨exA.rf δ, h, hf⟩, Nat.le_refl _, Nat.le_refl _⟩
theorem strange_eq {σ : SS} {δ : DS} (h : rStr σ δ) (hf : fresh δ) {k : Nat} (hk : k < 45) : ∃ q σ' δ', f0_strange σ δ (nI k) = some (q, σ', δ') ∧ isHand δ' q (1 + k / 9) 0 (1 + k % 9) ∧ SG σ δ σ' δ' ∧ σ'.1 = σ.1 := by
  have hld : ∀ σ : SS, ldR σ 1 (nI k) = some (σ.2.2.2 1 k) := fun σ => by
    unfold ldR
    rw [nI_clamp (by omega), if_neg]
    rintro (q | q)
    · exact nN_neg (by omega) q
    · have : 45 ≤ k := q
      omega
  rcases h k hk with h1 | ⟨q, h1, h2⟩
  · have hE := exA_add δ (6 + (1 + k / 9)) [.int (nI 0), .int (nI (1 + k % 9))]
    refine ⟨δ.2, sR σ 1 (va_up (σ.2.2.2 1) k (some δ.2)), dAdd δ (6 + (1 + k / 9)) [.int (nI 0), .int (nI (1 + k % 9))], ?_, isHand_add hf _ _ _, ⟨⟨fun _ _ => rfl, rfl, rfl, rfl⟩, ⟨hE, ?_, fresh_add hf _ _⟩, Nat.le_succ _, ?_⟩, rfl⟩
    · unfold f0_strange
      rw [hld, h1, Option.bind_some]
      rw [if_pos (show (none : Option Nat).isNone = true from rfl), show (9 : Int32) = nI 9 from rfl, nN_mod (by omega) (by decide), nN_div (by omega) (by decide), show (1 : Int32) = nI 1 from rfl, nN_add, nN_add, dMon_eq (made_eq hf σ (k := 1 + k / 9) (by omega) (0 : Int32) (nI (1 + k % 9))) (Nat.le_succ _), Option.bind_some]
      dsimp only
      unfold stH
      have hci : dci (dAdd δ (6 + (1 + k / 9)) [.int (0 : Int32), .int (nI (1 + k % 9))]) δ.2 = some (6 + (1 + k / 9)) := dci_last hf
      rw [hci, Option.bind_some, if_pos ⟨by omega, by
        rw [nI_clamp (by omega)]
        rintro (q | q)
        · exact nN_neg (by omega) q
        · have : 45 ≤ k := q
          omega⟩, Option.bind_some, nI_clamp (by omega)]
      unfold ldN
      rw [hld]
      show ((some (va_up (σ.2.2.2 1) k (some δ.2) k)).bind id).bind _ = _
      rw [show va_up (σ.2.2.2 1) k (some δ.2) k = some δ.2 from if_pos rfl]
      rfl
    · intro j hj
      show va_up (σ.2.2.2 1) k (some δ.2) j = none ∨ ∃ q, va_up (σ.2.2.2 1) k (some δ.2) j = some q ∧ _
      unfold va_up
      by_cases e : j = k
      · rw [if_pos e]
        subst e
        exact Or.inr ⟨δ.2, rfl, isHand_add hf _ _ _⟩
      · rw [if_neg e]
        rcases h j hj with g1 | ⟨q, g1, g2⟩
        · exact Or.inl g1
        · exact Or.inr ⟨q, g1, isHand_ex hE g2⟩
    · have := nn_up (q := δ.2) h1 45
      rw [if_pos hk] at this
      show δ.2 + 1 + nn (va_up (σ.2.2.2 1) k (some δ.2)) 45 ≤ _
      omega
  · refine ⟨q, σ, δ, ?_, h2, SG.rf h hf, rfl⟩
    unfold f0_strange ldN
    rw [hld, h1]
    rfl
/-- the year in which a stranger undoes -/
def yrB (k s h : Nat) : Nat → Nat → Nat
  | 0, y => y
  | n + 1, y => if 31 < y then y else (if h ≤ pull k s y then y else yrB k s h n (y + 1))
def soB (T : Tw) (r k g s : Nat) : Bool :=
  if yrB k s (tA T 9 r) 40 (tA T 10 r + term k g) ≤ tA T 11 r ∧ yrB k s (tA T 9 r) 40 (tA T 10 r + term k g) ≤ 31 then decide (tA T 12 r = 1) else decide (tA T 12 r = 0)
theorem c_rep {T : Tw} {σ : SS} (hC : simC T 0 σ) {r : Nat} (hr : r < 6) : ldC σ 9 (nI r) = some (nI (tA T 9 r)) ∧ ldC σ 10 (nI r) = some (nI (tA T 10 r)) ∧ ldC σ 11 (nI r) = some (nI (tA T 11 r)) ∧ ldC σ 12 (nI r) = some (nI (tA T 12 r)) := by
  obtain ⟨h1, h2, h3, h4⟩ := hC.2.2.2.2 r hr
  exact ⟨by rw [ldC_n (by show r < 6; exact hr) (by omega)]; exact congrArg some h1, by rw [ldC_n (by show r < 6; exact hr) (by omega)]; exact congrArg some h2, by rw [ldC_n (by show r < 6; exact hr) (by omega)]; exact congrArg some h3, by rw [ldC_n (by show r < 6; exact hr) (by omega)]; exact congrArg some h4⟩
theorem m_rep {T : Tw} {μ : MS} (hM : simM T (μ.2 0)) {r : Nat} (hr : r < 6) : ldM μ 0 (nI (112 + 4 * r)) = some (nI (tA T 9 r)) ∧ ldM μ 0 (nI (112 + 4 * r + 1)) = some (nI (tA T 10 r)) ∧ ldM μ 0 (nI (112 + 4 * r + 2)) = some (nI (tA T 11 r)) ∧ ldM μ 0 (nI (112 + 4 * r + 3)) = some (nI (tA T 12 r)) := by
  obtain ⟨h1, h2, h3, h4⟩ := hM.2.2.2.2 r hr
  exact ⟨by rw [mF_at (by omega)]; exact congrArg some h1, by rw [mF_at (by omega)]; exact congrArg some h2, by rw [mF_at (by omega)]; exact congrArg some h3, by rw [mF_at (by omega)]; exact congrArg some h4⟩
theorem n31 {y : Nat} (hy : y < 2 ^ 31) : ((31 : Int32) < nI y) ↔ 31 < y := nN_lt (a := 31) (by decide) hy
theorem B62_eq {T : Tw} {σ : SS} {δ : DS} (hC : simC T 0 σ) (hI : Inv T) {r y : Nat} (hr : r < tR T) (hy : y ≤ 100) : f0_isSo_B62 1000 σ δ (nI r) (nI y) = some (if y ≤ tA T 11 r ∧ y ≤ 31 then decide (tA T 12 r = 1) else decide (tA T 12 r = 0), σ, δ) := by
  have hr6 : tR T ≤ 6 := hI.1.2.2.2.2.2
  obtain ⟨i1, i2, i3, i4⟩ := hI.2.2.2.2 r hr
  obtain ⟨c1, c2, c3, c4⟩ := c_rep hC (r := r) (by omega)
  have e0 : ((0 : Int32) = nI (tA T 12 r)) ↔ tA T 12 r = 0 := ⟨fun q => (n0 (by omega)).mp q.symm, fun q => by rw [q]; rfl⟩
  have e1 : ((1 : Int32) = nI (tA T 12 r)) ↔ tA T 12 r = 1 := ⟨fun q => ((nN_eq (a := 1) (by decide) (by omega)).mp q).symm, fun q => by rw [q]; rfl⟩
  unfold f0_isSo_B62
  rw [c3, c4]
  simp only [Option.bind_some, e0, e1]
  have l1 : (nI (tA T 11 r) < nI y) ↔ tA T 11 r < y := nN_lt (by omega) (by omega)
  have l2 : ((31 : Int32) < nI y) ↔ 31 < y := n31 (by omega)
  simp only [l1, l2]
  by_cases h1 : tA T 11 r < y
  · rw [if_pos h1, if_neg (by omega : ¬ (y ≤ tA T 11 r ∧ y ≤ 31))]
    by_cases hz : tA T 12 r = 0 <;> simp [hz]
  · rw [if_neg h1]
    by_cases h2 : 31 < y
    · rw [if_pos h2, if_neg (by omega : ¬ (y ≤ tA T 11 r ∧ y ≤ 31))]
      by_cases hz : tA T 12 r = 0 <;> simp [hz]
    · rw [if_neg h2, if_pos (by omega : y ≤ tA T 11 r ∧ y ≤ 31)]
      by_cases hz : tA T 12 r = 1 <;> simp [hz]
theorem B56_eq {T : Tw} {μ : MS} (hM : simM T (μ.2 0)) (hI : Inv T) {r y : Nat} (hr : r < tR T) (hy : y ≤ 100) : m_isSoBy_B56 1000 μ (nI (112 + 4 * r)) (nI y) = some (if y ≤ tA T 11 r ∧ y ≤ 31 then decide (tA T 12 r = 1) else decide (tA T 12 r = 0)) := by
  have hr6 : tR T ≤ 6 := hI.1.2.2.2.2.2
  obtain ⟨i1, i2, i3, i4⟩ := hI.2.2.2.2 r hr
  obtain ⟨c1, c2, c3, c4⟩ := m_rep hM (r := r) (by omega)
  have e1 : (nI (tA T 12 r) = (1 : Int32)) ↔ tA T 12 r = 1 := nN_eq (b := 1) (by omega) (by decide)
  unfold m_isSoBy_B56
  rw [show nI (112 + 4 * r) + (3 : Int32) = nI (112 + 4 * r + 3) from nN_add _ 3, show nI (112 + 4 * r) + (2 : Int32) = nI (112 + 4 * r + 2) from nN_add _ 2, c3, c4]
  simp only [Option.bind_some, e1]
  have l1 : (nI (tA T 11 r) < nI y) ↔ tA T 11 r < y := nN_lt (by omega) (by omega)
  have l2 : ((31 : Int32) < nI y) ↔ 31 < y := n31 (by omega)
  simp only [l1, l2]
  have i12 : tA T 12 r = 0 ∨ tA T 12 r = 1 := by omega
  by_cases h2 : 31 < y
  · rw [if_pos h2, if_neg (by omega : ¬ (y ≤ tA T 11 r ∧ y ≤ 31))]
    rcases i12 with hz | hz <;> simp [hz]
  · rw [if_neg h2]
    by_cases h1 : tA T 11 r < y
    · rw [if_pos h1, if_neg (by omega : ¬ (y ≤ tA T 11 r ∧ y ≤ 31))]
      rcases i12 with hz | hz <;> simp [hz]
    · rw [if_neg h1, if_pos (by omega : y ≤ tA T 11 r ∧ y ≤ 31)]
      rcases i12 with hz | hz <;> simp [hz]
theorem f_isSo_L {T : Tw} {σ : SS} {δ : DS} (hC : simC T 0 σ) (hI : Inv T) {r one q k g : Nat} (hr : r < tR T) (ho : one < 405) (hk : 1 ≤ k ∧ k ≤ 5) (hh : isHand δ q k 0 g) : ∀ (m y fuel : Nat), 32 ≤ y + m → y ≤ 40 → m < fuel → f0_isSo_L25 1000 fuel σ δ (nI r) (nI one) q (nI y) = some (if yrB k (1 + one % 9) (tA T 9 r) m y ≤ tA T 11 r ∧ yrB k (1 + one % 9) (tA T 9 r) m y ≤ 31 then decide (tA T 12 r = 1) else decide (tA T 12 r = 0), σ, δ) := by
  have hr6 : tR T ≤ 6 := hI.1.2.2.2.2.2
  obtain ⟨i1, i2, i3, i4⟩ := hI.2.2.2.2 r hr
  obtain ⟨c1, c2, c3, c4⟩ := c_rep hC (r := r) (by omega)
  intro m
  induction m with
  | zero =>
    intro y fuel h1 h2 h3
    obtain ⟨n, rfl⟩ : ∃ n, fuel = n + 1 := ⟨fuel - 1, by omega⟩
    show (if (31 : Int32) < nI y then _ else _) = _
    rw [if_pos ((n31 (by omega)).mpr (by omega))]
    exact B62_eq hC hI hr (by omega)
  | succ m ih =>
    intro y fuel h1 h2 h3
    obtain ⟨n, rfl⟩ : ∃ n, fuel = n + 1 := ⟨fuel - 1, by omega⟩
    have hy : yrB k (1 + one % 9) (tA T 9 r) (m + 1) y = if 31 < y then y else (if tA T 9 r ≤ pull k (1 + one % 9) y then y else yrB k (1 + one % 9) (tA T 9 r) m (y + 1)) := rfl
    rw [hy]
    show (if (31 : Int32) < nI y then _ else _) = _
    by_cases hl : 31 < y
    · rw [if_pos ((n31 (by omega)).mpr hl), if_pos hl]
      exact B62_eq hC hI hr (by omega)
    · rw [if_neg (fun z => hl ((n31 (by omega)).mp z)), if_neg hl, show (9 : Int32) = nI 9 from rfl, nN_mod (by omega) (by decide), show (1 : Int32) = nI 1 from rfl, nN_add, hand_pull hk (by omega) (by omega) hh, Option.bind_some, c1, Option.bind_some]
      have hpl := pull_le (k := k) (s := 1 + one % 9) (y := y) (by omega)
      by_cases hp : tA T 9 r ≤ pull k (1 + one % 9) y
      · rw [if_pos ((nN_le (by omega) (by omega)).mpr hp), if_pos hp]
        exact B62_eq hC hI hr (by omega)
      · rw [if_neg (fun z => hp ((nN_le (by omega) (by omega)).mp z)), if_neg hp, show nI y + nI 1 = nI (y + 1) from nI_1 y]
        exact ih (y + 1) n (by omega) (by omega) (by omega)
theorem m_isSo_L {T : Tw} {μ : MS} (hM : simM T (μ.2 0)) (hI : Inv T) {r k s : Nat} (hr : r < tR T) (hk : k ≤ 5) (hs : s ≤ 9) : ∀ (m y fuel : Nat), 32 ≤ y + m → y ≤ 40 → m < fuel → m_isSoBy_L25 1000 μ fuel (nI k) (nI s) (nI (112 + 4 * r)) (nI y) = some (if yrB k s (tA T 9 r) m y ≤ tA T 11 r ∧ yrB k s (tA T 9 r) m y ≤ 31 then decide (tA T 12 r = 1) else decide (tA T 12 r = 0)) := by
  have hr6 : tR T ≤ 6 := hI.1.2.2.2.2.2
  obtain ⟨i1, i2, i3, i4⟩ := hI.2.2.2.2 r hr
  obtain ⟨c1, c2, c3, c4⟩ := m_rep hM (r := r) (by omega)
  intro m
  induction m with
  | zero =>
    intro y fuel h1 h2 h3
    obtain ⟨n, rfl⟩ : ∃ n, fuel = n + 1 := ⟨fuel - 1, by omega⟩
    show (if (31 : Int32) < nI y then _ else _) = _
    rw [if_pos ((n31 (by omega)).mpr (by omega))]
    exact B56_eq hM hI hr (by omega)
  | succ m ih =>
    intro y fuel h1 h2 h3
    obtain ⟨n, rfl⟩ : ∃ n, fuel = n + 1 := ⟨fuel - 1, by omega⟩
    have hy : yrB k s (tA T 9 r) (m + 1) y = if 31 < y then y else (if tA T 9 r ≤ pull k s y then y else yrB k s (tA T 9 r) m (y + 1)) := rfl
    rw [hy]
    show (if (31 : Int32) < nI y then _ else _) = _
    by_cases hl : 31 < y
    · rw [if_pos ((n31 (by omega)).mpr hl), if_pos hl]
      exact B56_eq hM hI hr (by omega)
    · rw [if_neg (fun z => hl ((n31 (by omega)).mp z)), if_neg hl, m_pullOf_eq hk hs (by omega), Option.bind_some, c1, Option.bind_some]
      have hpl := pull_le (k := k) (s := s) (y := y) hs
      by_cases hp : tA T 9 r ≤ pull k s y
      · rw [if_pos ((nN_le (by omega) (by omega)).mpr hp), if_pos hp]
        exact B56_eq hM hI hr (by omega)
      · rw [if_neg (fun z => hp ((nN_le (by omega) (by omega)).mp z)), if_neg hp, nI_1]
        exact ih (y + 1) n (by omega) (by omega) (by omega)
theorem m_termOf_eq {k g : Nat} (hk : k ≤ 5) (hg : 1 ≤ g ∧ g ≤ 9) : m_termOf (nI k) (nI g) = some (nI (term k g)) := by
  unfold m_termOf term
  have e : ∀ j : Nat, j < 6 → (nI k = nI j ↔ k = j) := fun j hj => nN_eq (by omega) (by omega)
  rw [show (2 : Int32) = nI 2 from rfl, show (3 : Int32) = nI 3 from rfl, show (4 : Int32) = nI 4 from rfl, show (5 : Int32) = nI 5 from rfl, show (1 : Int32) = nI 1 from rfl, show (11 : Int32) = nI 11 from rfl]
  simp only [e 2 (by decide), e 3 (by decide), e 4 (by decide), e 5 (by decide)]
  split
  · rw [nN_mul]
  · split
    · rw [nN_mul, nN_sub (by omega)]
    · split
      · rw [nN_add]
      · split
        · rw [nN_add]
        · rfl
theorem f_isSo_eq {T : Tw} {σ : SS} {δ : DS} (hC : simC T 0 σ) (hI : Inv T) (h : rStr σ δ) (hf : fresh δ) {r one : Nat} (hr : r < tR T) (ho : one < 405) : ∃ σ' δ', f0_isSo 1000 σ δ (nI r) (nI one) = some (soB T r (1 + one / 81) (1 + one / 9 % 9) (1 + one % 9), σ', δ') ∧ SG σ δ σ' δ' ∧ σ'.1 = σ.1 := by
  have hr6 : tR T ≤ 6 := hI.1.2.2.2.2.2
  obtain ⟨i1, i2, i3, i4⟩ := hI.2.2.2.2 r hr
  obtain ⟨q, σ', δ', g1, g2, g3, g4⟩ := strange_eq h hf (k := one / 9) (by omega)
  have hC' := g3.sim hC
  obtain ⟨c1, c2, c3, c4⟩ := c_rep hC' (r := r) (by omega)
  have e81 : one / 9 / 9 = one / 81 := by omega
  rw [e81] at g2
  have ht := hand_term (k := 1 + one / 81) (g := 1 + one / 9 % 9) (by omega) (by omega) g2
  have htl := term_le (k := 1 + one / 81) (g := 1 + one / 9 % 9) (by omega)
  refine ⟨σ', δ', ?_, g3, g4⟩
  unfold f0_isSo soB
  rw [show (9 : Int32) = nI 9 from rfl, nN_div (by omega) (by decide), dMon_eq g1 g3.2.2.1, Option.bind_some]
  dsimp only
  rw [c2, Option.bind_some, ht, Option.bind_some, nN_add]
  exact f_isSo_L hC' hI hr ho (by omega) g2 40 _ 1000 (by omega) (by omega) (by decide)
theorem m_isSoBy_eq {T : Tw} {μ : MS} (hM : simM T (μ.2 0)) (hI : Inv T) {r k g s : Nat} (hr : r < tR T) (hk : k ≤ 5) (hg : 1 ≤ g ∧ g ≤ 9) (hs : s ≤ 9) : m_isSoBy 1000 μ (nI r) (nI k) (nI g) (nI s) = some (soB T r k g s) := by
  have hr6 : tR T ≤ 6 := hI.1.2.2.2.2.2
  obtain ⟨i1, i2, i3, i4⟩ := hI.2.2.2.2 r hr
  obtain ⟨c1, c2, c3, c4⟩ := m_rep hM (r := r) (by omega)
  have htl := term_le (k := k) hg.2
  unfold m_isSoBy soB
  rw [ix112, show nI (112 + 4 * r) + (1 : Int32) = nI (112 + 4 * r + 1) from nI_1 _, c2, Option.bind_some, m_termOf_eq hk hg, Option.bind_some, nN_add]
  exact m_isSo_L hM hI hr hk hs 40 _ 1000 (by omega) (by omega) (by decide)
/-- a stranger fits reports below a number, but one -/
def fitB (T : Tw) (but : Int32) (one : Nat) : Nat → Bool
  | 0 => true
  | n + 1 => fitB T but one n && (decide (nI n = but) || soB T n (1 + one / 81) (1 + one / 9 % 9) (1 + one % 9))
theorem fitB_mono {T : Tw} {but : Int32} {one : Nat} : ∀ m n, fitB T but one n = false → fitB T but one (n + m) = false := by
  intro m
  induction m with
  | zero => intro n h; exact h
  | succ m ih =>
    intro n h
    show (fitB T but one (n + m) && _) = false
    rw [ih n h]
    rfl
theorem fits_C {T : Tw} (hI : Inv T) {but : Int32} {one c : Nat} (ho : one < 405) (K : SS → DS → Int32 → Int32 → Int32 → Option (Int32 × SS × DS)) : ∀ (m r fuel : Nat) (σ : SS) (δ : DS), simC T 0 σ → rStr σ δ → fresh δ → r + m = tR T → m < fuel → fitB T but one r = true → ∃ σ' δ', f0_fitsBut_L13 1000 K fuel σ δ but (nI c) (nI one) (nI r) = (if fitB T but one (tR T) = true then K (sI σ' 56 (nI one)) δ' but (nI (c + 1)) (nI one + (-1)) else K σ' δ' but (nI c) (nI one + (-1))) ∧ SG σ δ σ' δ' ∧ σ'.1 = σ.1 := by
  have hr6 : tR T ≤ 6 := hI.1.2.2.2.2.2
  intro m
  induction m with
  | zero =>
    intro r fuel σ δ hC hs hf h1 h2 hfit
    obtain ⟨n, rfl⟩ : ∃ n, fuel = n + 1 := ⟨fuel - 1, by omega⟩
    refine ⟨σ, δ, ?_, SG.rf hs hf, rfl⟩
    show (if σ.1 5 ≤ nI r then _ else _) = _
    rw [show σ.1 5 = nI (tR T) from hC.1.2.2.2.2.2.1, if_pos ((nN_le (by omega) (by omega)).mpr (by omega)), show tR T = r by omega, if_pos hfit, Option.bind_some, nI_1]
  | succ m ih =>
    intro r fuel σ δ hC hs hf h1 h2 hfit
    obtain ⟨n, rfl⟩ : ∃ n, fuel = n + 1 := ⟨fuel - 1, by omega⟩
    have hfs : fitB T but one (r + 1) = (fitB T but one r && (decide (nI r = but) || soB T r (1 + one / 81) (1 + one / 9 % 9) (1 + one % 9))) := rfl
    rw [hfit, Bool.true_and] at hfs
    show ∃ σ' δ', (if σ.1 5 ≤ nI r then _ else _) = _ ∧ _
    rw [show σ.1 5 = nI (tR T) from hC.1.2.2.2.2.2.1, if_neg (fun z => by have := (nN_le (by omega) (by omega)).mp z; omega)]
    by_cases hb : nI r = but
    · rw [if_pos hb, nI_1]
      exact ih (r + 1) n σ δ hC hs hf (by omega) (by omega) (by rw [hfs, decide_eq_true hb]; rfl)
    · rw [if_neg hb]
      obtain ⟨σ1, δ1, g1, g2, g3⟩ := f_isSo_eq hC hI hs hf (r := r) (one := one) (by omega) ho
      rw [dMon_eq g1 g2.2.2.1, Option.bind_some]
      dsimp only
      rw [decide_eq_false hb, Bool.false_or] at hfs
      by_cases hso : soB T r (1 + one / 81) (1 + one / 9 % 9) (1 + one % 9) = true
      · rw [if_pos hso, nI_1]
        obtain ⟨σ', δ', z1, z2, z3⟩ := ih (r + 1) n σ1 δ1 (g2.sim hC) g2.2.1.2.1 g2.2.1.2.2 (by omega) (by omega) (by rw [hfs]; exact hso)
        exact ⟨σ', δ', z1, g2.tr z2, z3.trans g3⟩
      · rw [if_neg hso]
        have hff : fitB T but one (r + 1) = false := by
          rw [hfs]
          cases hx : soB T r (1 + one / 81) (1 + one / 9 % 9) (1 + one % 9) with
          | true => exact absurd hx hso
          | false => rfl
        have hft := fitB_mono (tR T - (r + 1)) (r + 1) hff
        rw [show r + 1 + (tR T - (r + 1)) = tR T by omega] at hft
        exact ⟨σ1, δ1, by rw [hft]; rfl, g2, g3⟩
/-- how many, the first -/
def cntB (p : Nat → Bool) : Nat → Nat
  | 0 => 0
  | n + 1 => cntB p n + (if p n = true then 1 else 0)
def fstB (p : Nat → Bool) : Nat → Option Nat
  | 0 => none
  | n + 1 => match fstB p n with
    | some x => some x
    | none => if p n = true then some n else none
theorem fstB_none {p : Nat → Bool} : ∀ n, fstB p n = none ↔ cntB p n = 0 := by
  intro n
  induction n with
  | zero => exact ⟨fun _ => rfl, fun _ => rfl⟩
  | succ n ih =>
    have hs : fstB p (n + 1) = match fstB p n with | some x => some x | none => if p n = true then some n else none := rfl
    have hc : cntB p (n + 1) = cntB p n + (if p n = true then 1 else 0) := rfl
    rw [hs, hc]
    cases hf : fstB p n with
    | none =>
      rw [ih.mp hf]
      by_cases hp : p n = true
      · simp [hp]
      · simp [hp]
    | some x =>
      have : ¬ cntB p n = 0 := fun q => by rw [ih.mpr q] at hf; cases hf
      constructor
      · intro q; cases q
      · intro q; omega
theorem fstB_lt {p : Nat → Bool} : ∀ n x, fstB p n = some x → x < n := by
  intro n
  induction n with
  | zero => intro x h; cases h
  | succ n ih =>
    intro x h
    have hs : fstB p (n + 1) = match fstB p n with | some x => some x | none => if p n = true then some n else none := rfl
    rw [hs] at h
    cases hf : fstB p n with
    | some y => rw [hf] at h; injection h with h; have := ih y hf; omega
    | none =>
      rw [hf] at h
      dsimp only at h
      split at h
      · cases h; omega
      · cases h
theorem cntB_le (p : Nat → Bool) (n : Nat) : cntB p n ≤ n := by
  induction n with
  | zero => exact Nat.le_refl _
  | succ n ih =>
    show cntB p n + (if p n = true then 1 else 0) ≤ n + 1
    split <;> omega
theorem fstB_s {p : Nat → Bool} {m y : Nat} (h : fstB p m = some y) : fstB p (m + 1) = some y := by
  have hs : fstB p (m + 1) = match fstB p m with | some x => some x | none => if p m = true then some m else none := rfl
  rw [hs, h]
theorem fstB_t {p : Nat → Bool} {m : Nat} (h : fstB p m = none) (hp : p m = true) : fstB p (m + 1) = some m := by
  have hs : fstB p (m + 1) = match fstB p m with | some x => some x | none => if p m = true then some m else none := rfl
  rw [hs, h]
  exact if_pos hp
theorem fstB_f {p : Nat → Bool} {m : Nat} (h : fstB p m = none) (hp : ¬ p m = true) : fstB p (m + 1) = none := by
  have hs : fstB p (m + 1) = match fstB p m with | some x => some x | none => if p m = true then some m else none := rfl
  rw [hs, h]
  exact if_neg hp
def pFit (T : Tw) (but : Int32) (one : Nat) : Bool := fitB T but one (tR T)
theorem fitsAll_C {T : Tw} (hI : Inv T) {but : Int32} : ∀ (m c fuel : Nat) (x3 : Int32) (σ : SS) (δ : DS), simC T 0 σ → rStr σ δ → fresh δ → m ≤ 405 → m < fuel → x3 = nI m - 1 → ∃ σ' δ', f0_fitsBut_L6 1000 fuel σ δ but (nI c) x3 = some (nI (c + cntB (pFit T but) m), σ', δ') ∧ SG σ δ σ' δ' ∧ (∀ x, fstB (pFit T but) m = some x → σ'.1 56 = nI x) ∧ (fstB (pFit T but) m = none → σ'.1 56 = σ.1 56) := by
  intro m
  induction m with
  | zero =>
    intro c fuel x3 σ δ hC hs hf hm h2 hx
    obtain ⟨n, rfl⟩ : ∃ n, fuel = n + 1 := ⟨fuel - 1, by omega⟩
    refine ⟨σ, δ, ?_, SG.rf hs hf, (fun x h => by cases h), fun _ => rfl⟩
    show (if x3 < 0 then _ else _) = _
    rw [hx, if_pos (by decide)]
    rfl
  | succ m ih =>
    intro c fuel x3 σ δ hC hs hf hm h2 hx
    obtain ⟨n, rfl⟩ : ∃ n, fuel = n + 1 := ⟨fuel - 1, by omega⟩
    have hx' : x3 = nI m := by rw [hx]; exact nN_sub (a := m + 1) (b := 1) (by omega)
    have hnext : nI m + (-1) = nI m - 1 := (Int32.sub_eq_add_neg _ _).symm
    obtain ⟨σ1, δ1, g1, g2, g3⟩ := fits_C hI (but := but) (one := m) (c := c) (by omega) (f0_fitsBut_L6 1000 n) (tR T) 0 1000 σ δ hC hs hf (by omega) (by have := hI.1.2.2.2.2.2; omega) rfl
    have hcs : cntB (pFit T but) (m + 1) = cntB (pFit T but) m + (if pFit T but m = true then 1 else 0) := rfl
    have hstep : f0_fitsBut_L6 1000 (n + 1) σ δ but (nI c) x3 = (if fitB T but m (tR T) = true then f0_fitsBut_L6 1000 n (sI σ1 56 (nI m)) δ1 but (nI (c + 1)) (nI m + (-1)) else f0_fitsBut_L6 1000 n σ1 δ1 but (nI c) (nI m + (-1))) := by
      show (if x3 < 0 then _ else _) = _
      rw [hx', if_neg (nN_neg (by omega))]
      exact g1
    rw [hstep, hcs]
    by_cases hp : fitB T but m (tR T) = true
    · have hp' : pFit T but m = true := hp
      have s56 := SG_56 g2.2.1.2.1 g2.2.1.2.2 (nI m)
      obtain ⟨σ', δ', z1, z2, z3, z4⟩ := ih (c + 1) n (nI m + (-1)) (sI σ1 56 (nI m)) δ1 (s56.sim (g2.sim hC)) s56.2.1.2.1 g2.2.1.2.2 (by omega) (by omega) hnext
      rw [if_pos hp, if_pos hp']
      refine ⟨σ', δ', by rw [z1, Nat.add_assoc, Nat.add_comm 1], (g2.tr s56).tr z2, fun x hx => ?_, fun hx => ?_⟩
      · cases hff : fstB (pFit T but) m with
        | some y =>
          rw [fstB_s hff] at hx
          cases hx
          exact z3 x hff
        | none =>
          rw [fstB_t hff hp'] at hx
          cases hx
          rw [z4 hff]
          exact upd_at σ1.1 56 (nI m)
      · cases hff : fstB (pFit T but) m with
        | some y => rw [fstB_s hff] at hx; cases hx
        | none => rw [fstB_t hff hp'] at hx; cases hx
    · have hp' : ¬ pFit T but m = true := hp
      obtain ⟨σ', δ', z1, z2, z3, z4⟩ := ih c n (nI m + (-1)) σ1 δ1 (g2.sim hC) g2.2.1.2.1 g2.2.1.2.2 (by omega) (by omega) hnext
      rw [if_neg hp, if_neg hp']
      refine ⟨σ', δ', z1, g2.tr z2, fun x hx => ?_, fun hx => ?_⟩
      · cases hff : fstB (pFit T but) m with
        | some y =>
          rw [fstB_s hff] at hx
          cases hx
          exact z3 x hff
        | none =>
          rw [fstB_f hff hp'] at hx
          cases hx
      · cases hff : fstB (pFit T but) m with
        | some y => rw [fstB_s hff] at hx; cases hx
        | none => rw [z4 hff, g3]
/-! the model -/
theorem isFit_M {T : Tw} {μ : MS} (hM : simM T (μ.2 0)) (hI : Inv T) {but : Int32} {one : Nat} (ho : one < 405) : ∀ (m r fuel : Nat), r + m = tR T → m < fuel → m_isFit_L6 1000 μ fuel (nI (1 + one / 81)) (nI (1 + one / 9 % 9)) (nI (1 + one % 9)) but (fitB T but one r) (nI r) = some (fitB T but one (tR T)) := by
  have hr6 : tR T ≤ 6 := hI.1.2.2.2.2.2
  intro m
  induction m with
  | zero =>
    intro r fuel h1 h2
    obtain ⟨n, rfl⟩ : ∃ n, fuel = n + 1 := ⟨fuel - 1, by omega⟩
    show (ldM μ 0 (6 : Int32)).bind _ = _
    rw [mF_reports hM, Option.bind_some, if_pos ((nN_le (by omega) (by omega)).mpr (by omega)), show tR T = r by omega]
  | succ m ih =>
    intro r fuel h1 h2
    obtain ⟨n, rfl⟩ : ∃ n, fuel = n + 1 := ⟨fuel - 1, by omega⟩
    have hfs : fitB T but one (r + 1) = (fitB T but one r && (decide (nI r = but) || soB T r (1 + one / 81) (1 + one / 9 % 9) (1 + one % 9))) := rfl
    have hn := ih (r + 1) n (by omega) (by omega)
    rw [hfs] at hn
    show (ldM μ 0 (6 : Int32)).bind _ = _
    rw [mF_reports hM, Option.bind_some, if_neg (fun z => by have := (nN_le (by omega) (by omega)).mp z; omega), nI_1, m_isSoBy_eq hM hI (by omega) (by omega) ⟨by omega, by omega⟩ (by omega), Option.bind_some]
    cases hf : fitB T but one r with
    | false =>
      rw [if_neg (by decide)]
      have := fitB_mono (tR T - r) r hf
      rw [show r + (tR T - r) = tR T by omega] at this
      rw [this]
    | true =>
      rw [hf, Bool.true_and] at hn
      rw [if_pos rfl]
      by_cases hb : nI r = but
      · rw [if_pos hb]
        rw [decide_eq_true hb, Bool.true_or] at hn
        exact hn
      · rw [if_neg hb]
        rw [decide_eq_false hb, Bool.false_or] at hn
        cases hso : soB T r (1 + one / 81) (1 + one / 9 % 9) (1 + one % 9) with
        | true => rw [hso] at hn; rw [if_pos rfl]; exact hn
        | false => rw [hso] at hn; rw [if_neg (by decide)]; exact hn
def fitM (p : Nat → Bool) (k : Nat) (μ : MS) : Prop := μ.1 16 = nI (cntB p k) ∧ ∀ x, fstB p k = some x → μ.1 17 = nI (1 + x / 81) ∧ μ.1 18 = nI (1 + x / 9 % 9) ∧ μ.1 19 = nI (1 + x % 9)
/-- the model's numbers of strangers alone -/
def GF (μ μ' : MS) : Prop := μ'.2 = μ.2 ∧ ∀ i, ¬ (16 ≤ i ∧ i ≤ 19) → μ'.1 i = μ.1 i
theorem GF.rf (μ : MS) : GF μ μ := ⟨rfl, fun _ _ => rfl⟩
theorem GF.tr {a b c : MS} (h : GF a b) (g : GF b c) : GF a c := ⟨g.1.trans h.1, fun i hi => (g.2 i hi).trans (h.2 i hi)⟩
theorem GF.FM {μ μ' : MS} (h : GF μ μ') : FM μ μ' := ⟨fun k hk => h.2 k (by omega), fun j _ => by rw [h.1]⟩
theorem gfF (μ : MS) (i : Nat) (x : Int32) (hi : 16 ≤ i ∧ i ≤ 19) : GF μ (stF μ i x) := ⟨rfl, fun j hj => upd_ne (fun e => hj (e ▸ hi))⟩
theorem fitsAll_M {T : Tw} (hI : Inv T) {but : Int32} : ∀ (m k fuel : Nat) (μ : MS), simM T (μ.2 0) → k + m = 405 → m < fuel → fitM (pFit T but) k μ → ∃ μ', m_findFits_L7 1000 fuel μ but (nI k) = some μ' ∧ fitM (pFit T but) 405 μ' ∧ GF μ μ' := by
  have hr6 : tR T ≤ 6 := hI.1.2.2.2.2.2
  intro m
  induction m with
  | zero =>
    intro k fuel μ hM h1 h2 hf
    obtain ⟨n, rfl⟩ : ∃ n, fuel = n + 1 := ⟨fuel - 1, by omega⟩
    refine ⟨μ, ?_, by rw [← show k = 405 by omega]; exact hf, GF.rf μ⟩
    show (if nI 405 ≤ nI k then _ else _) = _
    rw [if_pos ((nN_le (by omega) (by omega)).mpr (by omega))]
  | succ m ih =>
    intro k fuel μ hM h1 h2 hf
    obtain ⟨n, rfl⟩ : ∃ n, fuel = n + 1 := ⟨fuel - 1, by omega⟩
    have hcs : cntB (pFit T but) (k + 1) = cntB (pFit T but) k + (if pFit T but k = true then 1 else 0) := rfl
    have hcl := cntB_le (pFit T but) k
    have e1 : (1 : Int32) + (nI k / (81 : Int32)) = nI (1 + k / 81) := by
      rw [show (81 : Int32) = nI 81 from rfl, nN_div (by omega) (by decide)]; exact nN_add 1 _
    have e2 : (1 : Int32) + ((nI k / (9 : Int32)) - (nI k / (9 : Int32)) / (9 : Int32) * (9 : Int32)) = nI (1 + k / 9 % 9) := by
      rw [show (9 : Int32) = nI 9 from rfl, nN_div (by omega) (by decide), nN_mod (by omega) (by decide)]; exact nN_add 1 _
    have e3 : (1 : Int32) + (nI k - nI k / (9 : Int32) * (9 : Int32)) = nI (1 + k % 9) := by
      rw [show (9 : Int32) = nI 9 from rfl, nN_mod (by omega) (by decide)]; exact nN_add 1 _
    have hfit : m_isFit 1000 μ (nI (1 + k / 81)) (nI (1 + k / 9 % 9)) (nI (1 + k % 9)) but = some (pFit T but k) := isFit_M hM hI (but := but) (one := k) (by omega) (tR T) 0 1000 (by omega) (by omega)
    have hstep : m_findFits_L7 1000 (n + 1) μ but (nI k) = (if pFit T but k = true then (if μ.1 16 = 0 then m_findFits_B69 1000 (m_findFits_L7 1000 n) μ but (nI k) (nI (1 + k / 9 % 9)) (nI (1 + k % 9)) (nI (1 + k / 81)) else m_findFits_B69 1000 (m_findFits_L7 1000 n) μ but (nI k) (nI (1 + k / 9 % 9)) (nI (1 + k % 9)) (μ.1 17)) else m_findFits_L7 1000 n μ but (nI (k + 1))) := by
      show (if nI 405 ≤ nI k then _ else _) = _
      rw [if_neg (fun z => by have := (nN_le (by omega) (by omega)).mp z; omega), e1, e2, e3, hfit, Option.bind_some, nI_1]
    rw [hstep]
    by_cases hp : pFit T but k = true
    · rw [if_pos hp] at hcs ⊢
      by_cases hz : cntB (pFit T but) k = 0
      · have hno := (fstB_none k).mpr hz
        have h16 : μ.1 16 = 0 := by rw [hf.1, hz]; rfl
        obtain ⟨μ', z1, z2, z3⟩ := ih (k + 1) n (stF (stF (stF (stF μ 17 (nI (1 + k / 81))) 18 (nI (1 + k / 9 % 9))) 19 (nI (1 + k % 9))) 16 (nI (cntB (pFit T but) k + 1))) hM (by omega) (by omega) ⟨by rw [stF_at, hcs], fun x hx => by
          rw [fstB_t hno hp] at hx
          cases hx
          exact ⟨rfl, rfl, rfl⟩⟩
        refine ⟨μ', ?_, z2, ((((gfF μ 17 _ (by decide)).tr (gfF _ 18 _ (by decide))).tr (gfF _ 19 _ (by decide))).tr (gfF _ 16 _ (by decide))).tr z3⟩
        rw [if_pos h16]
        unfold m_findFits_B69
        rw [Option.bind_some, if_pos (show (stF μ 17 (nI (1 + k / 81))).1 16 = 0 from h16), Option.bind_some, if_pos (show (stF (stF μ 17 (nI (1 + k / 81))) 18 (nI (1 + k / 9 % 9))).1 16 = 0 from h16), Option.bind_some, Option.bind_some, show (stF (stF (stF μ 17 (nI (1 + k / 81))) 18 (nI (1 + k / 9 % 9))) 19 (nI (1 + k % 9))).1 16 = nI (cntB (pFit T but) k) from hf.1, show nI (cntB (pFit T but) k) + (1 : Int32) = nI (cntB (pFit T but) k + 1) from nI_1 _, nI_1]
        exact z1
      · have h16 : ¬ μ.1 16 = 0 := by rw [hf.1]; exact fun q => hz ((n0 (by omega)).mp q)
        obtain ⟨x, hx⟩ : ∃ x, fstB (pFit T but) k = some x := by
          cases hh : fstB (pFit T but) k with
          | some x => exact ⟨x, rfl⟩
          | none => exact absurd ((fstB_none k).mp hh) hz
        obtain ⟨a1, a2, a3⟩ := hf.2 x hx
        obtain ⟨μ', z1, z2, z3⟩ := ih (k + 1) n (stF (stF (stF (stF μ 17 (μ.1 17)) 18 (μ.1 18)) 19 (μ.1 19)) 16 (nI (cntB (pFit T but) k + 1))) hM (by omega) (by omega) ⟨by rw [stF_at, hcs], fun y hy => by
          rw [fstB_s hx] at hy
          cases hy
          exact ⟨a1, a2, a3⟩⟩
        refine ⟨μ', ?_, z2, ((((gfF μ 17 _ (by decide)).tr (gfF _ 18 _ (by decide))).tr (gfF _ 19 _ (by decide))).tr (gfF _ 16 _ (by decide))).tr z3⟩
        rw [if_neg h16]
        unfold m_findFits_B69
        rw [Option.bind_some, if_neg (show ¬ (stF μ 17 (μ.1 17)).1 16 = 0 from h16), Option.bind_some, if_neg (show ¬ (stF (stF μ 17 (μ.1 17)) 18 ((stF μ 17 (μ.1 17)).1 18)).1 16 = 0 from h16), Option.bind_some, Option.bind_some, show (stF (stF (stF μ 17 (μ.1 17)) 18 ((stF μ 17 (μ.1 17)).1 18)) 19 ((stF (stF μ 17 (μ.1 17)) 18 ((stF μ 17 (μ.1 17)).1 18)).1 19)).1 16 = nI (cntB (pFit T but) k) from hf.1, show nI (cntB (pFit T but) k) + (1 : Int32) = nI (cntB (pFit T but) k + 1) from nI_1 _, nI_1]
        exact z1
    · rw [if_neg hp] at hcs ⊢
      obtain ⟨μ', z1, z2, z3⟩ := ih (k + 1) n μ hM (by omega) (by omega) ⟨by rw [hcs]; exact hf.1, fun x hx => by
        cases hh : fstB (pFit T but) k with
        | some y => rw [fstB_s hh] at hx; cases hx; exact hf.2 x hh
        | none =>
          rw [fstB_f hh hp] at hx
          cases hx⟩
      exact ⟨μ', z1, z2, z3⟩
