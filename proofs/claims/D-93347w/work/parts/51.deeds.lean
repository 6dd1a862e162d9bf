/-! PLAIN LAW: due dates, weights, pulls -/
set_option maxRecDepth 100000
def term (k g : Nat) : Nat := if k = 2 then 2 * g else if k = 3 then 2 * g - 1 else if k = 4 then g + 2 else if k = 5 then g + 11 else g
def pull (k s y : Nat) : Nat := if k = 1 then (if y % 3 = 2 then 0 else s) else if k = 2 then s else if k = 3 then s + 1 else if k = 4 then s / 2 else if k = 5 then (if y < 9 then s / 2 else 9) else s
def due (T : Tw) (d : Nat) : Nat := tA T 4 d + term (tA T 0 (tA T 3 d)) (tA T 1 (tA T 3 d))
/-- a sum over numbers below n -/
def sN (g : Nat → Nat) : Nat → Nat
  | 0 => 0
  | n + 1 => sN g n + g n
def standing (T : Tw) (p d : Nat) : Nat := if tA T 3 d = p ∧ tA T 7 d = 1 then tA T 5 d else 0
def stands (T : Tw) (p : Nat) : Nat := sN (standing T p) (tD T)
theorem sN_le {g : Nat → Nat} {b n : Nat} (h : ∀ k, k < n → g k ≤ b) : sN g n ≤ b * n := by
  induction n with
  | zero => exact Nat.zero_le _
  | succ n ih =>
    have h1 := ih (fun k hk => h k (by omega))
    have h2 := h n (by omega)
    show sN g n + g n ≤ b * (n + 1)
    rw [Nat.mul_succ]
    omega
theorem sN_mono {g : Nat → Nat} {m n : Nat} (h : m ≤ n) : sN g m ≤ sN g n := by
  induction n with
  | zero => rw [Nat.le_zero.mp h]; exact Nat.le_refl _
  | succ n ih =>
    rcases Nat.lt_or_ge n m with h1 | h1
    · rw [show m = n + 1 by omega]; exact Nat.le_refl _
    · exact Nat.le_trans (ih h1) (Nat.le_add_right _ _)
theorem term_le {k g : Nat} (h : g ≤ 9) : term k g ≤ 20 := by
  unfold term
  repeat' split
  all_goals omega
theorem due_le {T : Tw} (hI : Inv T) {d : Nat} (hd : d < tD T) : due T d ≤ 35 := by
  have h1 := (hI.2.2.1 d hd)
  have h2 := (hI.2.1 _ h1.1).2.1.2
  have := term_le (k := tA T 0 (tA T 3 d)) h2
  unfold due
  omega
/-! the model -/
theorem mM_deed {T : Tw} {μ : MS} (hM : simM T (μ.2 0)) {d k : Nat} (hd : d < 10) (hk : k < 5) : m_deedIs μ (nI d) (nI k) = some (μ.2 0 (26 + 5 * d + k)) := by
  unfold m_deedIs m_spot
  simp only [Option.bind_some]
  rw [show (26 : Int32) = nI 26 from rfl, show (5 : Int32) = nI 5 from rfl, nN_mul, nN_add, nN_add, ldM_n (by show 26 + 5 * d + k < 368; omega) (by omega)]
  rfl
theorem mM_its {T : Tw} {μ : MS} (hM : simM T (μ.2 0)) {p k : Nat} (hp : p < 6) (hk : k < 3) : m_its μ (nI p) (nI k) = some (μ.2 0 (8 + 3 * p + k)) := by
  unfold m_its m_at
  simp only [Option.bind_some]
  rw [show (8 : Int32) = nI 8 from rfl, show (3 : Int32) = nI 3 from rfl, nN_mul, nN_add, nN_add, ldM_n (by show 8 + 3 * p + k < 368; omega) (by omega)]
  rfl
section
variable {T : Tw} {μ : MS}
theorem mD_whose (hM : simM T (μ.2 0)) {d : Nat} (hd : d < 10) : m_deedIs μ (nI d) (0 : Int32) = some (nI (tA T 3 d)) := (mM_deed hM hd (k := 0) (by decide)).trans (congrArg some (hM.2.2.1 d hd).1)
theorem mD_when (hM : simM T (μ.2 0)) {d : Nat} (hd : d < 10) : m_deedIs μ (nI d) (1 : Int32) = some (nI (tA T 4 d)) := (mM_deed hM hd (k := 1) (by decide)).trans (congrArg some (hM.2.2.1 d hd).2.1)
theorem mD_weight (hM : simM T (μ.2 0)) {d : Nat} (hd : d < 10) : m_deedIs μ (nI d) (2 : Int32) = some (nI (tA T 5 d)) := (mM_deed hM hd (k := 2) (by decide)).trans (congrArg some (hM.2.2.1 d hd).2.2.1)
theorem mD_need (hM : simM T (μ.2 0)) {d : Nat} (hd : d < 10) : m_deedIs μ (nI d) (3 : Int32) = some (nE (tN T d)) := (mM_deed hM hd (k := 3) (by decide)).trans (congrArg some (hM.2.2.1 d hd).2.2.2.1)
theorem mD_so (hM : simM T (μ.2 0)) {d : Nat} (hd : d < 10) : m_deedIs μ (nI d) (4 : Int32) = some (nI (tA T 7 d)) := (mM_deed hM hd (k := 4) (by decide)).trans (congrArg some (hM.2.2.1 d hd).2.2.2.2)
theorem mP_kind (hM : simM T (μ.2 0)) {p : Nat} (hp : p < 6) : m_its μ (nI p) (0 : Int32) = some (nI (tA T 0 p)) := (mM_its hM hp (k := 0) (by decide)).trans (congrArg some (hM.2.1 p hp).1)
theorem mP_grace (hM : simM T (μ.2 0)) {p : Nat} (hp : p < 6) : m_its μ (nI p) (1 : Int32) = some (nI (tA T 1 p)) := (mM_its hM hp (k := 1) (by decide)).trans (congrArg some (hM.2.1 p hp).2.1)
theorem mP_strength (hM : simM T (μ.2 0)) {p : Nat} (hp : p < 6) : m_its μ (nI p) (2 : Int32) = some (nI (tA T 2 p)) := (mM_its hM hp (k := 2) (by decide)).trans (congrArg some (hM.2.1 p hp).2.2)
theorem mF_people (hM : simM T (μ.2 0)) : ldM μ 0 (0 : Int32) = some (nI (tP T)) := by rw [show (0 : Int32) = nI 0 from rfl, ldM_n (by decide) (by decide), hM.1.1]
theorem mF_end (hM : simM T (μ.2 0)) : ldM μ 0 (2 : Int32) = some (nI (tE T)) := by rw [show (2 : Int32) = nI 2 from rfl, ldM_n (by decide) (by decide), hM.1.2.1]
theorem mF_year (hM : simM T (μ.2 0)) : ldM μ 0 (3 : Int32) = some (nI (tY T)) := by rw [show (3 : Int32) = nI 3 from rfl, ldM_n (by decide) (by decide), hM.1.2.2.1]
theorem mF_score (hM : simM T (μ.2 0)) : ldM μ 0 (4 : Int32) = some (tS T) := by rw [show (4 : Int32) = nI 4 from rfl, ldM_n (by decide) (by decide), hM.1.2.2.2.1]
theorem mF_deeds (hM : simM T (μ.2 0)) : ldM μ 0 (5 : Int32) = some (nI (tD T)) := by rw [show (5 : Int32) = nI 5 from rfl, ldM_n (by decide) (by decide), hM.1.2.2.2.2.1]
theorem mF_reports (hM : simM T (μ.2 0)) : ldM μ 0 (6 : Int32) = some (nI (tR T)) := by rw [show (6 : Int32) = nI 6 from rfl, ldM_n (by decide) (by decide), hM.1.2.2.2.2.2.1]
theorem mF_seed (hM : simM T (μ.2 0)) : ldM μ 0 (7 : Int32) = some (tZ T) := by rw [show (7 : Int32) = nI 7 from rfl, ldM_n (by decide) (by decide), hM.1.2.2.2.2.2.2]
theorem m_due_eq (hM : simM T (μ.2 0)) (hI : Inv T) {d : Nat} (hd : d < tD T) : m_due μ (nI d) = some (nI (due T d)) := by
  have hd6 : tD T ≤ 10 := hI.1.2.1
  have hw := hI.2.2.1 d hd
  have hp6 : tP T ≤ 6 := hI.1.1
  have hg := hI.2.1 _ hw.1
  unfold m_due
  rw [mD_whose hM (by omega), mD_when hM (by omega)]
  simp only [Option.bind_some]
  rw [mP_kind hM (by omega), mP_grace hM (by omega)]
  simp only [Option.bind_some]
  unfold m_termOf
  have e : ∀ k : Nat, k < 6 → (nI (tA T 0 (tA T 3 d)) = nI k ↔ tA T 0 (tA T 3 d) = k) := fun k hk => nN_eq (by omega) (by omega)
  rw [show (2 : Int32) = nI 2 from rfl, show (3 : Int32) = nI 3 from rfl, show (4 : Int32) = nI 4 from rfl, show (5 : Int32) = nI 5 from rfl, show (1 : Int32) = nI 1 from rfl, show (11 : Int32) = nI 11 from rfl]
  simp only [e 2 (by decide), e 3 (by decide), e 4 (by decide), e 5 (by decide)]
  unfold due term
  split
  · rw [nN_mul]; simp only [Option.bind_some, nN_add]
  · split
    · rw [nN_mul, nN_sub (by omega)]; simp only [Option.bind_some, nN_add]
    · split
      · rw [nN_add]; simp only [Option.bind_some, nN_add]
      · split
        · rw [nN_add]; simp only [Option.bind_some, nN_add]
        · simp only [Option.bind_some, nN_add]
end
/-! the component -/
section
variable {T : Tw} {σ : SS} {δ : DS}
theorem cD_whose (hC : simC T 0 σ) {d : Nat} (hd : d < 10) : ldC σ 3 (nI d) = some (nI (tA T 3 d)) := by rw [ldC_n (by show d < 10; exact hd) (by omega)]; exact congrArg some (hC.2.2.1 d hd).1
theorem cD_when (hC : simC T 0 σ) {d : Nat} (hd : d < 10) : ldC σ 4 (nI d) = some (nI (tA T 4 d)) := by rw [ldC_n (by show d < 10; exact hd) (by omega)]; exact congrArg some (hC.2.2.1 d hd).2.1
theorem cD_weight (hC : simC T 0 σ) {d : Nat} (hd : d < 10) : ldC σ 5 (nI d) = some (nI (tA T 5 d)) := by rw [ldC_n (by show d < 10; exact hd) (by omega)]; exact congrArg some (hC.2.2.1 d hd).2.2.1
theorem cD_need (hC : simC T 0 σ) {d : Nat} (hd : d < 10) : ldC σ 6 (nI d) = some (nE (tN T d)) := by rw [ldC_n (by show d < 10; exact hd) (by omega)]; exact congrArg some (hC.2.2.1 d hd).2.2.2.1
theorem cD_so (hC : simC T 0 σ) {d : Nat} (hd : d < 10) : ldC σ 7 (nI d) = some (nI (tA T 7 d)) := by rw [ldC_n (by show d < 10; exact hd) (by omega)]; exact congrArg some (hC.2.2.1 d hd).2.2.2.2
theorem cP_kind (hC : simC T 0 σ) {p : Nat} (hp : p < 6) : ldC σ 0 (nI p) = some (nI (tA T 0 p)) := by rw [ldC_n (by show p < 6; exact hp) (by omega)]; exact congrArg some (hC.2.1 p hp).1
theorem cP_grace (hC : simC T 0 σ) {p : Nat} (hp : p < 6) : ldC σ 1 (nI p) = some (nI (tA T 1 p)) := by rw [ldC_n (by show p < 6; exact hp) (by omega)]; exact congrArg some (hC.2.1 p hp).2.1
theorem cP_strength (hC : simC T 0 σ) {p : Nat} (hp : p < 6) : ldC σ 2 (nI p) = some (nI (tA T 2 p)) := by rw [ldC_n (by show p < 6; exact hp) (by omega)]; exact congrArg some (hC.2.1 p hp).2.2
/-- a thing that somebody is: an object of the kind's class, with the number and the grace -/
def isHand (δ : DS) (q k p g : Nat) : Prop := dl δ q = some (.inr (6 + k, [.int (nI p), .int (nI g)]))
/-- the things that people are -/
def hnd (δ : DS) (h : Nat → Option Nat) (T : Tw) : Prop := ∀ p, p < tP T → ∃ q, h p = some q ∧ isHand δ q (tA T 0 p) p (tA T 1 p)
theorem hand_ci {q k p g : Nat} (h : isHand δ q k p g) : dci δ q = some (6 + k) := by
  unfold dci
  rw [h]
theorem hand_int {q k p g : Nat} (hk : 1 ≤ k ∧ k ≤ 5) (h : isHand δ q k p g) : hInt δ 0 q = some (nI p) ∧ hInt δ 1 q = some (nI g) := by
  unfold hInt
  rw [h]
  dsimp only
  rw [if_pos (by omega), if_pos (by omega)]
  exact ⟨rfl, rfl⟩
theorem hand_term {q k p g : Nat} (hk : 1 ≤ k ∧ k ≤ 5) (hg : 1 ≤ g ∧ g ≤ 9) (h : isHand δ q k p g) : hTerm δ q = some (nI (term k g)) := by
  have h1 := (hand_int hk h).2
  have h0 := hand_ci h
  unfold hTerm
  rw [h0]
  simp only [Option.bind_some]
  have e7 : f7_term δ q = some (nI g) := by unfold f7_term; rw [h1]; rfl
  have e9 : f9_term δ q = some (nI (2 * g)) := by
    unfold f9_term
    rw [h0, e7]
    simp only [Option.bind_some]
    rw [show (2 : Int32) = nI 2 from rfl, nN_mul]
  rcases (show k = 1 ∨ k = 2 ∨ k = 3 ∨ k = 4 ∨ k = 5 by omega) with rfl | rfl | rfl | rfl | rfl
  · exact e7
  · exact e9
  · show f10_term δ q = _
    unfold f10_term
    rw [h0, e9]
    simp only [Option.bind_some]
    rw [show (1 : Int32) = nI 1 from rfl, nN_sub (by omega)]
    rfl
  · show f11_term δ q = _
    unfold f11_term
    rw [h0, e7]
    simp only [Option.bind_some]
    rw [show (2 : Int32) = nI 2 from rfl, nN_add]
    rfl
  · show f12_term δ q = _
    unfold f12_term f11_term
    rw [h0, e7]
    simp only [Option.bind_some]
    rw [show (2 : Int32) = nI 2 from rfl, show (9 : Int32) = nI 9 from rfl, nN_add, nN_add]
    rfl
theorem ldN_h {p q j : Nat} {h : Nat → Option Nat} (hh : σ.2.2.2 j = h) (hj : p < [6, 45].getD j 0) (hp : p < 2 ^ 31) (hq : h p = some q) : ldN σ j (nI p) = some q := by
  unfold ldN ldR
  rw [nI_clamp hp, if_neg]
  · rw [hh, hq]; rfl
  · rintro (h2 | h2)
    · exact nN_neg hp h2
    · omega
theorem f_due_eq (hC : simC T 0 σ) (hI : Inv T) (hH : hnd δ (σ.2.2.2 0) T) {d : Nat} (hd : d < tD T) : f0_dueOf δ σ (nI d) = some (nI (due T d)) := by
  have hd6 : tD T ≤ 10 := hI.1.2.1
  have hw := hI.2.2.1 d hd
  have hp6 : tP T ≤ 6 := hI.1.1
  have hg := hI.2.1 _ hw.1
  obtain ⟨q, hq, hq2⟩ := hH _ hw.1
  unfold f0_dueOf
  rw [cD_when hC (by omega), cD_whose hC (by omega)]
  simp only [Option.bind_some]
  rw [ldN_h (j := 0) rfl (by show tA T 3 d < 6; omega) (by omega) hq]
  simp only [Option.bind_some]
  rw [hand_term hg.1 hg.2.1 hq2]
  simp only [Option.bind_some, nN_add]
  rfl
/-! what stands of somebody -/
theorem standing_le (hI : Inv T) {p d : Nat} (hd : d < tD T) : standing T p d ≤ 9 := by
  have := (hI.2.2.1 d hd).2.2.1.2
  unfold standing
  split <;> omega
theorem stands_le (hI : Inv T) (p : Nat) : stands T p ≤ 90 := by
  have h1 := sN_le (g := standing T p) (b := 9) (n := tD T) (fun k hk => standing_le hI hk)
  have : tD T ≤ 10 := hI.1.2.1
  unfold stands
  omega
theorem f_stands_L (hC : simC T 0 σ) (hI : Inv T) (N : Nat) {p : Nat} (hp : p < 2 ^ 31) : ∀ (r d fuel : Nat), d + r = tD T → r < fuel → f0_standsOf_L4 N σ fuel (nI p) (nI (sN (standing T p) d)) (nI d) = some (nI (stands T p)) := by
  have hd6 : tD T ≤ 10 := hI.1.2.1
  intro r
  induction r with
  | zero =>
    intro d fuel h1 h2
    obtain ⟨n, rfl⟩ : ∃ n, fuel = n + 1 := ⟨fuel - 1, by omega⟩
    show (if (σ.1 1) ≤ nI d then _ else _) = _
    rw [show σ.1 1 = nI (tD T) from hC.1.2.1, if_pos ((nN_le (by omega) (by omega)).mpr (by omega))]
    rw [show d = tD T by omega]
    rfl
  | succ r ih =>
    intro d fuel h1 h2
    obtain ⟨n, rfl⟩ : ∃ n, fuel = n + 1 := ⟨fuel - 1, by omega⟩
    have hw := hI.2.2.1 d (by omega)
    have hp6 : tP T ≤ 6 := hI.1.1
    show (if (σ.1 1) ≤ nI d then _ else _) = _
    rw [show σ.1 1 = nI (tD T) from hC.1.2.1, if_neg (fun h => by have := (nN_le (by omega) (by omega)).mp h; omega)]
    rw [cD_whose hC (by omega), cD_so hC (by omega), cD_weight hC (by omega)]
    simp only [Option.bind_some]
    have hn := ih (d + 1) n (by omega) (by omega)
    have hs : sN (standing T p) (d + 1) = sN (standing T p) d + standing T p d := rfl
    rw [hs] at hn
    have e1 : nI d + 1 = nI (d + 1) := nI_1 d
    rw [e1, show (1 : Int32) = nI 1 from rfl, show (0 : Int32) = nI 0 from rfl, nN_add, nN_add]
    by_cases h3 : tA T 3 d = p
    · rw [if_pos (by rw [h3])]
      by_cases h4 : tA T 7 d = 1
      · rw [if_pos (by rw [h4])]
        unfold standing at hn
        rw [if_pos ⟨h3, h4⟩] at hn
        exact hn
      · rw [if_neg (fun h => h4 ((nN_eq (by omega) (by omega)).mp h))]
        unfold standing at hn
        rw [if_neg (fun h => h4 h.2)] at hn
        exact hn
    · rw [if_neg (fun h => h3 ((nN_eq (by omega) hp).mp h))]
      unfold standing at hn
      rw [if_neg (fun h => h3 h.1)] at hn
      exact hn
theorem f_stands_eq (hC : simC T 0 σ) (hI : Inv T) {N p : Nat} (hN : 11 ≤ N) (hp : p < 2 ^ 31) : f0_standsOf N σ (nI p) = some (nI (stands T p)) := by
  have hd6 : tD T ≤ 10 := hI.1.2.1
  exact f_stands_L hC hI N hp (tD T) 0 N (by omega) (by omega)
end
