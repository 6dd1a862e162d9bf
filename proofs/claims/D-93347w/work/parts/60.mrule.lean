/-! PLAIN LAW: the model's rules, its choice -/
set_option maxRecDepth 100000
theorem bestT_none {T : Tw} {ok : Nat → Bool} : ∀ n, (∀ d, d < n → ok d = false) → bestT T ok n = none := by
  intro n
  induction n with
  | zero => intro _; rfl
  | succ n ih =>
    intro h
    unfold bestT
    rw [if_neg (by rw [h n (by omega)]; decide)]
    exact ih (fun d hd => h d (by omega))
theorem reachV_some (T : Tw) (x : Nat × ((Nat → Int32) → Bool) × Nat × Nat) : reachV T (some x) = if x.2.2.1 = 2 then -1 else if x.2.2.1 = 0 then nI (tY T) + nI x.2.2.2 else nI (tY T) - nI x.2.2.2 := rfl
theorem mF_rule {μ : MS} {i : Nat} (hi : i < 368) : ldM μ 0 (nI i) = some (μ.2 0 i) := ldM_n (by show i < 368; exact hi) (by omega)
/-- behind the rules: a rule was found -/
theorem m_B115_found {T : Tw} {μ : MS} (hM : simM T (μ.2 0)) (hI : Inv T) {N p k : Nat} (hN : 11 ≤ N) (hp : p < tP T) (hk : k < 8) {x : Nat × ((Nat → Int32) → Bool) × Nat × Nat} (hx : x.2.2.1 ≤ 2) (h2 : μ.2 0 (136 + 4 * k + 2) = nI x.2.2.2) : m_choice_B115 N μ (nI p) (nI (136 + 4 * k)) (nI x.2.2.1) = some (nM (bestT T (may T p (reachV T (some x)) (pull (tA T 0 p) (tA T 2 p) (tY T))) (tD T)), μ) := by
  have hd6 : tD T ≤ 10 := hI.1.2.1
  have hh := hI.2.1 p hp
  unfold m_choice_B115
  rw [show nI (136 + 4 * k) + (2 : Int32) = nI (136 + 4 * k + 2) from nN_add (136 + 4 * k) 2, mF_rule (by omega), h2, m_pulls_eq hM hI hp]
  simp only [Option.bind_some]
  have hL := fun (x5 x6 : Int32) (h5 : ¬ x5 = (2 : Int32)) => m_choice_L hM hI hp (pull_le hh.2.2.2 : pull (tA T 0 p) (tA T 2 p) (tY T) ≤ 10) h5 x6 N (tD T) 0 N (by omega) (by omega)
  rcases (show x.2.2.1 = 0 ∨ x.2.2.1 = 1 ∨ x.2.2.1 = 2 by omega) with h | h | h
  · rw [h, if_pos (show nI 0 = (0 : Int32) from rfl)]
    have e : reachV T (some x) = nI (tY T) + nI x.2.2.2 := by rw [reachV_some, h]; rfl
    rw [e]
    exact hL (nI 0) _ (by decide)
  · rw [h, if_neg (by decide), if_pos (show nI 1 = (1 : Int32) from rfl)]
    have e : reachV T (some x) = nI (tY T) + ((0 : Int32) - nI x.2.2.2) := by
      have : reachV T (some x) = nI (tY T) - nI x.2.2.2 := by rw [reachV_some, h]; rfl
      rw [this, Int32.zero_sub, Int32.sub_eq_add_neg]
    rw [e]
    exact hL (nI 1) _ (by decide)
  · rw [h, if_neg (by decide), if_neg (by decide)]
    have e : reachV T (some x) = -1 := by rw [reachV_some, h]; rfl
    rw [e]
    have hn : bestT T (may T p (-1) (pull (tA T 0 p) (tA T 2 p) (tY T))) (tD T) = none := bestT_none _ (fun d hd => decide_eq_false (fun q => by
      have hdd := due_le hI hd
      have q2 := q.2.2.2
      rw [Int32.le_iff_toInt_le, nI_toInt (by omega)] at q2
      have : (-1 : Int32).toInt = -1 := by decide
      rw [this] at q2
      omega))
    rw [hn]
    exact m_choice_spare hM hI (by omega) _ _ _
theorem m_B115_none {T : Tw} {μ : MS} (hM : simM T (μ.2 0)) (hI : Inv T) {N p : Nat} (hN : 11 ≤ N) (hp : p < tP T) (x3 : Int32) : m_choice_B115 N μ (nI p) x3 (-1 : Int32) = some (nM (bestT T (may T p (reachV T none) (pull (tA T 0 p) (tA T 2 p) (tY T))) (tD T)), μ) := by
  have hd6 : tD T ≤ 10 := hI.1.2.1
  have hh := hI.2.1 p hp
  unfold m_choice_B115
  rw [if_neg (by decide), if_neg (by decide), m_pulls_eq hM hI hp]
  simp only [Option.bind_some]
  have e : reachV T none = nI (tY T) + 0 := by
    show nI (tY T) = _
    rw [Int32.add_zero]
  rw [e]
  exact m_choice_L hM hI hp (pull_le hh.2.2.2 : pull (tA T 0 p) (tA T 2 p) (tY T) ≤ 10) (by decide) 0 N (tD T) 0 N (by omega) (by omega)
/-- a rule's condition, run by the model -/
theorem m_isSo_eq {T : Tw} {μ : MS} (hM : simM T (μ.2 0)) (hI : Inv T) {N p a b : Nat} (hN : 201 ≤ N) (hp : p < tP T) (hb : b ≤ 200) {ev : (Nat → Int32) → Bool} (h : (a = b ∧ ∀ fv, ev fv = true) ∨ tells (fun i => μ.2 0 (168 + i)) a b (fun fv => if ev fv = true then 1 else 0)) : ∃ μ', m_isSo N μ (nI a) (nI b) (nI p) = some (ev (facts T p), μ') ∧ simM T (μ'.2 0) ∧ μ'.2 0 = μ.2 0 ∧ frM μ μ' := by
  unfold m_isSo
  rcases h with ⟨rfl, h⟩ | ⟨hab, h⟩
  · obtain ⟨μ', g1, g2, g3, g4⟩ := m_isSo_run (T := T) hI (N := N) (by omega) hp hb (g := fun i => μ.2 0 (168 + i)) 0 μ a 0 N (μ.2 3, 0) hM (fun _ _ => rfl) (by omega) (by omega) (by omega) rfl
    refine ⟨μ', ?_, g2, g3, g4⟩
    rw [h]
    have e : decide ((μ.2 3, 0).2 = 0 ∨ (μ.2 3, 0).1 0 = 1) = true := decide_eq_true (Or.inl rfl)
    rw [e] at g1
    exact g1
  · obtain ⟨t, h1, h2, h3, -⟩ := h (facts T p) (μ.2 3, 0)
    obtain ⟨μ', g1, g2, g3, g4⟩ := m_isSo_run (T := T) hI (N := N) (by omega) hp hb (g := fun i => μ.2 0 (168 + i)) (b - a) μ a 0 N t hM (fun _ _ => rfl) (by omega) (by omega) (by omega) h1
    refine ⟨μ', ?_, g2, g3, g4⟩
    have e : decide (t.2 = 0 ∨ t.1 0 = 1) = ev (facts T p) := by
      have h2' : t.2 = 1 := h2
      have h3' : t.1 0 = if ev (facts T p) = true then 1 else 0 := h3
      rw [h2', h3']
      cases ev (facts T p) <;> decide
    rw [e] at g1
    exact g1
theorem frM_rul {μ μ' : MS} {RS : Rls} (h : ∀ i, (i = 1 ∨ 136 ≤ i) → μ'.2 0 i = μ.2 0 i) (hR : rulM (μ.2 0) RS) : rulM (μ'.2 0) RS := by
  obtain ⟨h1, en, h2, h3⟩ := hR
  refine ⟨by rw [h 1 (Or.inl rfl)]; exact h1, en, h2, fun k x hx => ?_⟩
  obtain ⟨⟨a1, a2, a3, a4⟩, b1, b2⟩ := h3 k x hx
  refine ⟨⟨by rw [h _ (Or.inr (by omega))]; exact a1, by rw [h _ (Or.inr (by omega))]; exact a2, by rw [h _ (Or.inr (by omega))]; exact a3, by rw [h _ (Or.inr (by omega))]; exact a4⟩, b1, ?_⟩
  have e : (fun i => μ'.2 0 (168 + i)) = (fun i => μ.2 0 (168 + i)) := by funext i; exact h _ (Or.inr (by omega))
  rw [e]
  exact b2
theorem m_rule_L {T : Tw} (hI : Inv T) {RS : Rls} (hRI : rulI RS) {N p : Nat} (hN : 201 ≤ N) (hp : p < tP T) {f : Nat → Int32} (hM : simM T f) {en : Nat → Nat} (hl : f 1 = nI RS.length) (hen : ∀ k x, RS[k]? = some x → (f (136 + 4 * k) = nI x.1 ∧ f (136 + 4 * k + 1) = nI x.2.2.1 ∧ f (136 + 4 * k + 2) = nI x.2.2.2 ∧ f (136 + 4 * k + 3) = nI (en (k + 1))) ∧ en (k + 1) ≤ 200 ∧ ((en k = en (k + 1) ∧ ∀ fv, x.2.1 fv = true) ∨ tells (fun i => f (168 + i)) (en k) (en (k + 1)) (fun fv => if x.2.1 fv = true then 1 else 0))) : ∀ (r k fuel : Nat) (μ : MS), μ.2 0 = f → k + r = RS.length → r + 1 < fuel → ∃ μ', m_choice_L15 N fuel μ (nI p) (nI (tA T 0 p)) (-1 : Int32) (nI (en k)) (nI k) = some (nM (bestT T (may T p (reachV T ((RS.drop k).find? (ruleFor T p))) (pull (tA T 0 p) (tA T 2 p) (tY T))) (tD T)), μ') ∧ μ'.2 0 = f ∧ frM μ μ' := by
  have hl8 := hRI.1
  have hh := hI.2.1 p hp
  have e1 : ∀ μ : MS, μ.2 0 = f → ldM μ 0 (1 : Int32) = some (nI RS.length) := fun μ h => by rw [show (1 : Int32) = nI 1 from rfl, mF_rule (by decide), h, hl]
  intro r
  induction r with
  | zero =>
    intro k fuel μ hf hk hfu
    obtain ⟨n, rfl⟩ : ∃ n, fuel = n + 1 := ⟨fuel - 1, by omega⟩
    refine ⟨μ, ?_, hf, frM.rf μ⟩
    show (ldM μ 0 (1 : Int32)).bind _ = _
    rw [e1 μ hf]
    simp only [Option.bind_some]
    rw [if_pos ((nN_le (by omega) (by omega)).mpr (by omega)), if_neg (by decide), List.drop_eq_nil_of_le (by omega)]
    exact m_B115_none (by rw [hf]; exact hM) hI (by omega) hp _
  | succ r ih =>
    intro k fuel μ hf hk hfu
    obtain ⟨n, rfl⟩ : ∃ n, fuel = n + 1 := ⟨fuel - 1, by omega⟩
    obtain ⟨x, hx⟩ : ∃ x, RS[k]? = some x := ⟨RS[k], List.getElem?_eq_getElem (by omega)⟩
    obtain ⟨⟨a1, a2, a3, a4⟩, b1, b2⟩ := hen k x hx
    have hxi := hRI.2 x (List.mem_of_getElem? hx)
    have hp0 : (136 : Int32) + (4 : Int32) * nI k = nI (136 + 4 * k) := by rw [show (136 : Int32) = nI 136 from rfl, show (4 : Int32) = nI 4 from rfl, nN_mul, nN_add]
    have e4 : ∀ μ : MS, μ.2 0 = f → ldM μ 0 (nI (136 + 4 * k) + (0 : Int32)) = some (nI x.1) := fun μ h => by rw [show nI (136 + 4 * k) + (0 : Int32) = nI (136 + 4 * k) from Int32.add_zero _, mF_rule (by omega), h, a1]
    have e7 : ∀ μ : MS, μ.2 0 = f → ldM μ 0 (nI (136 + 4 * k) + (3 : Int32)) = some (nI (en (k + 1))) := fun μ h => by rw [show nI (136 + 4 * k) + (3 : Int32) = nI (136 + 4 * k + 3) from nN_add _ 3, mF_rule (by omega), h, a4]
    show ∃ μ', (ldM μ 0 (1 : Int32)).bind _ = some (_, μ') ∧ _
    rw [e1 μ hf]
    simp only [Option.bind_some]
    rw [if_neg (fun h => by have := (nN_le (by omega) (by omega)).mp h; omega), if_neg (by decide), hp0, e4 μ hf]
    simp only [Option.bind_some]
    rw [m_isUnder_eq hh.1.2 hxi.1, e7 μ hf]
    simp only [Option.bind_some]
    rw [drop_one hx, List.find?_cons, show nI k + 1 = nI (k + 1) from nI_1 k]
    by_cases hO : isOfN (tA T 0 p) x.1 = true
    · rw [if_pos hO]
      obtain ⟨μ1, g1, g2, g3, g4⟩ := m_isSo_eq (μ := μ) (by rw [hf]; exact hM) hI hN hp b1 (by rw [hf]; exact b2)
      have hf1 : μ1.2 0 = f := g3.trans hf
      rw [g1]
      simp only [Option.bind_some]
      rw [e7 μ1 hf1]
      simp only [Option.bind_some]
      have hfor : ruleFor T p x = x.2.1 (facts T p) := by unfold ruleFor; rw [hO, Bool.true_and]
      rw [hfor]
      cases hev : x.2.1 (facts T p) with
      | true =>
        rw [if_pos rfl]
        refine ⟨μ1, ?_, hf1, g4⟩
        obtain ⟨n2, rfl⟩ : ∃ n2, n = n2 + 1 := ⟨n - 1, by omega⟩
        have e2 : ldM μ1 0 (nI (136 + 4 * k) + (1 : Int32)) = some (nI x.2.2.1) := by rw [show nI (136 + 4 * k) + (1 : Int32) = nI (136 + 4 * k + 1) from nN_add _ 1, mF_rule (by omega), hf1, a2]
        have h0 : (0 : Int32) ≤ nI (136 + 4 * k) := (nN_le (a := 0) (by decide) (by omega)).mpr (Nat.zero_le _)
        have hB := m_B115_found (μ := μ1) (by rw [hf1]; exact hM) hI (N := N) (p := p) (k := k) (by omega) hp (by omega) (x := x) hxi.2.2.1 (by rw [hf1]; exact a3)
        show (ldM μ1 0 (1 : Int32)).bind _ = _
        rw [e1 μ1 hf1]
        simp only [Option.bind_some]
        rw [if_pos h0, e2]
        simp only [Option.bind_some]
        split
        · exact hB
        · exact hB
      | false =>
        rw [if_neg (by decide)]
        obtain ⟨μ', q1, q2, q3⟩ := ih (k + 1) n μ1 hf1 (by omega) (by omega)
        exact ⟨μ', q1, q2, g4.tr q3⟩
    · rw [if_neg hO]
      have hfor : ruleFor T p x = false := by
        unfold ruleFor
        cases h : isOfN (tA T 0 p) x.1 with
        | true => exact absurd h hO
        | false => rfl
      rw [hfor]
      exact ih (k + 1) n μ hf (by omega) (by omega)
/-- the model's choice -/
theorem m_choice_eq {T : Tw} {μ : MS} {RS : Rls} (hM : simM T (μ.2 0)) (hI : Inv T) (hR : rulM (μ.2 0) RS) (hRI : rulI RS) {N p : Nat} (hN : 201 ≤ N) (hp : p < tP T) : ∃ μ', m_choice N μ (nI p) = some (nM (choiceT T RS p), μ') ∧ μ'.2 0 = μ.2 0 ∧ frM μ μ' := by
  have hp6 : tP T ≤ 6 := hI.1.1
  have hl8 := hRI.1
  obtain ⟨h1, en, h2, h3⟩ := hR
  unfold m_choice
  rw [mP_kind hM (by omega)]
  simp only [Option.bind_some]
  obtain ⟨μ', g1, g2, g3⟩ := m_rule_L hI hRI hN hp hM h1 h3 RS.length 0 N μ rfl (by omega) (by omega)
  rw [h2, List.drop_zero] at g1
  exact ⟨μ', g1, g2, g3⟩
