/-! PLAIN LAW: rules read from the tape: tokens -/
set_option maxRecDepth 100000
theorem sI_ne {σ : SS} {k j : Nat} {x : Int32} (h : j ≠ k) : (sI σ k x).1 j = σ.1 j := upd_ne h
theorem sI_at (σ : SS) (k : Nat) (x : Int32) : (sI σ k x).1 k = x := upd_at σ.1 k x
def isL (b : Nat) : Bool := decide (97 ≤ b ∧ b ≤ 122)
def isG (b : Nat) : Bool := decide (48 ≤ b ∧ b ≤ 57)
theorem byte_all : ∀ b : Fin 256, (f0_isLetter (sgB b.val) = some (isL b.val) ∧ m_isLetter (nI b.val) = some (isL b.val) ∧ f0_isDigit (sgB b.val) = some (isG b.val) ∧ m_isDigit (nI b.val) = some (isG b.val)) ∧ (b.val < 128 → sgB b.val = nI b.val) ∧ ((sgB b.val = 32 ↔ b.val = 32) ∧ (nI b.val = 32 ↔ b.val = 32)) := by decide +kernel
theorem by_L {b : Nat} (h : b < 256) : f0_isLetter (sgB b) = some (isL b) := (byte_all ⟨b, h⟩).1.1
theorem by_mL {b : Nat} (h : b < 256) : m_isLetter (nI b) = some (isL b) := (byte_all ⟨b, h⟩).1.2.1
theorem by_G {b : Nat} (h : b < 256) : f0_isDigit (sgB b) = some (isG b) := (byte_all ⟨b, h⟩).1.2.2.1
theorem by_mG {b : Nat} (h : b < 256) : m_isDigit (nI b) = some (isG b) := (byte_all ⟨b, h⟩).1.2.2.2
/-- the tape, as both have it -/
def tape (n : Nat) (t : Nat → Nat) (σ : SS) (μ : MS) : Prop := n ≤ 200 ∧ σ.1 41 = nI n ∧ μ.1 23 = nI n ∧ ∀ i, i < n → t i < 256 ∧ σ.2.1 46 i = sgB (t i) ∧ μ.2 10 i = nI (t i)
theorem tape_cg {n : Nat} {t : Nat → Nat} {σ σ' : SS} {μ μ' : MS} (h : tape n t σ μ) (h1 : σ'.1 41 = σ.1 41) (h2 : σ'.2.1 46 = σ.2.1 46) (h3 : μ'.1 23 = μ.1 23) (h4 : μ'.2 10 = μ.2 10) : tape n t σ' μ' := ⟨h.1, h1.trans h.2.1, h3.trans h.2.2.1, by rw [h2, h4]; exact h.2.2.2⟩
/-- a token: the end, a word, a number, a sign -/
def tk (n : Nat) (t : Nat → Nat) (s e : Nat) : Prop := s ≤ e ∧ e ≤ n ∧ (s = n ∨ (s < e ∧ ((∀ i, s ≤ i → i < e → isL (t i) = true) ∨ (∀ i, s ≤ i → i < e → isG (t i) = true) ∨ (e = s + 1 ∧ isL (t s) = false ∧ isG (t s) = false))))
def tkC (σ σ' : SS) : Prop := (∀ k, k ≠ 42 → k ≠ 43 → σ'.1 k = σ.1 k) ∧ σ'.2 = σ.2
def tkM (μ μ' : MS) : Prop := (∀ k, k ≠ 24 → k ≠ 25 → μ'.1 k = μ.1 k) ∧ μ'.2 = μ.2
theorem byteAt_eq {n : Nat} {t : Nat → Nat} {σ : SS} {μ : MS} (h : tape n t σ μ) {i : Nat} (hi : i ≤ n) : m_byteAt μ (nI i) = some (if i < n then nI (t i) else -1) := by
  have hn := h.1
  unfold m_byteAt
  rw [h.2.2.1]
  by_cases e : i < n
  · rw [if_neg (fun z => by have := (nN_le (by omega) (by omega)).mp z; omega), ldM_n (by show i < 200; omega) (by omega), (h.2.2.2 i e).2.2, if_pos e]
    rfl
  · rw [if_pos ((nN_le (by omega) (by omega)).mpr (by omega)), if_neg e]
theorem bat_L {n : Nat} {t : Nat → Nat} {σ : SS} {μ : MS} (h : tape n t σ μ) {i : Nat} (hi : i ≤ n) : ((m_byteAt μ (nI i)).bind fun r => m_isLetter r) = some (decide (i < n) && isL (t i)) := by
  rw [byteAt_eq h hi, Option.bind_some]
  by_cases e : i < n
  · rw [if_pos e, by_mL (h.2.2.2 i e).1, decide_eq_true e, Bool.true_and]
  · rw [if_neg e, decide_eq_false e, Bool.false_and]
    rfl
/-- a letter, a digit or neither -/
theorem LG {b : Nat} (h : isL b = true) : isG b = false := by
  unfold isL at h
  unfold isG
  rw [decide_eq_true_eq] at h
  exact decide_eq_false (fun z => by omega)
/-- how far a token goes -/
theorem run_both {n : Nat} {t : Nat → Nat} (x2 x3 : Bool) : ∀ (m p fuel : Nat) (σ : SS) (μ : MS), tape n t σ μ → p + m = n → m < fuel → μ.1 25 = nI p → ∃ e σ' μ', p ≤ e ∧ e ≤ n ∧ (∀ i, p ≤ i → i < e → ((x2 && isL (t i)) || (x3 && isG (t i))) = true) ∧ f0_next_L98 1000 fuel σ (nI p) x2 x3 = some σ' ∧ m_token_L86 1000 fuel μ x2 x3 = some μ' ∧ σ'.1 43 = nI e ∧ μ'.1 25 = nI e ∧ ((∀ k, k ≠ 43 → σ'.1 k = σ.1 k) ∧ σ'.2 = σ.2) ∧ ((∀ k, k ≠ 25 → μ'.1 k = μ.1 k) ∧ μ'.2 = μ.2) := by
  intro m
  induction m with
  | zero =>
    intro p fuel σ μ hT h1 h2 h3
    obtain ⟨N, rfl⟩ : ∃ n, fuel = n + 1 := ⟨fuel - 1, by omega⟩
    have hn := hT.1
    have hl : nI n ≤ nI p := (nN_le (by omega) (by omega)).mpr (by omega)
    have hb := byteAt_eq hT (i := p) (by omega)
    rw [if_neg (by omega)] at hb
    refine ⟨p, sI σ 43 (nI p), μ, Nat.le_refl _, by omega, fun i h4 h5 => absurd h4 (by omega), ?_, ?_, upd_at σ.1 43 _, h3, ⟨fun k hk => upd_ne hk, rfl⟩, ⟨fun _ _ => rfl, rfl⟩⟩
    · show (if σ.1 41 ≤ nI p then _ else _) = _
      rw [hT.2.1, if_pos hl]
      rfl
    · unfold m_token_L86
      rw [h3, hb]
      cases x2 <;> cases x3 <;> rfl
  | succ m ih =>
    intro p fuel σ μ hT h1 h2 h3
    obtain ⟨N, rfl⟩ : ∃ n, fuel = n + 1 := ⟨fuel - 1, by omega⟩
    have hn := hT.1
    have hp : p < n := by omega
    have hl : ¬ nI n ≤ nI p := fun z => by have := (nN_le (by omega) (by omega)).mp z; omega
    have hb := byteAt_eq hT (i := p) (by omega)
    rw [if_pos hp] at hb
    obtain ⟨b1, b2, b3⟩ := hT.2.2.2 p hp
    have hld : ldC σ 46 (nI p) = some (sgB (t p)) := by rw [ldC_n (by show p < 200; omega) (by omega), b2]
    have eC : f0_next_L98 1000 (N + 1) σ (nI p) x2 x3 = if ((x2 && isL (t p)) || (x3 && isG (t p))) = true then f0_next_L98 1000 N σ (nI (p + 1)) x2 x3 else some (sI σ 43 (nI p)) := by
      show (if σ.1 41 ≤ nI p then _ else _) = _
      rw [hT.2.1, if_neg hl, hld]
      simp only [Option.bind_some, by_L b1, by_G b1, nI_1]
      cases x2 <;> cases x3 <;> cases isL (t p) <;> cases isG (t p) <;> rfl
    have eM : m_token_L86 1000 (N + 1) μ x2 x3 = if ((x2 && isL (t p)) || (x3 && isG (t p))) = true then m_token_L86 1000 N (stF μ 25 (nI (p + 1))) x2 x3 else some μ := by
      show (if x2 = true then _ else _) = _
      rw [h3, hb]
      simp only [Option.bind_some, by_mL b1, by_mG b1, nI_1]
      cases x2 <;> cases x3 <;> cases isL (t p) <;> cases isG (t p) <;> rfl
    rw [eC, eM]
    by_cases c : ((x2 && isL (t p)) || (x3 && isG (t p))) = true
    · rw [if_pos c, if_pos c]
      obtain ⟨e, σ', μ', z1, z2, z3, z4, z5, z6, z7, z8, z9⟩ := ih (p + 1) N σ (stF μ 25 (nI (p + 1))) (tape_cg hT rfl rfl (stF_ne (by decide)) rfl) (by omega) (by omega) (stF_at _ _ _)
      refine ⟨e, σ', μ', by omega, z2, fun i h4 h5 => ?_, z4, z5, z6, z7, z8, fun k hk => (z9.1 k hk).trans (stF_ne hk), z9.2⟩
      by_cases ei : i = p
      · rw [ei]; exact c
      · exact z3 i (by omega) h5
    · rw [if_neg c, if_neg c]
      exact ⟨p, sI σ 43 (nI p), μ, Nat.le_refl _, by omega, fun i h4 h5 => absurd h4 (by omega), rfl, rfl, upd_at σ.1 43 _, h3, ⟨fun k hk => upd_ne hk, rfl⟩, ⟨fun _ _ => rfl, rfl⟩⟩
/-- from where a token begins -/
theorem body_both {n : Nat} {t : Nat → Nat} {p : Nat} {σ : SS} {μ : MS} (hT : tape n t σ μ) (hp : p ≤ n) (h1 : μ.1 24 = nI p) (hsp : p < n → t p ≠ 32) (fuel fuel' : Nat) : ∃ e σ' μ', tk n t p e ∧ f0_next_L5 1000 (fuel + 1) σ (nI p) = some σ' ∧ m_token_L8 1000 (fuel' + 1) μ = some μ' ∧ (σ'.1 42 = nI p ∧ σ'.1 43 = nI e) ∧ (μ'.1 24 = nI p ∧ μ'.1 25 = nI e) ∧ tkC σ σ' ∧ tkM μ μ' := by
  have hn := hT.1
  have hb := byteAt_eq hT hp
  by_cases hlt : p < n
  · have hl : ¬ nI n ≤ nI p := fun z => by have := (nN_le (by omega) (by omega)).mp z; omega
    rw [if_pos hlt] at hb
    obtain ⟨b1, b2, b3⟩ := hT.2.2.2 p hlt
    have hld : ldC σ 46 (nI p) = some (sgB (t p)) := by rw [ldC_n (by show p < 200; omega) (by omega), b2]
    have hld' : ldC (sI σ 42 (nI p)) 46 (nI p) = some (sgB (t p)) := hld
    have hT1 : tape n t (sI σ 42 (nI p)) (stF μ 25 (nI (p + 1))) := tape_cg hT (sI_ne (by decide)) rfl (stF_ne (by decide)) rfl
    obtain ⟨e, σ', μ', z1, z2, z3, z4, z5, z6, z7, z8, z9⟩ := run_both (n := n) (t := t) (isL (t p)) (isG (t p)) (n - (p + 1)) (p + 1) 1000 (sI σ 42 (nI p)) (stF μ 25 (nI (p + 1))) hT1 (by omega) (by omega) (stF_at _ _ _)
    have s32 : ¬ sgB (t p) = 32 := fun z => hsp hlt ((byte_all ⟨t p, b1⟩).2.2.1.mp z)
    have n32 : ¬ nI (t p) = 32 := fun z => hsp hlt ((byte_all ⟨t p, b1⟩).2.2.2.mp z)
    refine ⟨e, σ', μ', ⟨by omega, z2, Or.inr ⟨by omega, ?_⟩⟩, ?_, ?_, ⟨(z8.1 42 (by decide)).trans (upd_at σ.1 42 _), z6⟩, ⟨(z9.1 24 (by decide)).trans ((stF_ne (by decide)).trans h1), z7⟩, ⟨fun k k1 k2 => (z8.1 k k2).trans (upd_ne k1), z8.2⟩, ⟨fun k k1 k2 => (z9.1 k k2).trans (stF_ne k2), z9.2⟩⟩
    · by_cases cL : isL (t p) = true
      · refine Or.inl (fun i h4 h5 => ?_)
        by_cases ei : i = p
        · rw [ei]; exact cL
        · have := z3 i (by omega) h5
          rw [LG cL, Bool.false_and, Bool.or_false, Bool.and_eq_true] at this
          exact this.2
      · have cL' : isL (t p) = false := by cases h : isL (t p) <;> simp_all
        by_cases cG : isG (t p) = true
        · refine Or.inr (Or.inl (fun i h4 h5 => ?_))
          by_cases ei : i = p
          · rw [ei]; exact cG
          · have := z3 i (by omega) h5
            rw [cL', Bool.false_and, Bool.false_or, Bool.and_eq_true] at this
            exact this.2
        · have cG' : isG (t p) = false := by cases h : isG (t p) <;> simp_all
          refine Or.inr (Or.inr ⟨?_, cL', cG'⟩)
          by_cases ee : e = p + 1
          · exact ee
          · have := z3 (p + 1) (by omega) (by omega)
            rw [cL', cG', Bool.false_and, Bool.false_and] at this
            cases this
    · show (if σ.1 41 ≤ nI p then _ else _) = _
      rw [hT.2.1, if_neg hl, hld, Option.bind_some, if_neg s32, Option.bind_some, show (sI σ 42 (nI p)).1 41 = nI n from (sI_ne (by decide)).trans hT.2.1, if_neg hl, hld', Option.bind_some, by_L b1, Option.bind_some]
      have hB : ∀ y0, f0_next_B60 1000 (sI σ 42 (nI p)) (nI p) y0 = f0_next_L98 1000 1000 (sI σ 42 (nI p)) (nI (p + 1)) y0 (isG (t p)) := fun y0 => by
        unfold f0_next_B60
        rw [show (sI σ 42 (nI p)).1 41 = nI n from (sI_ne (by decide)).trans hT.2.1, if_neg hl, if_neg hl, hld', Option.bind_some, by_G b1, Option.bind_some, if_neg hl, nI_1]
        cases isG (t p) <;> rfl
      rw [hB, hB, ← z4]
      cases isL (t p) <;> rfl
    · unfold m_token_L8
      rw [h1, hb, Option.bind_some, if_neg n32, Option.bind_some, by_mL b1, Option.bind_some, Option.bind_some, by_mG b1, Option.bind_some, hT.2.2.1, if_neg hl, Option.bind_some, nI_1]
      exact z5
  · have hl : nI n ≤ nI p := (nN_le (by omega) (by omega)).mpr (by omega)
    rw [if_neg hlt] at hb
    have hT1 : tape n t (sI σ 42 (nI p)) (stF μ 25 (nI p)) := tape_cg hT (sI_ne (by decide)) rfl (stF_ne (by decide)) rfl
    obtain ⟨e, σ', μ', z1, z2, z3, z4, z5, z6, z7, z8, z9⟩ := run_both (n := n) (t := t) false false 0 p 1000 (sI σ 42 (nI p)) (stF μ 25 (nI p)) hT1 (by omega) (by omega) (stF_at _ _ _)
    refine ⟨e, σ', μ', ⟨z1, z2, Or.inl (by omega)⟩, ?_, ?_, ⟨(z8.1 42 (by decide)).trans (upd_at σ.1 42 _), z6⟩, ⟨(z9.1 24 (by decide)).trans ((stF_ne (by decide)).trans h1), z7⟩, ⟨fun k k1 k2 => (z8.1 k k2).trans (upd_ne k1), z8.2⟩, ⟨fun k k1 k2 => (z9.1 k k2).trans (stF_ne k2), z9.2⟩⟩
    · show (if σ.1 41 ≤ nI p then _ else _) = _
      rw [hT.2.1, if_pos hl, Option.bind_some, show (sI σ 42 (nI p)).1 41 = nI n from (sI_ne (by decide)).trans hT.2.1, if_pos hl]
      unfold f0_next_B60
      rw [show (sI σ 42 (nI p)).1 41 = nI n from (sI_ne (by decide)).trans hT.2.1, if_pos hl, if_pos hl]
      exact z4
    · unfold m_token_L8
      rw [h1, hb, Option.bind_some, if_neg (by decide), Option.bind_some, show m_isLetter (-1) = some false from rfl, Option.bind_some, Option.bind_some, show m_isDigit (-1) = some false from rfl, Option.bind_some, hT.2.2.1, if_pos hl, Option.bind_some]
      exact z5
theorem skip_both {n : Nat} {t : Nat → Nat} : ∀ (m p fuel fuel' : Nat) (σ : SS) (μ : MS), tape n t σ μ → p + m = n → m < fuel → m < fuel' → μ.1 24 = nI p → ∃ s e σ' μ', p ≤ s ∧ tk n t s e ∧ f0_next_L5 1000 fuel σ (nI p) = some σ' ∧ m_token_L8 1000 fuel' μ = some μ' ∧ (σ'.1 42 = nI s ∧ σ'.1 43 = nI e) ∧ (μ'.1 24 = nI s ∧ μ'.1 25 = nI e) ∧ tkC σ σ' ∧ tkM μ μ' := by
  intro m
  induction m with
  | zero =>
    intro p fuel fuel' σ μ hT h1 h2 h3 h4
    obtain ⟨N, rfl⟩ : ∃ n, fuel = n + 1 := ⟨fuel - 1, by omega⟩
    obtain ⟨N', rfl⟩ : ∃ n, fuel' = n + 1 := ⟨fuel' - 1, by omega⟩
    obtain ⟨e, σ', μ', z⟩ := body_both hT (by omega : p ≤ n) h4 (fun h => absurd h (by omega)) N N'
    exact ⟨p, e, σ', μ', Nat.le_refl _, z⟩
  | succ m ih =>
    intro p fuel fuel' σ μ hT h1 h2 h3 h4
    obtain ⟨N, rfl⟩ : ∃ n, fuel = n + 1 := ⟨fuel - 1, by omega⟩
    obtain ⟨N', rfl⟩ : ∃ n, fuel' = n + 1 := ⟨fuel' - 1, by omega⟩
    have hn := hT.1
    have hp : p < n := by omega
    by_cases hs : t p = 32
    · have hl : ¬ nI n ≤ nI p := fun z => by have := (nN_le (by omega) (by omega)).mp z; omega
      obtain ⟨b1, b2, b3⟩ := hT.2.2.2 p hp
      have hld : ldC σ 46 (nI p) = some 32 := by rw [ldC_n (by show p < 200; omega) (by omega), b2, hs]; rfl
      have hb := byteAt_eq hT (i := p) (by omega)
      rw [if_pos hp, hs] at hb
      obtain ⟨s, e, σ', μ', z1, z2, z3, z4, z5, z6, z7, z8⟩ := ih (p + 1) N N' σ (stF μ 24 (nI (p + 1))) (tape_cg hT rfl rfl (stF_ne (by decide)) rfl) (by omega) (by omega) (by omega) (stF_at _ _ _)
      refine ⟨s, e, σ', μ', by omega, z2, ?_, ?_, z5, z6, z7, fun k k1 k2 => (z8.1 k k1 k2).trans (stF_ne k1), z8.2⟩
      · show (if σ.1 41 ≤ nI p then _ else _) = _
        rw [hT.2.1, if_neg hl, hld, Option.bind_some, if_pos rfl, nI_1]
        exact z3
      · unfold m_token_L8
        rw [h4, hb, Option.bind_some, if_pos (show nI 32 = (32 : Int32) from rfl), Option.bind_some, nI_1]
        exact z4
    · obtain ⟨e, σ', μ', z⟩ := body_both hT (by omega : p ≤ n) h4 (fun _ => hs) N N'
      exact ⟨p, e, σ', μ', Nat.le_refl _, z⟩
theorem token_both {n : Nat} {t : Nat → Nat} {σ : SS} {μ : MS} {e : Nat} (hT : tape n t σ μ) (he : e ≤ n) (h1 : σ.1 43 = nI e) (h2 : μ.1 25 = nI e) : ∃ s e' σ' μ', e ≤ s ∧ tk n t s e' ∧ f0_next 1000 σ = some σ' ∧ m_token 1000 μ = some μ' ∧ (σ'.1 42 = nI s ∧ σ'.1 43 = nI e') ∧ (μ'.1 24 = nI s ∧ μ'.1 25 = nI e') ∧ tkC σ σ' ∧ tkM μ μ' := by
  have hn := hT.1
  obtain ⟨s, e', σ', μ', z1, z2, z3, z4, z5, z6, z7, z8⟩ := skip_both (n := n) (t := t) (n - e) e 1000 1000 σ (stF μ 24 (nI e)) (tape_cg hT rfl rfl (stF_ne (by decide)) rfl) (by omega) (by omega) (by omega) (stF_at _ _ _)
  refine ⟨s, e', σ', μ', z1, z2, ?_, ?_, z5, z6, z7, fun k k1 k2 => (z8.1 k k1 k2).trans (stF_ne k1), z8.2⟩
  · unfold f0_next
    rw [h1]
    exact z3
  · unfold m_token
    rw [Option.bind_some, h2]
    exact z4
