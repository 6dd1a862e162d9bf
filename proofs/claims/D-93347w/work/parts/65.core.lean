/-! PLAIN LAW: both programs' towns together; a trial and its taking back -/
set_option maxRecDepth 100000
theorem simC_cg {T : Tw} {t u : Nat} {σ σ' : SS} (h : simC T t σ) (h1 : ∀ k, k < 7 → σ'.1 (7 * u + k) = σ.1 (7 * t + k)) (h2 : ∀ j, j < 13 → ∀ n, n < lenT j → σ'.2.1 (13 * u + j) n = σ.2.1 (13 * t + j) n) : simC T u σ' := by
  obtain ⟨⟨a0, a1, a2, a3, a4, a5, a6⟩, b, c, o, r⟩ := h
  refine ⟨⟨?_, ?_, ?_, ?_, ?_, ?_, ?_⟩, fun p hp => ?_, fun d hd => ?_, fun k hk => ?_, fun k hk => ?_⟩
  · rw [h1 0 (by decide)]; exact a0
  · rw [h1 1 (by decide)]; exact a1
  · rw [h1 2 (by decide)]; exact a2
  · rw [h1 3 (by decide)]; exact a3
  · rw [h1 4 (by decide)]; exact a4
  · rw [h1 5 (by decide)]; exact a5
  · rw [h1 6 (by decide)]; exact a6
  · rw [h2 0 (by decide) p hp, h2 1 (by decide) p hp, h2 2 (by decide) p hp]; exact b p hp
  · rw [h2 3 (by decide) d hd, h2 4 (by decide) d hd, h2 5 (by decide) d hd, h2 6 (by decide) d hd, h2 7 (by decide) d hd]; exact c d hd
  · rw [h2 8 (by decide) k hk]; exact o k hk
  · rw [h2 9 (by decide) k hk, h2 10 (by decide) k hk, h2 11 (by decide) k hk, h2 12 (by decide) k hk]; exact r k hk
theorem simM_cg {T : Tw} {f g : Nat → Int32} (h : simM T f) (e : ∀ i, i < 136 → i ≠ 1 → g i = f i) : simM T g := by
  obtain ⟨⟨a0, a1, a2, a3, a4, a5, a6⟩, b, c, o, r⟩ := h
  refine ⟨⟨?_, ?_, ?_, ?_, ?_, ?_, ?_⟩, fun p hp => ?_, fun d hd => ?_, fun k hk => ?_, fun k hk => ?_⟩
  · rw [e _ (by decide) (by decide)]; exact a0
  · rw [e _ (by decide) (by decide)]; exact a1
  · rw [e _ (by decide) (by decide)]; exact a2
  · rw [e _ (by decide) (by decide)]; exact a3
  · rw [e _ (by decide) (by decide)]; exact a4
  · rw [e _ (by decide) (by decide)]; exact a5
  · rw [e _ (by decide) (by decide)]; exact a6
  · rw [e _ (by omega) (by omega), e _ (by omega) (by omega), e _ (by omega) (by omega)]; exact b p hp
  · rw [e _ (by omega) (by omega), e _ (by omega) (by omega), e _ (by omega) (by omega), e _ (by omega) (by omega), e _ (by omega) (by omega)]; exact c d hd
  · rw [e _ (by omega) (by omega)]; exact o k hk
  · rw [e _ (by omega) (by omega), e _ (by omega) (by omega), e _ (by omega) (by omega), e _ (by omega) (by omega)]; exact r k hk
theorem rn_cg {g g' : Nat → Int32} (fv : Nat → Int32) : ∀ (r k : Nat) (s : (Nat → Int32) × Nat), (∀ i, k ≤ i → i < k + r → g' i = g i) → rn g' fv r k s = rn g fv r k s := by
  intro r
  induction r with
  | zero => intro k s h; rfl
  | succ r ih =>
    intro k s h
    show (stp (g' k) fv s).bind (rn g' fv r (k + 1)) = (stp (g k) fv s).bind (rn g fv r (k + 1))
    rw [h k (Nat.le_refl k) (by omega)]
    cases stp (g k) fv s with
    | none => simp only [Option.bind_none]
    | some t =>
      simp only [Option.bind_some]
      exact ih (k + 1) t (fun i h1 h2 => h i (by omega) (by omega))
theorem tells_cg {g g' : Nat → Int32} {a b : Nat} {ev : (Nat → Int32) → Int32} (h : tells g a b ev) (e : ∀ i, a ≤ i → i < b → g' i = g i) : tells g' a b ev := by
  refine ⟨h.1, fun fv s => ?_⟩
  have hab := h.1
  rw [rn_cg fv (b - a) a s (fun i h1 h2 => e i h1 (by omega))]
  exact h.2 fv s
theorem rulM_cg {f g : Nat → Int32} {RS : Rls} (hR : rulM f RS) (hRI : rulI RS) (e : ∀ i, i < 368 → (i = 1 ∨ 136 ≤ i) → g i = f i) : rulM g RS := by
  obtain ⟨h1, en, h2, h3⟩ := hR
  refine ⟨by rw [e 1 (by decide) (Or.inl rfl)]; exact h1, en, h2, fun k x hx => ?_⟩
  obtain ⟨⟨a, b, c, d⟩, g1, g2⟩ := h3 k x hx
  have hk : k < 8 := by
    have := hRI.1
    have h4 := (List.getElem?_eq_some_iff.mp hx).1
    omega
  refine ⟨⟨?_, ?_, ?_, ?_⟩, g1, ?_⟩
  · rw [e _ (by omega) (by omega)]; exact a
  · rw [e _ (by omega) (by omega)]; exact b
  · rw [e _ (by omega) (by omega)]; exact c
  · rw [e _ (by omega) (by omega)]; exact d
  · rcases g2 with g2 | g2
    · exact Or.inl g2
    · exact Or.inr (tells_cg g2 (fun i h4 h5 => e _ (by omega) (by omega)))
/-- both towns, the model's score apart -/
def cor (T : Tw) (S : Int32) (RS : Rls) (δ : DS) (σ : SS) (μ : MS) : Prop := (simC T 0 σ ∧ simM (wI T 0 S) (μ.2 0)) ∧ (Inv T ∧ rulI RS) ∧ (hnd δ (σ.2.2.2 0) T ∧ rulC δ (σ.2.2.1 0) RS) ∧ rulM (μ.2 0) RS
/-- what no trial touches: the component's kept town, tape, rows, host; what the saved town is -/
def FC (σ σ' : SS) : Prop := (∀ k, (7 ≤ k ∧ k < 14) ∨ k = 36 ∨ k = 41 ∨ k = 58 ∨ k = 70 → σ'.1 k = σ.1 k) ∧ (∀ j, (13 ≤ j ∧ j < 26) ∨ j = 41 ∨ (44 ≤ j ∧ j ≤ 46) → σ'.2.1 j = σ.2.1 j) ∧ (∀ k, 1 ≤ k → k ≠ 2 → σ'.2.2.1 k = σ.2.2.1 k) ∧ σ'.2.2.2 1 = σ.2.2.2 1
def F2 (σ σ' : SS) : Prop := (∀ k, 14 ≤ k ∧ k < 21 → σ'.1 k = σ.1 k) ∧ (∀ j, 26 ≤ j ∧ j < 39 → σ'.2.1 j = σ.2.1 j) ∧ σ'.2.2.1 2 = σ.2.2.1 2
def FM (μ μ' : MS) : Prop := (∀ k, k = 3 ∨ k = 21 ∨ k = 23 ∨ k = 37 → μ'.1 k = μ.1 k) ∧ (∀ j, j = 1 ∨ 9 ≤ j → μ'.2 j = μ.2 j)
theorem FC.rf (σ : SS) : FC σ σ := ⟨fun _ _ => rfl, fun _ _ => rfl, fun _ _ _ => rfl, rfl⟩
theorem FC.tr {a b c : SS} (h : FC a b) (g : FC b c) : FC a c := ⟨fun k hk => (g.1 k hk).trans (h.1 k hk), fun k hk => (g.2.1 k hk).trans (h.2.1 k hk), fun k h1 h2 => (g.2.2.1 k h1 h2).trans (h.2.2.1 k h1 h2), g.2.2.2.trans h.2.2.2⟩
theorem F2.rf (σ : SS) : F2 σ σ := ⟨fun _ _ => rfl, fun _ _ => rfl, rfl⟩
theorem F2.tr {a b c : SS} (h : F2 a b) (g : F2 b c) : F2 a c := ⟨fun k hk => (g.1 k hk).trans (h.1 k hk), fun k hk => (g.2.1 k hk).trans (h.2.1 k hk), g.2.2.trans h.2.2⟩
theorem FM.rf (μ : MS) : FM μ μ := ⟨fun _ _ => rfl, fun _ _ => rfl⟩
theorem FM.tr {a b c : MS} (h : FM a b) (g : FM b c) : FM a c := ⟨fun k hk => (g.1 k hk).trans (h.1 k hk), fun k hk => (g.2 k hk).trans (h.2 k hk)⟩
theorem frC.FC {σ σ' : SS} (h : frC σ σ') : FC σ σ' := ⟨fun k hk => h.2.2 k (by omega), fun j hj => h.2.1 j (by omega) (by omega), fun k _ _ => by rw [h.1], by rw [h.1]⟩
theorem frC.F2 {σ σ' : SS} (h : frC σ σ') : F2 σ σ' := ⟨fun k hk => h.2.2 k (by omega), fun j hj => h.2.1 j (by omega) (by omega), by rw [h.1]⟩
theorem frM.FM {μ μ' : MS} (h : frM μ μ') : FM μ μ' := ⟨fun k _ => by rw [h.1], fun j hj => h.2.1 j (by omega) (by omega)⟩
/-- the trial begins -/
theorem trial_C {T : Tw} {σ : SS} (hC : simC T 0 σ) : ∃ σ1, f3_become σ 2 0 = some σ1 ∧ simC T 0 σ1 ∧ simC T 2 σ1 ∧ σ1.2.2.1 0 = σ.2.2.1 0 ∧ σ1.2.2.1 2 = σ.2.2.1 0 ∧ σ1.2.2.2 = σ.2.2.2 ∧ FC σ σ1 := by
  obtain ⟨σ1, h1, h2, h3, h4, h5, h6, h7, h8⟩ := become_eq σ (t0 := 2) (t1 := 0) (by decide) (by decide) (by decide)
  refine ⟨σ1, h1, ?_, ?_, h7 0 (by decide), h6 trivial, h8, ⟨fun k hk => h3 k (by omega), fun j hj => h5 j (by omega), fun k _ h => h7 k h, by rw [h8]⟩⟩
  · exact simC_cg hC (fun k hk => h3 _ (by omega)) (fun j hj n hn => by rw [h5 _ (by omega)])
  · exact simC_cg hC h2 h4
/-- it ends: the town is as it was -/
theorem trial_B {T : Tw} {σ1 σ2 : SS} (hC : simC T 2 σ1) (h : F2 σ1 σ2) : ∃ σ3, f3_become σ2 0 2 = some σ3 ∧ simC T 0 σ3 ∧ simC T 2 σ3 ∧ σ3.2.2.1 0 = σ1.2.2.1 2 ∧ σ3.2.2.1 2 = σ1.2.2.1 2 ∧ σ3.2.2.2 = σ2.2.2.2 ∧ FC σ2 σ3 ∧ F2 σ2 σ3 := by
  obtain ⟨σ3, h1, h2, h3, h4, h5, h6, h7, h8⟩ := become_eq σ2 (t0 := 0) (t1 := 2) (by decide) (by decide) (by decide)
  have hC2 : simC T 2 σ2 := simC_cg hC (fun k hk => h.1 _ (by omega)) (fun j hj n hn => by rw [h.2.1 _ (by omega)])
  refine ⟨σ3, h1, simC_cg hC2 h2 h4, ?_, by rw [h6 trivial, h.2.2], by rw [h7 2 (by decide), h.2.2], h8, ⟨fun k hk => h3 k (by omega), fun j hj => h5 j (by omega), fun k h1 h2 => h7 k (by omega), by rw [h8]⟩, ⟨fun k hk => h3 k (by omega), fun j hj => h5 j (by omega), h7 2 (by decide)⟩⟩
  exact simC_cg hC2 (fun k hk => h3 _ (by omega)) (fun j hj n hn => by rw [h5 _ (by omega)])
theorem setA_at (μ : MS) (j : Nat) (f : Nat → Int32) : (setA μ j f).2 j = f := by
  unfold setA
  simp
theorem setA_o (μ : MS) (j : Nat) (f : Nat → Int32) {k : Nat} (h : k ≠ j) : (setA μ j f).2 k = μ.2 k := by
  unfold setA
  simp [h]
theorem ldM_0 {μ : MS} {j i : Nat} (h : i < lenM j) (hi : i < 2 ^ 31) : ldM μ j (nI i) = some (μ.2 j i) := ldM_n h hi
/-- one copies the whole row -/
theorem m_puts_L {N : Nat} : ∀ (r i fuel : Nat) (μ : MS), i + r = 368 → r < fuel → (∀ k, k < i → μ.2 2 k = μ.2 0 k) → ∃ μ', m_puts_L2 N fuel μ (nI i) = some μ' ∧ μ'.1 = μ.1 ∧ (∀ j, j ≠ 2 → μ'.2 j = μ.2 j) ∧ ∀ k, k < 368 → μ'.2 2 k = μ.2 0 k := by
  intro r
  induction r with
  | zero =>
    intro i fuel μ h1 h2 h
    obtain ⟨n, rfl⟩ : ∃ n, fuel = n + 1 := ⟨fuel - 1, by omega⟩
    refine ⟨μ, ?_, rfl, fun _ _ => rfl, fun k hk => h k (by omega)⟩
    show (if nI 368 ≤ nI i then _ else _) = _
    rw [if_pos ((nN_le (by omega) (by omega)).mpr (by omega))]
  | succ r ih =>
    intro i fuel μ h1 h2 h
    obtain ⟨n, rfl⟩ : ∃ n, fuel = n + 1 := ⟨fuel - 1, by omega⟩
    obtain ⟨μ', g1, g2, g3, g4⟩ := ih (i + 1) n (setA μ 2 (upd (μ.2 2) i (μ.2 0 i))) (by omega) (by omega) (fun k hk => by
      rw [setA_at, setA_o _ _ _ (by decide)]
      unfold upd
      split
      · next e => rw [e]
      · exact h k (by omega))
    refine ⟨μ', ?_, g2, fun j hj => by rw [g3 j hj, setA_o _ _ _ hj], fun k hk => by rw [g4 k hk, setA_o _ _ _ (by decide)]⟩
    show (if nI 368 ≤ nI i then _ else _) = _
    rw [if_neg (fun q => by have := (nN_le (by omega) (by omega)).mp q; omega), ldM_n (by show i < 368; omega) (by omega)]
    simp only [Option.bind_some]
    rw [stM_n (by show i < 368; omega) (by omega)]
    simp only [Option.bind_some]
    rw [nI_1]
    exact g1
theorem m_back_L {N : Nat} : ∀ (r i fuel : Nat) (μ : MS), i + r = 368 → r < fuel → (∀ k, k < i → μ.2 0 k = μ.2 2 k) → ∃ μ', m_putsBack_L2 N fuel μ (nI i) = some μ' ∧ μ'.1 = μ.1 ∧ (∀ j, j ≠ 0 → μ'.2 j = μ.2 j) ∧ ∀ k, k < 368 → μ'.2 0 k = μ.2 2 k := by
  intro r
  induction r with
  | zero =>
    intro i fuel μ h1 h2 h
    obtain ⟨n, rfl⟩ : ∃ n, fuel = n + 1 := ⟨fuel - 1, by omega⟩
    refine ⟨μ, ?_, rfl, fun _ _ => rfl, fun k hk => h k (by omega)⟩
    show (if nI 368 ≤ nI i then _ else _) = _
    rw [if_pos ((nN_le (by omega) (by omega)).mpr (by omega))]
  | succ r ih =>
    intro i fuel μ h1 h2 h
    obtain ⟨n, rfl⟩ : ∃ n, fuel = n + 1 := ⟨fuel - 1, by omega⟩
    obtain ⟨μ', g1, g2, g3, g4⟩ := ih (i + 1) n (setA μ 0 (upd (μ.2 0) i (μ.2 2 i))) (by omega) (by omega) (fun k hk => by
      rw [setA_at, setA_o _ _ _ (by decide)]
      unfold upd
      split
      · next e => rw [e]
      · exact h k (by omega))
    refine ⟨μ', ?_, g2, fun j hj => by rw [g3 j hj, setA_o _ _ _ hj], fun k hk => by rw [g4 k hk, setA_o _ _ _ (by decide)]⟩
    show (if nI 368 ≤ nI i then _ else _) = _
    rw [if_neg (fun q => by have := (nN_le (by omega) (by omega)).mp q; omega), ldM_n (by show i < 368; omega) (by omega)]
    simp only [Option.bind_some]
    rw [stM_n (by show i < 368; omega) (by omega)]
    simp only [Option.bind_some]
    rw [nI_1]
    exact g1
/-- the model's row is as it was put -/
def put2 (f : Nat → Int32) (μ : MS) : Prop := ∀ k, k < 368 → μ.2 2 k = f k
theorem m_puts_eq (μ : MS) {N : Nat} (hN : 369 ≤ N) : ∃ μ1, m_puts N μ = some μ1 ∧ μ1.2 0 = μ.2 0 ∧ put2 (μ.2 0) μ1 ∧ FM μ μ1 := by
  obtain ⟨μ', g1, g2, g3, g4⟩ := m_puts_L (N := N) 368 0 N μ (by omega) (by omega) (fun k hk => absurd hk (by omega))
  exact ⟨μ', g1, g3 0 (by decide), g4, ⟨fun k _ => by rw [g2], fun j hj => g3 j (by omega)⟩⟩
theorem m_back_eq {μ : MS} {f : Nat → Int32} (h : put2 f μ) {N : Nat} (hN : 369 ≤ N) : ∃ μ1, m_putsBack N μ = some μ1 ∧ (∀ i, i < 368 → μ1.2 0 i = f i) ∧ put2 f μ1 ∧ FM μ μ1 := by
  obtain ⟨μ', g1, g2, g3, g4⟩ := m_back_L (N := N) 368 0 N μ (by omega) (by omega) (fun k hk => absurd hk (by omega))
  exact ⟨μ', g1, fun i hi => by rw [g4 i hi, h i hi], fun k hk => by rw [g3 2 (by decide)]; exact h k hk, ⟨fun k _ => by rw [g2], fun j hj => g3 j (by omega)⟩⟩
