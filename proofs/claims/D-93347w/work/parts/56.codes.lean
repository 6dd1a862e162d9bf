/-! PLAIN LAW: the model's conditions: codes that run on a stack -/
set_option maxRecDepth 100000
/-- the facts of somebody: the year, what stands, grace, strength, the number -/
def facts (T : Tw) (p : Nat) : Nat → Int32 := fun i => if i = 0 then nI (tY T) else if i = 1 then nI (stands T p) else if i = 2 then nI (tA T 1 p) else if i = 3 then nI (tA T 2 p) else nI p
def facM (c : Int32) (fv : Nat → Int32) : Int32 := if c = -5 then fv 4 else if c = -4 then fv 3 else if c = -3 then fv 2 else if c = -2 then fv 1 else if c = -1 then fv 0 else c
def hldB (c x y : Int32) : Bool := (m_isHolding c x y).getD false
theorem hld_some (c x y : Int32) : m_isHolding c x y = some (hldB c x y) := by
  unfold hldB m_isHolding
  repeat' split
  all_goals rfl
/-- a code on a stack -/
def stp (c : Int32) (fv : Nat → Int32) (s : (Nat → Int32) × Nat) : Option ((Nat → Int32) × Nat) :=
  if c ≤ -10 then (if c = -20 then (if s.2 = 0 then none else some (upd s.1 (s.2 - 1) (1 - s.1 (s.2 - 1)), s.2)) else (if s.2 ≤ 1 then none else some (upd s.1 (s.2 - 2) (if hldB c (s.1 (s.2 - 2)) (s.1 (s.2 - 1)) = true then 1 else 0), s.2 - 1)))
  else some (upd s.1 s.2 (facM c fv), s.2 + 1)
/-- so many codes from a place on -/
def rn (g : Nat → Int32) (fv : Nat → Int32) : Nat → Nat → (Nat → Int32) × Nat → Option ((Nat → Int32) × Nat)
  | 0, _, s => some s
  | r + 1, k, s => (stp (g k) fv s).bind (rn g fv r (k + 1))
theorem rn_add (g fv : Nat → Int32) (a b : Nat) : ∀ (k : Nat) (s : (Nat → Int32) × Nat), rn g fv (a + b) k s = (rn g fv a k s).bind (rn g fv b (k + a)) := by
  induction a with
  | zero => intro k s; rw [Nat.zero_add]; rfl
  | succ a ih =>
    intro k s
    rw [show a + 1 + b = (a + b) + 1 by omega]
    show (stp (g k) fv s).bind (rn g fv (a + b) (k + 1)) = ((stp (g k) fv s).bind (rn g fv a (k + 1))).bind (rn g fv b (k + (a + 1)))
    cases stp (g k) fv s with
    | none => rfl
    | some t =>
      simp only [Option.bind_some]
      rw [ih, show k + 1 + a = k + (a + 1) by omega]
/-- codes from a to b tell ev: they lay its answer on the stack -/
def tells (g : Nat → Int32) (a b : Nat) (ev : (Nat → Int32) → Int32) : Prop := a < b ∧ ∀ (fv : Nat → Int32) (s : (Nat → Int32) × Nat), ∃ t, rn g fv (b - a) a s = some t ∧ t.2 = s.2 + 1 ∧ t.1 s.2 = ev fv ∧ ∀ i, i < s.2 → t.1 i = s.1 i
theorem m_fact_eq {T : Tw} {μ : MS} (hM : simM T (μ.2 0)) (hI : Inv T) {N p : Nat} (hN : 11 ≤ N) (hp : p < tP T) (c : Int32) : m_fact N μ c (nI p) = some (facM c (facts T p)) := by
  have hp6 : tP T ≤ 6 := hI.1.1
  unfold m_fact facM
  rw [mP_strength hM (by omega), mP_grace hM (by omega), m_stands_eq hM hI hN (by omega), mF_year hM]
  simp only [Option.bind_some]
  repeat' split
  all_goals rfl
theorem setA_3 (μ : MS) (f : Nat → Int32) : (setA μ 3 f).2 3 = f := by
  unfold setA
  simp
theorem setA_30 (μ : MS) (f : Nat → Int32) : (setA μ 3 f).2 0 = μ.2 0 := by
  unfold setA
  simp
theorem frM_st (μ : MS) (f : Nat → Int32) : frM μ (setA μ 3 f) := by
  refine ⟨rfl, fun j _ h3 => ?_, fun i _ => by rw [setA_30]⟩
  unfold setA
  simp [h3]
theorem m_st3 {μ : MS} {i : Nat} (hi : i < 200) (x : Int32) : stM μ 3 (nI i) x = some (setA μ 3 (upd (μ.2 3) i x)) := stM_n (by show i < 200; exact hi) (by omega)
theorem m_ld3 {μ : MS} {i : Nat} (hi : i < 200) : ldM μ 3 (nI i) = some (μ.2 3 i) := ldM_n (by show i < 200; exact hi) (by omega)
/-- the model's loop runs the codes -/
theorem m_isSo_run {T : Tw} (hI : Inv T) {N p : Nat} (hN : 11 ≤ N) (hp : p < tP T) {b : Nat} (hb : b ≤ 200) {g : Nat → Int32} : ∀ (r : Nat) (μ : MS) (k deep fuel : Nat) (t : (Nat → Int32) × Nat), simM T (μ.2 0) → (∀ i, i < 200 → μ.2 0 (168 + i) = g i) → k + r = b → deep ≤ k → r < fuel → rn g (facts T p) r k (μ.2 3, deep) = some t → ∃ μ', m_isSo_L6 N fuel μ (nI b) (nI p) (nI deep) (nI k) = some (decide (t.2 = 0 ∨ t.1 0 = 1), μ') ∧ simM T (μ'.2 0) ∧ μ'.2 0 = μ.2 0 ∧ frM μ μ' := by
  intro r
  induction r with
  | zero =>
    intro μ k deep fuel t hM hg h1 hd h2 ht
    obtain ⟨n, rfl⟩ : ∃ n, fuel = n + 1 := ⟨fuel - 1, by omega⟩
    refine ⟨μ, ?_, hM, rfl, frM.rf μ⟩
    cases ht
    show (if nI b ≤ nI k then _ else _) = _
    rw [if_pos ((nN_le (by omega) (by omega)).mpr (by omega))]
    by_cases h0 : deep = 0
    · rw [if_pos (by rw [h0]; rfl), decide_eq_true (Or.inl h0)]
    · rw [if_neg (show ¬ nI deep = (0 : Int32) from fun h => h0 ((nN_eq (b := 0) (by omega) (by decide)).mp h))]
      rw [show (0 : Int32) = nI 0 from rfl, m_ld3 (by decide)]
      simp only [Option.bind_some]
      by_cases h1' : μ.2 3 0 = 1
      · rw [if_pos h1', decide_eq_true (Or.inr h1')]
      · rw [if_neg h1', decide_eq_false (by rintro (h | h) <;> contradiction)]
  | succ r ih =>
    intro μ k deep fuel t hM hg h1 hd h2 ht
    obtain ⟨n, rfl⟩ : ∃ n, fuel = n + 1 := ⟨fuel - 1, by omega⟩
    have e1 : nI k + 1 = nI (k + 1) := nI_1 k
    show ∃ μ', (if nI b ≤ nI k then _ else _) = some (_, μ') ∧ _
    rw [if_neg (fun h => by have := (nN_le (by omega) (by omega)).mp h; omega)]
    rw [show (168 : Int32) + nI k = nI (168 + k) from nN_add 168 k, ldM_n (by show 168 + k < 368; omega) (by omega), hg k (by omega)]
    simp only [Option.bind_some]
    have ht' : (stp (g k) (facts T p) (μ.2 3, deep)).bind (rn g (facts T p) r (k + 1)) = some t := ht
    unfold stp at ht'
    -- what goes on behind a code
    have next : ∀ (f : Nat → Int32) (dp : Nat), dp ≤ k + 1 → rn g (facts T p) r (k + 1) (f, dp) = some t → ∃ μ', m_isSo_L6 N n (setA μ 3 f) (nI b) (nI p) (nI dp) (nI k + 1) = some (decide (t.2 = 0 ∨ t.1 0 = 1), μ') ∧ simM T (μ'.2 0) ∧ μ'.2 0 = μ.2 0 ∧ frM μ μ' := by
      intro f dp hdp hr
      rw [e1]
      obtain ⟨μ', g1, g2, g3, g4⟩ := ih (setA μ 3 f) (k + 1) dp n t (by rw [setA_30]; exact hM) (by rw [setA_30]; exact hg) (by omega) hdp (by omega) (by rw [setA_3]; exact hr)
      exact ⟨μ', g1, g2, by rw [g3, setA_30], (frM_st μ f).tr g4⟩
    by_cases hc : g k ≤ -10
    · rw [if_pos hc] at ht' ⊢
      by_cases h20 : g k = -20
      · rw [if_pos h20] at ht' ⊢
        by_cases h0 : deep = 0
        · rw [if_pos h0] at ht'; cases ht'
        · rw [if_neg h0] at ht'
          rw [show nI deep - (1 : Int32) = nI (deep - 1) from nN_sub (a := deep) (b := 1) (by omega), m_ld3 (i := deep - 1) (by omega)]
          simp only [Option.bind_some]
          rw [m_st3 (i := deep - 1) (by omega)]
          simp only [Option.bind_some]
          exact next _ deep (by omega) ht'
      · rw [if_neg h20] at ht' ⊢
        by_cases h0 : deep ≤ 1
        · rw [if_pos h0] at ht'; cases ht'
        · rw [if_neg h0] at ht'
          have e2 : nI deep + (-1) = nI (deep - 1) := by
            rw [← Int32.sub_eq_add_neg]
            exact nN_sub (a := deep) (b := 1) (by omega)
          have e3 : nI (deep - 1) - (1 : Int32) = nI (deep - 2) := nN_sub (a := deep - 1) (b := 1) (by omega)
          rw [e2, e3, m_ld3 (i := deep - 2) (by omega)]
          simp only [Option.bind_some]
          rw [m_ld3 (i := deep - 1) (by omega)]
          simp only [Option.bind_some]
          rw [hld_some]
          simp only [Option.bind_some]
          rw [m_st3 (i := deep - 2) (by omega), m_st3 (i := deep - 2) (by omega)]
          simp only [Option.bind_some] at ht' ⊢
          by_cases hh : hldB (g k) (μ.2 3 (deep - 2)) (μ.2 3 (deep - 1)) = true
          · rw [if_pos hh] at ht' ⊢
            exact next _ (deep - 1) (by omega) ht'
          · rw [if_neg hh] at ht' ⊢
            exact next _ (deep - 1) (by omega) ht'
    · rw [if_neg hc] at ht' ⊢
      rw [m_fact_eq hM hI hN hp]
      simp only [Option.bind_some]
      rw [m_st3 (i := deep) (by omega)]
      simp only [Option.bind_some]
      rw [show nI deep + 1 = nI (deep + 1) from nI_1 deep]
      exact next _ (deep + 1) (by omega) ht'
