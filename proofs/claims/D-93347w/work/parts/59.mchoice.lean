/-! PLAIN LAW: the model's choice -/
set_option maxRecDepth 100000
theorem m_choice_L {T : Tw} {μ : MS} (hM : simM T (μ.2 0)) (hI : Inv T) {p pl : Nat} (hp : p < tP T) (hpl : pl ≤ 10) {x5 : Int32} (h5 : ¬ x5 = (2 : Int32)) (x6 : Int32) (N : Nat) : ∀ (r d fuel : Nat), d + r = tD T → r < fuel → m_choice_L169 N fuel μ (nI p) x5 x6 (nI pl) (nM (bestT T (may T p (nI (tY T) + x6) pl) d)) (nI d) = some (nM (bestT T (may T p (nI (tY T) + x6) pl) (tD T)), μ) := by
  have hd6 : tD T ≤ 10 := hI.1.2.1
  have hp6 : tP T ≤ 6 := hI.1.1
  intro r
  induction r with
  | zero =>
    intro d fuel h1 h2
    obtain ⟨n, rfl⟩ : ∃ n, fuel = n + 1 := ⟨fuel - 1, by omega⟩
    show (ldM μ 0 (5 : Int32)).bind _ = _
    rw [mF_deeds hM]
    simp only [Option.bind_some]
    rw [if_pos ((nN_le (by omega) (by omega)).mpr (by omega)), show d = tD T by omega]
  | succ r ih =>
    intro d fuel h1 h2
    obtain ⟨n, rfl⟩ : ∃ n, fuel = n + 1 := ⟨fuel - 1, by omega⟩
    have hw := hI.2.2.1 d (by omega)
    have hn := ih (d + 1) n (by omega) (by omega)
    have hb : bestT T (may T p (nI (tY T) + x6) pl) (d + 1) = if may T p (nI (tY T) + x6) pl d = true then (match bestT T (may T p (nI (tY T) + x6) pl) d with | none => some d | some c => if due T d < due T c then some d else some c) else bestT T (may T p (nI (tY T) + x6) pl) d := rfl
    show (ldM μ 0 (5 : Int32)).bind _ = _
    rw [mF_deeds hM]
    simp only [Option.bind_some]
    rw [if_neg (fun h => by have := (nN_le (by omega) (by omega)).mp h; omega), if_neg h5]
    have stay : may T p (nI (tY T) + x6) pl d = false → m_choice_B243 N (m_choice_L169 N n) μ (nI p) x5 x6 (nI pl) (nM (bestT T (may T p (nI (tY T) + x6) pl) d)) (nI d) false = some (nM (bestT T (may T p (nI (tY T) + x6) pl) (tD T)), μ) := by
      intro hf
      unfold m_choice_B243
      rw [if_neg (by decide), show nI d + 1 = nI (d + 1) from nI_1 d]
      rw [hb, hf] at hn
      exact hn
    rw [mD_whose hM (by omega), mD_so hM (by omega), mD_weight hM (by omega), m_due_eq hM hI (by omega), mF_year hM]
    simp only [Option.bind_some]
    by_cases h3 : tA T 3 d = p
    · rw [if_pos (by rw [h3])]
      by_cases h7 : tA T 7 d = 1
      · rw [if_pos (by rw [h7]; rfl)]
        by_cases h5w : tA T 5 d ≤ pl
        · rw [if_neg (fun h => by have := (nN_lt (by omega) (by omega)).mp h; omega)]
          by_cases hr : nI (due T d) ≤ nI (tY T) + x6
          · rw [if_neg (fun h => absurd hr (Int32.not_le.mpr h))]
            have hm : may T p (nI (tY T) + x6) pl d = true := decide_eq_true ⟨h3, h7, h5w, hr⟩
            rw [hb, hm] at hn
            unfold m_choice_B243
            rw [if_pos rfl, show nI d + 1 = nI (d + 1) from nI_1 d]
            cases hbd : bestT T (may T p (nI (tY T) + x6) pl) d with
            | none =>
              rw [hbd] at hn
              rw [if_pos (show nM none = (10 : Int32) from rfl)]
              exact hn
            | some c =>
              have hc := bestT_some hbd
              rw [hbd] at hn
              have hdc := due_le hI (d := c) (by omega)
              have hdd := due_le hI (d := d) (by omega)
              rw [if_neg (show ¬ nM (some c) = (10 : Int32) from fun h => by have := (nN_eq (a := c) (b := 10) (by omega) (by decide)).mp h; omega)]
              rw [m_due_eq hM hI (d := d) (by omega)]
              simp only [Option.bind_some]
              show (m_due μ (nI c)).bind _ = _
              rw [m_due_eq hM hI (d := c) (by omega)]
              simp only [Option.bind_some]
              by_cases hlt : due T d < due T c
              · rw [if_neg (fun h => by have := (nN_le (by omega) (by omega)).mp h; omega)]
                simp only [if_pos hlt] at hn
                exact hn
              · rw [if_pos ((nN_le (by omega) (by omega)).mpr (by omega))]
                simp only [if_neg hlt] at hn
                exact hn
          · rw [if_pos (Int32.not_le.mp hr)]
            exact stay (decide_eq_false (fun h => hr h.2.2.2))
        · rw [if_pos ((nN_lt (by omega) (by omega)).mpr (by omega))]
          exact stay (decide_eq_false (fun h => h5w h.2.2.1))
      · rw [if_neg (show ¬ nI (tA T 7 d) = (1 : Int32) from fun h => h7 ((nN_eq (b := 1) (by omega) (by decide)).mp h))]
        exact stay (decide_eq_false (fun h => h7 h.2.1))
    · rw [if_neg (fun h => h3 ((nN_eq (by omega) (by omega)).mp h))]
      exact stay (decide_eq_false (fun h => h3 h.1))
/-- a spare rule: nothing is undone -/
theorem m_choice_spare {T : Tw} {μ : MS} (hM : simM T (μ.2 0)) (hI : Inv T) {N : Nat} (hN : 1 ≤ N) (x1 x6 x7 : Int32) : m_choice_L169 N N μ x1 (2 : Int32) x6 x7 (10 : Int32) (0 : Int32) = some ((10 : Int32), μ) := by
  have hd6 : tD T ≤ 10 := hI.1.2.1
  obtain ⟨n, rfl⟩ : ∃ n, N = n + 1 := ⟨N - 1, by omega⟩
  show (ldM μ 0 (5 : Int32)).bind _ = _
  rw [mF_deeds hM]
  simp only [Option.bind_some]
  split
  · rfl
  · rw [if_pos trivial]
