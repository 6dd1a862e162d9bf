/-! PLAIN LAW: what a left hand undoes -/
set_option maxRecDepth 100000
def may (T : Tw) (p : Nat) (reach : Int32) (pl d : Nat) : Bool := decide (tA T 3 d = p ∧ tA T 7 d = 1 ∧ tA T 5 d ≤ pl ∧ nI (due T d) ≤ reach)
/-- the first of the least due, of those below a number that may be undone -/
def bestT (T : Tw) (ok : Nat → Bool) : Nat → Option Nat
  | 0 => none
  | d + 1 => if ok d = true then (match bestT T ok d with | none => some d | some c => if due T d < due T c then some d else some c) else bestT T ok d
def choiceT (T : Tw) (RS : Rls) (p : Nat) : Option Nat := bestT T (may T p (reachV T (found T p RS)) (pull (tA T 0 p) (tA T 2 p) (tY T))) (tD T)
theorem bestT_some {T : Tw} {ok : Nat → Bool} : ∀ {n c : Nat}, bestT T ok n = some c → c < n ∧ ok c = true := by
  intro n
  induction n with
  | zero => intro c h; cases h
  | succ n ih =>
    intro c h
    unfold bestT at h
    by_cases hn : ok n = true
    · rw [if_pos hn] at h
      cases hb : bestT T ok n with
      | none =>
        rw [hb] at h
        cases h
        exact ⟨by omega, hn⟩
      | some b =>
        rw [hb] at h
        have hi := ih hb
        dsimp only at h
        split at h
        · cases h; exact ⟨by omega, hn⟩
        · cases h; exact ⟨by omega, hi.2⟩
    · rw [if_neg hn] at h
      have hi := ih h
      exact ⟨by omega, hi.2⟩
/-- the component's none is -3, the model's 10 -/
def nC : Option Nat → Int32
  | none => -3
  | some d => nI d
def nM : Option Nat → Int32
  | none => 10
  | some d => nI d
theorem pull_le {k s y : Nat} (hs : s ≤ 9) : pull k s y ≤ 10 := by
  unfold pull
  repeat' split
  all_goals omega
theorem f_choice_L {T : Tw} {δ : DS} {σ : SS} (hC : simC T 0 σ) (hI : Inv T) (hH : hnd δ (σ.2.2.2 0) T) {p pl : Nat} (hp : p < tP T) (hpl : pl ≤ 10) (reach : Int32) (N : Nat) : ∀ (r d fuel : Nat), d + r = tD T → r < fuel → f0_choiceOf_L39 N δ fuel σ (nI p) reach (nI pl) (nC (bestT T (may T p reach pl) d)) (nI d) = some (nC (bestT T (may T p reach pl) (tD T)), σ) := by
  have hd6 : tD T ≤ 10 := hI.1.2.1
  have hp6 : tP T ≤ 6 := hI.1.1
  intro r
  induction r with
  | zero =>
    intro d fuel h1 h2
    obtain ⟨n, rfl⟩ : ∃ n, fuel = n + 1 := ⟨fuel - 1, by omega⟩
    show (if (σ.1 1) ≤ nI d then _ else _) = _
    rw [show σ.1 1 = nI (tD T) from hC.1.2.1, if_pos ((nN_le (by omega) (by omega)).mpr (by omega)), show d = tD T by omega]
  | succ r ih =>
    intro d fuel h1 h2
    obtain ⟨n, rfl⟩ : ∃ n, fuel = n + 1 := ⟨fuel - 1, by omega⟩
    have hw := hI.2.2.1 d (by omega)
    have hn := ih (d + 1) n (by omega) (by omega)
    have hb : bestT T (may T p reach pl) (d + 1) = if may T p reach pl d = true then (match bestT T (may T p reach pl) d with | none => some d | some c => if due T d < due T c then some d else some c) else bestT T (may T p reach pl) d := rfl
    show (if (σ.1 1) ≤ nI d then _ else _) = _
    rw [show σ.1 1 = nI (tD T) from hC.1.2.1, if_neg (fun h => by have := (nN_le (by omega) (by omega)).mp h; omega)]
    rw [show nI d + 1 = nI (d + 1) from nI_1 d]
    have stay : may T p reach pl d = false → f0_choiceOf_L39 N δ n σ (nI p) reach (nI pl) (nC (bestT T (may T p reach pl) d)) (nI (d + 1)) = some (nC (bestT T (may T p reach pl) (tD T)), σ) := by
      intro hf
      rw [hb, hf] at hn
      exact hn
    rw [cD_whose hC (by omega), cD_so hC (by omega), cD_weight hC (by omega), f_due_eq hC hI hH (by omega)]
    simp only [Option.bind_some]
    by_cases h3 : tA T 3 d = p
    · rw [if_pos (by rw [h3])]
      by_cases h7 : tA T 7 d = 1
      · rw [if_pos (by rw [h7]; rfl)]
        by_cases h5 : tA T 5 d ≤ pl
        · rw [if_neg (fun h => by have := (nN_lt (by omega) (by omega)).mp h; omega)]
          by_cases hr : nI (due T d) ≤ reach
          · rw [if_pos hr]
            have hm : may T p reach pl d = true := decide_eq_true ⟨h3, h7, h5, hr⟩
            rw [hb, hm] at hn
            cases hbd : bestT T (may T p reach pl) d with
            | none =>
              rw [hbd] at hn
              rw [if_pos (by decide)]
              exact hn
            | some c =>
              have hc := bestT_some hbd
              rw [hbd] at hn
              have hdc := due_le hI (d := c) (by omega)
              have hdd := due_le hI (d := d) (by omega)
              rw [if_neg (show ¬ nC (some c) < 0 from nN_neg (a := c) (by omega))]
              show (f0_dueOf δ σ (nI c)).bind _ = _
              rw [f_due_eq hC hI hH (d := c) (by omega)]
              simp only [Option.bind_some]
              by_cases hlt : due T d < due T c
              · rw [if_pos ((nN_lt (by omega) (by omega)).mpr hlt)]
                simp only [if_pos hlt] at hn
                exact hn
              · rw [if_neg (fun h => hlt ((nN_lt (by omega) (by omega)).mp h))]
                simp only [if_neg hlt] at hn
                exact hn
          · rw [if_neg hr]
            exact stay (decide_eq_false (fun h => hr h.2.2.2))
        · rw [if_pos ((nN_lt (by omega) (by omega)).mpr (by omega))]
          exact stay (decide_eq_false (fun h => h5 h.2.2.1))
      · rw [if_neg (show ¬ nI (tA T 7 d) = (1 : Int32) from fun h => h7 ((nN_eq (b := 1) (by omega) (by decide)).mp h))]
        exact stay (decide_eq_false (fun h => h7 h.2.1))
    · rw [if_neg (fun h => h3 ((nN_eq (by omega) (by omega)).mp h))]
      exact stay (decide_eq_false (fun h => h3 h.1))
/-- the component's choice -/
theorem f_choice_eq {T : Tw} {δ : DS} {σ : SS} {RS : Rls} (hC : simC T 0 σ) (hI : Inv T) (hH : hnd δ (σ.2.2.2 0) T) (hR : rulC δ (σ.2.2.1 0) RS) (hRI : rulI RS) {N p : Nat} (hN : 11 ≤ N) (hp : p < tP T) : ∃ σ', f0_choiceOf N δ σ (nI p) = some (nC (choiceT T RS p), σ') ∧ simC T 0 σ' ∧ frC σ σ' := by
  have hp6 : tP T ≤ 6 := hI.1.1
  have hd6 : tD T ≤ 10 := hI.1.2.1
  have hy : tY T ≤ 16 := Nat.le_trans hI.1.2.2.2.2.1 hI.1.2.2.2.1
  have hh := hI.2.1 p hp
  obtain ⟨σ', g1, g2, g3⟩ := f_reach_eq hC hI hR hRI hN hp
  refine ⟨σ', ?_, g2, g3⟩
  obtain ⟨q, hq, hq2⟩ := hH p hp
  have hH' : hnd δ (σ'.2.2.2 0) T := by rw [g3.1]; exact hH
  unfold f0_choiceOf
  rw [g1]
  simp only [Option.bind_some]
  rw [ldN_h (j := 0) (h := σ'.2.2.2 0) rfl (by show p < 6; omega) (by omega) (by rw [g3.1]; exact hq)]
  simp only [Option.bind_some]
  rw [cP_strength g2 (by omega)]
  simp only [Option.bind_some]
  rw [show σ'.1 3 = nI (tY T) from g2.1.2.2.2.1, hand_pull hh.1 hh.2.2.2 (by omega) hq2]
  simp only [Option.bind_some]
  exact f_choice_L g2 hI hH' hp (pull_le hh.2.2.2) _ N (tD T) 0 N (by omega) (by omega)
