/-! PLAIN LAW: best, ith, ways, life, bars -/
set_option maxRecDepth 100000
def s00 : PSt := (-1, 0, 0, fun _ => 0)
/-- how many years yet -/
def yrs (T : Tw) (n : Nat) : Nat := min n (tE T - tY T)
def bestP (T : Tw) (RS : Rls) (n : Nat) : PSt := trv RS leafP (yrs T n) 0 T (fun _ => 0) 0 s00
def bestL (T : Tw) (RS : Rls) (W : Int32) (n : Nat) : Int32 × Int32 := trv RS (leafL W) (yrs T n) 0 T (fun _ => 0) 0 (5, 0)
theorem yearsOf_eq {T : Tw} {S : Int32} {μ : MS} (hM : simM (wI T 0 S) (μ.2 0)) (hI : Inv T) {n : Nat} (hn : n ≤ 4) : m_yearsOf μ (nI n) = some (nI (yrs T n)) := by
  have hy := hI.1.2.2.2.2.1
  have he := hI.1.2.2.2.1
  unfold m_yearsOf yrs
  rw [show ldM μ 0 (2 : Int32) = some (nI (tE T)) from mF_end (T := wI T 0 S) hM, show ldM μ 0 (3 : Int32) = some (nI (tY T)) from mF_year (T := wI T 0 S) hM, Option.bind_some, Option.bind_some, nN_sub hy]
  by_cases hl : tE T - tY T ≤ n
  · rw [if_pos ((nN_le (by omega) (by omega)).mpr hl), if_pos (by rw [← Int32.not_lt]; exact nN_neg (by omega)), Nat.min_eq_right hl]
  · rw [if_neg (fun q => hl ((nN_le (by omega) (by omega)).mp q)), Nat.min_eq_left (by omega)]
theorem plansOf_M {T : Tw} {S : Int32} {RS : Rls} {μ : MS} (h : corM T S RS μ) {n : Nat} (hn : n ≤ 4) (W : Int32) : ∃ μ', m_plansOf 1000 μ (nI n) W = some (nI (yrs T n), μ') ∧ corM T S RS μ' ∧ psM (bestP T RS n) μ' ∧ lsM W (bestL T RS W n) μ' ∧ GM 0 μ μ' := by
  have hy : yrs T n ≤ n := Nat.min_le_left _ _
  obtain ⟨μ', g1, g2, g3, g4, g5⟩ := plans_M (RS := RS) (W := W) (yrs T n) 0 (yrs T n) 6 0 T S (fun _ => 0) s00 (5, 0) (stF (stF (stF (stF (stF μ 10 (-1 : Int32)) 11 (0 : Int32)) 12 (5 : Int32)) 13 (0 : Int32)) 14 W) h (Nat.min_le_right _ _) (by omega) (by omega) (by omega) ⟨rfl, rfl, Nat.zero_le _, fun i hi => absurd hi (Nat.not_lt_zero i)⟩ ⟨rfl, rfl, rfl⟩ (fun i hi => absurd hi (by omega))
  have gm : GM 0 μ μ' := ((((((gmF μ 10 (-1 : Int32) (by decide)).tr (gmF _ 11 (0 : Int32) (by decide))).tr (gmF _ 12 (5 : Int32) (by decide))).tr (gmF _ 13 (0 : Int32) (by decide))).tr (gmF _ 14 W (by decide)))).tr g5
  refine ⟨μ', ?_, ⟨g2, h.2.1, frM_rul gm.2.2.2 h.2.2⟩, g3, g4, gm⟩
  unfold m_plansOf
  rw [Option.bind_some, Option.bind_some, Option.bind_some, Option.bind_some, Option.bind_some, show m_yearsOf (stF (stF (stF (stF (stF μ 10 (-1 : Int32)) 11 (0 : Int32)) 12 (5 : Int32)) 13 (0 : Int32)) 14 W) (nI n) = some (nI (yrs T n)) from yearsOf_eq (T := T) (S := S) h.1 h.2.1.1 hn, Option.bind_some, show m_plans 1000 6 (stF (stF (stF (stF (stF μ 10 (-1 : Int32)) 11 (0 : Int32)) 12 (5 : Int32)) 13 (0 : Int32)) 14 W) (0 : Int32) (nI (yrs T n)) (0 : Int32) = some μ' from g1]
  rfl
theorem findPlans_C {T : Tw} {RS : Rls} {δ : DS} {σ : SS} (h : corC T RS δ σ) {n : Nat} (hn : n ≤ 4) : ∃ σ', f0_findPlans 1000 δ σ (nI n) = some σ' ∧ corC T RS δ σ' ∧ psC (bestP T RS n) σ' ∧ GP 0 σ σ' := by
  have hy : yrs T n ≤ n := Nat.min_le_left _ _
  have c0 : corC T RS δ (sI (sI (sI σ 49 (-1 : Int32)) 50 (0 : Int32)) 51 (0 : Int32)) := ⟨simC_own (simC_own (simC_own h.1 (by decide) _) (by decide) _) (by decide) _, h.2⟩
  obtain ⟨σ', g1, g2, g3, g4⟩ := plans_C (RS := RS) (δ := δ) (yrs T n) 0 n 6 0 T (fun _ => 0) s00 _ c0 rfl (by omega) hn (by omega) ⟨rfl, rfl, rfl, Nat.zero_le _, fun i hi => absurd hi (Nat.not_lt_zero i)⟩ (fun i hi => absurd hi (by omega))
  have gp : GP 0 σ σ' := (((gpI σ 49 (-1 : Int32) (by decide)).tr (gpI _ 50 (0 : Int32) (by decide))).tr (gpI _ 51 (0 : Int32) (by decide))).tr g4
  refine ⟨σ', ?_, corC_GP h gp g2, g3, gp⟩
  unfold f0_findPlans
  rw [Option.bind_some, Option.bind_some, Option.bind_some, show f0_plansFrom 1000 δ 6 (sI (sI (sI σ 49 (-1 : Int32)) 50 (0 : Int32)) 51 (0 : Int32)) (nI n) (0 : Int32) (0 : Int32) = some σ' from g1]
  rfl
theorem findLives_C {T : Tw} {RS : Rls} {δ : DS} {σ : SS} (h : corC T RS δ σ) {n : Nat} (hn : n ≤ 4) (W : Int32) : ∃ σ', f0_findLives 1000 δ σ (nI n) W = some σ' ∧ corC T RS δ σ' ∧ lsC W (bestL T RS W n) σ' ∧ GP 0 σ σ' := by
  have hy : yrs T n ≤ n := Nat.min_le_left _ _
  have c0 : corC T RS δ (sI (sI (sI σ 52 W) 53 (5 : Int32)) 54 (0 : Int32)) := ⟨simC_own (simC_own (simC_own h.1 (by decide) _) (by decide) _) (by decide) _, h.2⟩
  obtain ⟨σ', g1, g2, g3, g4⟩ := lives_C (RS := RS) (δ := δ) (W := W) (yrs T n) 0 n 6 0 T (fun _ => 0) (5, 0) _ c0 rfl (by omega) hn (by omega) ⟨rfl, rfl, rfl⟩
  have gp : GP 0 σ σ' := (((gpI σ 52 W (by decide)).tr (gpI _ 53 (5 : Int32) (by decide))).tr (gpI _ 54 (0 : Int32) (by decide))).tr g4
  refine ⟨σ', ?_, corC_GP h gp g2, g3, gp⟩
  unfold f0_findLives
  rw [Option.bind_some, Option.bind_some, Option.bind_some, show f0_livesFrom 1000 δ 6 (sI (sI (sI σ 52 W) 53 (5 : Int32)) 54 (0 : Int32)) (nI n) (0 : Int32) (0 : Int32) = some σ' from g1]
  rfl
theorem cor_CM {T : Tw} {RS : Rls} {δ : DS} {σ : SS} {μ : MS} {S : Int32} (h1 : corC T RS δ σ) (h2 : corM T S RS μ) : cor T S RS δ σ μ := ⟨⟨h1.1, h2.1⟩, h1.2.1, h1.2.2, h2.2.2⟩
theorem long_both (a : Int32) : (∃ n : Nat, n ≤ 4 ∧ a = nI n ∧ f0_isIn a 0 4 = some true ∧ m_isLong a = some true) ∨ (f0_isIn a 0 4 = some false ∧ m_isLong a = some false) := by
  unfold m_isLong
  rcases in_0_4 a with ⟨n, -, h2, rfl, e1, e2⟩ | ⟨e1, e2⟩
  · exact Or.inl ⟨n, h2, rfl, e1, by rw [e2]; rfl⟩
  · exact Or.inr ⟨e1, by rw [e2]; rfl⟩
/-- how long the best plan is, whom it holds -/
def psI (R P : Nat) (s : PSt) : Prop := s.2.2.1 = R ∧ ∀ i, i < R → s.2.2.2 i ≤ P
theorem fo_inv {α : Type} {f : Nat → α → α} {A B : α → Prop} (hAB : ∀ s, B s → A s) : ∀ n, (∀ a s, a < n + 1 → A s → B (f a s)) → ∀ s, A s → B (fo f (n + 1) s) := by
  intro n
  induction n with
  | zero => intro h s hs; exact h 0 s (by omega) hs
  | succ n ih =>
    intro h s hs
    exact h (n + 1) _ (by omega) (hAB _ (ih (fun a s ha => h a s (by omega)) s hs))
theorem trv_inv {RS : Rls} {R P : Nat} (hR : R ≤ 4) : ∀ (r k w : Nat) (T : Tw) (ln : Nat → Nat) (s : PSt), Inv T → tP T = P → r ≤ tE T - tY T → k + r = R → w ≤ 90 * k → (∀ i, i < k → ln i ≤ P) → (s.1 = -1 ∨ psI R P s) → psI R P (trv RS leafP r k T ln w s) := by
  intro r
  induction r with
  | zero =>
    intro k w T ln s hI hP hr hk hw hl hs
    have hkR : k = R := by omega
    subst hkR
    show psI k P (if nI w ≤ s.1 then (if nI w = s.1 then (s.1, s.2.1 + 1, s.2.2) else s) else (nI w, 1, k, ln))
    by_cases h1 : nI w ≤ s.1
    · have hs' : psI k P s := by
        rcases hs with h | h
        · exfalso
          rw [h, Int32.le_iff_toInt_le, nI_toInt (by omega)] at h1
          have : (-1 : Int32).toInt = -1 := by decide
          rw [this] at h1
          omega
        · exact h
      rw [if_pos h1]
      by_cases h2 : nI w = s.1
      · rw [if_pos h2]; exact hs'
      · rw [if_neg h2]; exact hs'
    · rw [if_neg h1]
      exact ⟨rfl, hl⟩
  | succ r ih =>
    intro k w T ln s hI hP hr hk hw hl hs
    show psI R P (fo (fun a s => trv RS leafP r (k + 1) (passT T RS a) (uN ln k a) (w + passW T RS a) s) (tP T + 1) s)
    refine fo_inv (A := fun s => s.1 = -1 ∨ psI R P s) (B := psI R P) (fun s h => Or.inr h) (tP T) (fun a s' ha hs' => ?_) s hs
    obtain ⟨e1, e2, e3, e4, e5, e6⟩ := pass_ali hI RS a
    have hp := passW_le hI RS a
    refine ih (k + 1) _ _ _ s' (Inv_pass hI (by omega) RS a) (by rw [e1]; exact hP) (by rw [e3, e4]; omega) (by omega) (by omega) (fun i hi => ?_) hs'
    show (if i = k then a else ln i) ≤ P
    by_cases e : i = k
    · rw [if_pos e]; omega
    · rw [if_neg e]; exact hl i (by omega)
theorem bestP_inv {T : Tw} (hI : Inv T) (RS : Rls) {n : Nat} (hn : n ≤ 4) : psI (yrs T n) (tP T) (bestP T RS n) := by
  have hy : yrs T n ≤ n := Nat.min_le_left _ _
  exact trv_inv (by omega) (yrs T n) 0 0 T _ s00 hI rfl (Nat.min_le_right _ _) (by omega) (by omega) (fun i hi => absurd hi (by omega)) (Or.inl rfl)
theorem pl_25 (a b c d : Int32) (σ : SS) (δ : DS) (μ : MS) (H : Rel σ δ μ) : pLaw Rel 25 a b c d σ δ μ := by
  obtain ⟨T, RS, h⟩ := H.1
  rcases long_both a with ⟨n, hn, rfl, e1, e2⟩ | ⟨e1, e2⟩
  · obtain ⟨σ1, g1, g2, g3, g4⟩ := findPlans_C h.C hn
    obtain ⟨μ1, q1, q2, q3, q4, q5⟩ := plansOf_M h.Mo hn 0
    refine pl_0 (r := (bestP T RS n).1) (σ' := σ1) (μ' := μ1) ?_ ?_ (Rel_cor H g4.FC q5.FM (cor_CM g2 q2))
    · rw [cc25]
      unfold f0_best
      rw [e1, Option.bind_some, if_pos rfl, g1, Option.bind_some, g3.1]
      rfl
    · rw [mc25]
      unfold m_best
      rw [e2, Option.bind_some, if_pos rfl, q1, Option.bind_some]
      show some (μ1.1 10, μ1) = _
      rw [q3.1]
  · exact pl_0 (r := -1) (σ' := σ) (μ' := μ) (by rw [cc25]; unfold f0_best; rw [e1]; rfl) (by rw [mc25]; unfold m_best; rw [e2]; rfl) H
theorem pl_27 (a b c d : Int32) (σ : SS) (δ : DS) (μ : MS) (H : Rel σ δ μ) : pLaw Rel 27 a b c d σ δ μ := by
  obtain ⟨T, RS, h⟩ := H.1
  rcases long_both a with ⟨n, hn, rfl, e1, e2⟩ | ⟨e1, e2⟩
  · obtain ⟨σ1, g1, g2, g3, g4⟩ := findPlans_C h.C hn
    obtain ⟨μ1, q1, q2, q3, q4, q5⟩ := plansOf_M h.Mo hn 0
    refine pl_0 (r := (bestP T RS n).2.1) (σ' := σ1) (μ' := μ1) ?_ ?_ (Rel_cor H g4.FC q5.FM (cor_CM g2 q2))
    · rw [cc27]
      unfold f0_ways
      rw [e1, Option.bind_some, if_pos rfl, g1, Option.bind_some, g3.2.1]
      rfl
    · rw [mc27]
      unfold m_ways
      rw [e2, Option.bind_some, if_pos rfl, q1, Option.bind_some]
      show some (μ1.1 11, μ1) = _
      rw [q3.2.1]
  · exact pl_0 (r := -1) (σ' := σ) (μ' := μ) (by rw [cc27]; unfold f0_ways; rw [e1]; rfl) (by rw [mc27]; unfold m_ways; rw [e2]; rfl) H
theorem pl_26 (a b c d : Int32) (σ : SS) (δ : DS) (μ : MS) (H : Rel σ δ μ) : pLaw Rel 26 a b c d σ δ μ := by
  obtain ⟨T, RS, h⟩ := H.1
  rcases long_both a with ⟨n, hn, rfl, e1, e2⟩ | ⟨e1, e2⟩
  · rcases in_0_3 b with ⟨i, -, hi, rfl, e3, e4⟩ | ⟨e3, e4⟩
    · obtain ⟨σ1, g1, g2, g3, g4⟩ := findPlans_C h.C hn
      obtain ⟨μ1, q1, q2, q3, q4, q5⟩ := plansOf_M h.Mo hn 0
      have hinv := bestP_inv h.2.1.1 RS hn
      have hR : Rel σ1 δ μ1 := Rel_cor H g4.FC q5.FM (cor_CM g2 q2)
      have hy : yrs T n ≤ n := Nat.min_le_left _ _
      have p51 : σ1.1 51 = nI (yrs T n) := by rw [g3.2.2.1, hinv.1]
      by_cases hl : yrs T n ≤ i
      · have hl' : nI (yrs T n) ≤ nI i := (nN_le (by omega) (by omega)).mpr hl
        refine pl_0 (r := -3) (σ' := σ1) (μ' := μ1) ?_ ?_ hR
        · rw [cc26]
          unfold f0_ith
          rw [e1, Option.bind_some, if_pos rfl, e3, Option.bind_some, if_pos rfl, g1, Option.bind_some, p51, if_pos hl']
          rfl
        · rw [mc26]
          unfold m_ith
          rw [e2, Option.bind_some, if_pos rfl, e4, Option.bind_some, if_pos rfl, q1, Option.bind_some]
          dsimp only
          rw [if_pos hl']
      · have hl' : ¬ nI (yrs T n) ≤ nI i := fun q => hl ((nN_le (by omega) (by omega)).mp q)
        refine pl_0 (r := nI ((bestP T RS n).2.2.2 i)) (σ' := σ1) (μ' := μ1) ?_ ?_ hR
        · rw [cc26]
          unfold f0_ith
          rw [e1, Option.bind_some, if_pos rfl, e3, Option.bind_some, if_pos rfl, g1, Option.bind_some, p51, if_neg hl', ldC_n (by show i < 4; omega) (by omega), g3.2.2.2.2 i (by rw [hinv.1]; omega)]
          rfl
        · rw [mc26]
          unfold m_ith
          rw [e2, Option.bind_some, if_pos rfl, e4, Option.bind_some, if_pos rfl, q1, Option.bind_some]
          dsimp only
          rw [if_neg hl', ldM_n (by show i < 4; omega) (by omega), q3.2.2.2 i (by rw [hinv.1]; omega)]
          rfl
    · exact pl_0 (r := -1) (σ' := σ) (μ' := μ) (by rw [cc26]; unfold f0_ith; rw [e1, Option.bind_some, if_pos rfl, e3]; rfl) (by rw [mc26]; unfold m_ith; rw [e2, Option.bind_some, if_pos rfl, e4]; rfl) H
  · exact pl_0 (r := -1) (σ' := σ) (μ' := μ) (by rw [cc26]; unfold f0_ith; rw [e1]; rfl) (by rw [mc26]; unfold m_ith; rw [e2]; rfl) H
theorem shl_1 : ∀ d : Fin 11, ((1 : Int32) <<< (nI d.val &&& 31)) - (1 : Int32) = nI (2 ^ d.val - 1) := by decide
theorem asked_both {T : Tw} {σ : SS} {μ : MS} (hC : simC T 0 σ) (hM : simM T (μ.2 0)) (hI : Inv T) (a b : Int32) : (∃ n m : Nat, n ≤ 4 ∧ m ≤ 1023 ∧ a = nI n ∧ b = nI m ∧ f0_isAsked σ a b = some true ∧ m_isLong a = some true ∧ m_areDeeds μ b = some true) ∨ (f0_isAsked σ a b = some false ∧ (m_isLong a = some false ∨ (m_isLong a = some true ∧ m_areDeeds μ b = some false))) := by
  have hd : tD T ≤ 10 := hI.1.2.1
  have e := shl_1 ⟨tD T, by omega⟩
  have hp : 2 ^ tD T - 1 ≤ 1023 := by
    have : 2 ^ tD T ≤ 2 ^ 10 := Nat.pow_le_pow_right (by decide) hd
    omega
  unfold f0_isAsked m_areDeeds
  rw [show σ.1 1 = nI (tD T) from hC.1.2.1, mF_deeds hM, Option.bind_some, e]
  rcases long_both a with ⟨n, hn, rfl, e1, e2⟩ | ⟨e1, e2⟩
  · rcases in_both b 0 (2 ^ tD T - 1) (by decide) (by omega) with ⟨m, -, hm, rfl, e3, e4⟩ | ⟨e3, e4⟩
    · left
      refine ⟨n, m, hn, by omega, rfl, rfl, ?_, e2, ?_⟩
      · rw [e1, Option.bind_some, if_pos rfl, show f0_isIn (nI m) (0 : Int32) (nI (2 ^ tD T - 1)) = some true from e3]; rfl
      · rw [show m_in (nI m).toInt64 (0 : Int64) (nI (2 ^ tD T - 1)).toInt64 = some true from e4]; rfl
    · right
      refine ⟨?_, Or.inr ⟨e2, ?_⟩⟩
      · rw [e1, Option.bind_some, if_pos rfl, show f0_isIn b (0 : Int32) (nI (2 ^ tD T - 1)) = some false from e3]; rfl
      · rw [show m_in b.toInt64 (0 : Int64) (nI (2 ^ tD T - 1)).toInt64 = some false from e4]; rfl
  · right
    exact ⟨by rw [e1]; rfl, Or.inl e2⟩
theorem pl_28 (a b c d : Int32) (σ : SS) (δ : DS) (μ : MS) (H : Rel σ δ μ) : pLaw Rel 28 a b c d σ δ μ := by
  obtain ⟨T, RS, h⟩ := H.1
  rcases asked_both h.1.1 h.M h.2.1.1 a b with ⟨n, m, hn, hm, rfl, rfl, e1, e2, e3⟩ | ⟨e1, e2⟩
  · obtain ⟨σ1, g1, g2, g3, g4⟩ := findLives_C h.C hn (nI m)
    obtain ⟨μ1, q1, q2, q3, q4, q5⟩ := plansOf_M h.Mo hn (nI m)
    refine pl_0 (r := if (bestL T RS (nI m) n).1 ≤ (4 : Int32) then (bestL T RS (nI m) n).1 else -3) (σ' := σ1) (μ' := μ1) ?_ ?_ (Rel_cor H g4.FC q5.FM (cor_CM g2 q2))
    · rw [cc28]
      unfold f0_life
      rw [e1, Option.bind_some, if_pos rfl, g1, Option.bind_some, g3.2.1]
      by_cases hl : (bestL T RS (nI m) n).1 ≤ (4 : Int32)
      · rw [if_pos hl, if_neg (by rw [Int32.not_lt]; exact hl)]; rfl
      · rw [if_neg hl, if_pos (by rw [← Int32.not_le]; exact hl)]; rfl
    · rw [mc28]
      unfold m_life
      rw [e2, Option.bind_some, if_pos rfl, e3, Option.bind_some, if_pos rfl, q1, Option.bind_some]
      show (if μ1.1 12 ≤ (4 : Int32) then some (μ1.1 12, μ1) else some ((-3 : Int32), μ1)) = _
      rw [q4.2.1]
      split <;> rfl
  · refine pl_0 (r := -1) (σ' := σ) (μ' := μ) (by rw [cc28]; unfold f0_life; rw [e1]; rfl) ?_ H
    rw [mc28]
    unfold m_life
    rcases e2 with e2 | ⟨e2, e3⟩
    · rw [e2]; rfl
    · rw [e2, Option.bind_some, if_pos rfl, e3]; rfl
/-- the first bit of a set, as the model looks for it -/
def lowB (x : Int32) : Nat → Nat → Int32
  | 0, _ => -3
  | n + 1, d => if (x >>> (nI d &&& 31)) = 0 then lowB x n (d + 1) else (if ((x >>> (nI d &&& 31)) &&& (1 : Int32)) = (1 : Int32) then nI d else lowB x n (d + 1))
theorem m_bars_L {μ : MS} {x2 x : Int32} (hx : x2 &&& (μ.1 13 ^^^ (-1 : Int32)) = x) : ∀ (r d fuel : Nat), d + r = 10 → r < fuel → m_bars_L27 1000 fuel μ x2 (nI d) = some (lowB x r d, μ) := by
  intro r
  induction r with
  | zero =>
    intro d fuel h1 h2
    obtain ⟨n, rfl⟩ : ∃ n, fuel = n + 1 := ⟨fuel - 1, by omega⟩
    show (if nI 10 ≤ nI d then _ else _) = _
    rw [if_pos ((nN_le (by omega) (by omega)).mpr (by omega))]
    rfl
  | succ r ih =>
    intro d fuel h1 h2
    obtain ⟨n, rfl⟩ : ∃ n, fuel = n + 1 := ⟨fuel - 1, by omega⟩
    show (if nI 10 ≤ nI d then _ else _) = _
    rw [if_neg (fun q => by have := (nN_le (by omega) (by omega)).mp q; omega), hx, nI_1, ih (d + 1) n (by omega) (by omega)]
    show _ = some ((if (x >>> (nI d &&& 31)) = 0 then lowB x r (d + 1) else (if ((x >>> (nI d &&& 31)) &&& (1 : Int32)) = (1 : Int32) then nI d else lowB x r (d + 1))), μ)
    split
    · rfl
    · split <;> rfl
theorem ntz_tbl : (List.range 1024).all (fun j => decide ((if nI j = 0 then some (-3 : Int32) else fJ8_numberOfTrailingZeros (nI j)) = some (lowB (nI j) 10 0))) = true := by decide +kernel
theorem and_num {m : Nat} (hm : m ≤ 1023) (y : Int32) : ∃ j, j < 1024 ∧ nI m &&& y = nI j := by
  refine ⟨m &&& y.toBitVec.toNat, ?_, ?_⟩
  · have := Nat.and_le_left (n := m) (m := y.toBitVec.toNat)
    omega
  · apply Int32.toBitVec_inj.mp
    apply BitVec.eq_of_toNat_eq
    have hl := Nat.and_le_left (n := m) (m := y.toBitVec.toNat)
    show ((nI m).toBitVec &&& y.toBitVec).toNat = (BitVec.ofNat 32 (m &&& y.toBitVec.toNat)).toNat
    rw [BitVec.toNat_and, BitVec.toNat_ofNat, Nat.mod_eq_of_lt (by omega)]
    show (BitVec.ofNat 32 m).toNat &&& _ = _
    rw [BitVec.toNat_ofNat, Nat.mod_eq_of_lt (by omega)]
theorem pl_29 (a b c d : Int32) (σ : SS) (δ : DS) (μ : MS) (H : Rel σ δ μ) : pLaw Rel 29 a b c d σ δ μ := by
  obtain ⟨T, RS, h⟩ := H.1
  rcases asked_both h.1.1 h.M h.2.1.1 a b with ⟨n, m, hn, hm, rfl, rfl, e1, e2, e3⟩ | ⟨e1, e2⟩
  · obtain ⟨σ1, g1, g2, g3, g4⟩ := findLives_C h.C hn (nI m)
    obtain ⟨μ1, q1, q2, q3, q4, q5⟩ := plansOf_M h.Mo hn (nI m)
    obtain ⟨j, hj, ej⟩ := and_num hm ((bestL T RS (nI m) n).2 ^^^ (-1 : Int32))
    have ht := of_decide_eq_true (List.all_eq_true.mp ntz_tbl j (List.mem_range.mpr hj))
    have hM := m_bars_L (μ := μ1) (x2 := nI m) (x := nI j) (by rw [q4.2.2]; exact ej) 10 0 1000 (by decide) (by decide)
    refine pl_0 (r := lowB (nI j) 10 0) (σ' := σ1) (μ' := μ1) ?_ ?_ (Rel_cor H g4.FC q5.FM (cor_CM g2 q2))
    · rw [cc29]
      unfold f0_bars
      rw [e1, Option.bind_some, if_pos rfl, g1, Option.bind_some, g3.2.2, ej]
      by_cases hz : nI j = 0
      · rw [if_pos hz] at ht ⊢
        injection ht with ht
        rw [← ht]
        rfl
      · rw [if_neg hz] at ht ⊢
        rw [ht]
        rfl
    · rw [mc29]
      unfold m_bars
      rw [e2, Option.bind_some, if_pos rfl, e3, Option.bind_some, if_pos rfl, q1, Option.bind_some]
      exact hM
  · refine pl_0 (r := -1) (σ' := σ) (μ' := μ) (by rw [cc29]; unfold f0_bars; rw [e1]; rfl) ?_ H
    rw [mc29]
    unfold m_bars
    rcases e2 with e2 | ⟨e2, e3⟩
    · rw [e2]; rfl
    · rw [e2, Option.bind_some, if_pos rfl, e3]; rfl
