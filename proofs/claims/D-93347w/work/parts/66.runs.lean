/-! PLAIN LAW: the score has no say; years in both programs -/
set_option maxRecDepth 100000
theorem bestT_sc (T : Tw) (S : Int32) (ok : Nat → Bool) (n : Nat) : bestT (wI T 0 S) ok n = bestT T ok n := by
  induction n with
  | zero => rfl
  | succ n ih =>
    show (if ok n = true then (match bestT (wI T 0 S) ok n with | none => some n | some c => if due T n < due T c then some n else some c) else bestT (wI T 0 S) ok n) = (if ok n = true then (match bestT T ok n with | none => some n | some c => if due T n < due T c then some n else some c) else bestT T ok n)
    rw [ih]
theorem choiceT_sc (T : Tw) (S : Int32) (RS : Rls) (p : Nat) : choiceT (wI T 0 S) RS p = choiceT T RS p := bestT_sc T S _ _
theorem uS_sc (T : Tw) (S : Int32) (d v : Nat) : uS (wI T 0 S) d v = wI (uS T d v) 0 S := rfl
theorem fallS_sc (T : Tw) (S : Int32) (d : Nat) : fallS (wI T 0 S) d = wI (fallS T d) 0 S := by
  show (if falls T d = true then uS (wI T 0 S) d 3 else wI T 0 S) = wI (if falls T d = true then uS T d 3 else T) 0 S
  split
  · rfl
  · rfl
theorem fallF_sc (T : Tw) (S : Int32) (a r : Nat) : fallF (wI T 0 S) a r = wI (fallF T a r) 0 S := by
  induction r with
  | zero => rfl
  | succ r ih =>
    show fallS (fallF (wI T 0 S) a r) (a + r) = wI (fallS (fallF T a r) (a + r)) 0 S
    rw [ih, fallS_sc]
theorem undoT_sc (T : Tw) (S : Int32) (d : Nat) : undoT (wI T 0 S) d = wI (undoT T d) 0 S := by
  show fallF (uS (wI T 0 S) d 2) 0 (tD T) = wI (fallF (uS T d 2) 0 (tD T)) 0 S
  rw [uS_sc, fallF_sc]
theorem rhS_sc (T : Tw) (S : Int32) (d : Nat) : rhS (wI T 0 S) d = wI (rhS T d) 0 S := by
  show (if tA T 4 d = tY T ∧ tA T 7 d = 0 then uS (wI T 0 S) d (rhV T d) else wI T 0 S) = wI (if tA T 4 d = tY T ∧ tA T 7 d = 0 then uS T d (rhV T d) else T) 0 S
  split
  · rfl
  · rfl
theorem rhF_sc (T : Tw) (S : Int32) (a r : Nat) : rhF (wI T 0 S) a r = wI (rhF T a r) 0 S := by
  induction r with
  | zero => rfl
  | succ r ih =>
    show rhS (rhF (wI T 0 S) a r) (a + r) = wI (rhS (rhF T a r) (a + r)) 0 S
    rw [ih, rhS_sc]
theorem stepP_sc (T : Tw) (S : Int32) (RS : Rls) (h p : Nat) : stepP (wI T 0 S) RS h p = wI (stepP T RS h p) 0 S := by
  unfold stepP
  rw [choiceT_sc]
  split
  · rfl
  · cases choiceT T RS p with
    | none => rfl
    | some d => exact undoT_sc T S d
theorem handsF_sc (T : Tw) (S : Int32) (RS : Rls) (h r : Nat) : handsF (wI T 0 S) RS h r = wI (handsF T RS h r) 0 S := by
  induction r with
  | zero => rfl
  | succ r ih =>
    show stepP (handsF (wI T 0 S) RS h r) RS h r = wI (stepP (handsF T RS h r) RS h r) 0 S
    rw [ih, stepP_sc]
theorem handed_sc (T : Tw) (S : Int32) (RS : Rls) (h : Nat) : handed (wI T 0 S) RS h = wI (handed T RS h) 0 S := by
  show handsF (rhF (wI T 0 S) 0 (tD T)) RS h (tP T) = wI (handsF (rhF T 0 (tD T)) RS h (tP T)) 0 S
  rw [rhF_sc, handsF_sc]
theorem passW_sc (T : Tw) (S : Int32) (RS : Rls) (h : Nat) : passW (wI T 0 S) RS h = passW T RS h := by
  unfold passW
  rw [handed_sc]
  rfl
theorem passT_sc (T : Tw) (S : Int32) (RS : Rls) (h : Nat) : passT (wI T 0 S) RS h = wI (passT T RS h) 0 S := by
  unfold passT
  rw [handed_sc]
  rfl
theorem wI_wI (T : Tw) (k : Nat) (x y : Int32) : wI (wI T k x) k y = wI T k y := by
  unfold wI
  dsimp only
  refine congrArg (fun f => (T.1, T.2.1, T.2.2.1, f)) (funext fun j => ?_)
  split <;> rfl
theorem goneT_sc (T : Tw) (S : Int32) (RS : Rls) (h : Nat) : goneT (wI T 0 S) RS h = wI (passT T RS h) 0 (S + nI (passW T RS h)) := by
  unfold goneT
  rw [passT_sc, passW_sc, wI_wI]
  rfl
theorem passW_le {T : Tw} (hI : Inv T) (RS : Rls) (h : Nat) : passW T RS h ≤ 90 := worth_le (Inv_handed hI RS h).1
theorem pass_ali {T : Tw} (hI : Inv T) (RS : Rls) (h : Nat) : tP (passT T RS h) = tP T ∧ tD (passT T RS h) = tD T ∧ tE (passT T RS h) = tE T ∧ tY (passT T RS h) = tY T + 1 ∧ (∀ j, j ≠ 7 → tA (passT T RS h) j = tA T j) ∧ tN (passT T RS h) = tN T := by
  obtain ⟨g1, g2⟩ := Inv_handed hI RS h
  obtain ⟨e1, e2, e3, e4, e5, e6, e7, e8⟩ := g2.nums
  refine ⟨e1, e2, e3, ?_, fun j hj => g2.2.1 j hj, e6⟩
  show (if 3 = 3 then tY T + 1 else (handed T RS h).1 3) = _
  rfl
theorem hnd_cg {δ : DS} {hf : Nat → Option Nat} {T U : Tw} (h1 : tP U = tP T) (h2 : tA U 0 = tA T 0) (h3 : tA U 1 = tA T 1) (hH : hnd δ hf T) : hnd δ hf U := by
  intro p hp
  rw [h1] at hp
  rw [h2, h3]
  exact hH p hp
/-- a year of both, in a trial -/
theorem cor_pass {T : Tw} {S : Int32} {RS : Rls} {δ : DS} {σ : SS} {μ : MS} (h : cor T S RS δ σ μ) (hy : tY T < tE T) {N a : Nat} (hN : 201 ≤ N) (ha : a ≤ 7) : ∃ σ' μ', f0_passes N δ σ (nI a - (1 : Int32)) = some (nI (passW T RS a), σ') ∧ m_goes N μ (nI a) = some (nI (passW T RS a), μ') ∧ cor (passT T RS a) (S + nI (passW T RS a)) RS δ σ' μ' ∧ frC σ σ' ∧ frM μ μ' := by
  obtain ⟨⟨hC, hM⟩, ⟨hI, hRI⟩, ⟨hH, hR⟩, hRM⟩ := h
  obtain ⟨σ', g1, g2, g3⟩ := f_passes_eq hC hI hH hR hRI (N := N) (h := a) (by omega) ha
  obtain ⟨μ', q1, q2, q3⟩ := m_goes_eq hM (T := wI T 0 S) hI hRM hRI hN ha
  rw [passW_sc] at q1
  rw [goneT_sc] at q2
  obtain ⟨e1, e2, e3, e4, e5, e6⟩ := pass_ali hI RS a
  exact ⟨σ', μ', g1, q1, ⟨⟨g2, q2⟩, ⟨Inv_pass hI hy RS a, hRI⟩, ⟨by rw [g3.1]; exact hnd_cg e1 (e5 0 (by decide)) (e5 1 (by decide)) hH, by rw [g3.1]; exact hR⟩, frM_rul q3.2.2 hRM⟩, g3, q3⟩
theorem cor_over {T : Tw} {S : Int32} {RS : Rls} {δ : DS} {σ : SS} {μ : MS} (h : cor T S RS δ σ μ) : f3_isOver σ 0 = some (decide (tE T ≤ tY T)) ∧ m_isOver μ = some (decide (tE T ≤ tY T)) := by
  obtain ⟨⟨hC, hM⟩, ⟨hI, hRI⟩, -⟩ := h
  have hy : tY T ≤ 16 := Nat.le_trans hI.1.2.2.2.2.1 hI.1.2.2.2.1
  have he := hI.1.2.2.2.1
  constructor
  · unfold f3_isOver
    rw [show σ.1 (7 * 0 + 3) = nI (tY T) from hC.1.2.2.2.1, show σ.1 (7 * 0 + 2) = nI (tE T) from hC.1.2.2.1]
    by_cases hl : tY T < tE T
    · rw [if_pos ((nN_lt (by omega) (by omega)).mpr hl), decide_eq_false (by omega)]
    · rw [if_neg (fun q => hl ((nN_lt (by omega) (by omega)).mp q)), decide_eq_true (by omega)]
  · unfold m_isOver
    rw [mF_year hM, mF_end hM]
    simp only [Option.bind_some]
    show (if nI (tY T) < nI (tE T) then _ else _) = _
    by_cases hl : tY T < tE T
    · rw [if_pos ((nN_lt (by omega) (by omega)).mpr hl), decide_eq_false (by omega)]
    · rw [if_neg (fun q => hl ((nN_lt (by omega) (by omega)).mp q)), decide_eq_true (by omega)]
/-- so many years, fewer if it is over -/
def runT (RS : Rls) : Nat → Tw → Tw
  | 0, T => T
  | k + 1, T => if tE T ≤ tY T then T else runT RS k (passT T RS 0)
def runW (RS : Rls) : Nat → Tw → Nat
  | 0, T => 0
  | k + 1, T => if tE T ≤ tY T then 0 else passW T RS 0 + runW RS k (passT T RS 0)
theorem runW_le {RS : Rls} : ∀ (k : Nat) {T : Tw}, Inv T → runW RS k T ≤ 90 * k := by
  intro k
  induction k with
  | zero => intro T hI; exact Nat.le_refl _
  | succ k ih =>
    intro T hI
    show (if tE T ≤ tY T then 0 else passW T RS 0 + runW RS k (passT T RS 0)) ≤ _
    split
    · omega
    · have h1 := passW_le hI RS 0
      have h2 := ih (Inv_pass hI (by omega) RS 0)
      omega
theorem neg1 : (-1 : Int32) = nI 0 - (1 : Int32) := by decide
theorem nN_add_assoc (a : Int32) (b c : Nat) : a + nI b + nI c = a + nI (b + c) := by
  rw [Int32.add_assoc, nN_add]
/-- years of both -/
theorem runs_both {RS : Rls} {δ : DS} {N : Nat} (hN : 201 ≤ N) {n : Nat} (hn : n < 2 ^ 31) : ∀ (r k w fuel : Nat) (T : Tw) (S : Int32) (σ : SS) (μ : MS), cor T S RS δ σ μ → k + r = n → r < fuel → ∃ S' σ' μ', f0_runs_L4 N δ fuel σ (nI n) (nI w) (nI k) = some (nI (w + runW RS r T), σ') ∧ m_rest_L4 N fuel μ (nI n) (nI w) (nI k) = some (nI (w + runW RS r T), μ') ∧ cor (runT RS r T) S' RS δ σ' μ' ∧ frC σ σ' ∧ frM μ μ' := by
  intro r
  induction r with
  | zero =>
    intro k w fuel T S σ μ h h1 h2
    obtain ⟨m, rfl⟩ : ∃ m, fuel = m + 1 := ⟨fuel - 1, by omega⟩
    refine ⟨S, σ, μ, ?_, ?_, h, frC.rf σ, frM.rf μ⟩
    · show (if nI n ≤ nI k then _ else _) = _
      rw [if_pos ((nN_le hn (by omega)).mpr (by omega))]
      rfl
    · show (if nI n ≤ nI k then _ else _) = _
      rw [if_pos ((nN_le hn (by omega)).mpr (by omega))]
      rfl
  | succ r ih =>
    intro k w fuel T S σ μ h h1 h2
    obtain ⟨m, rfl⟩ : ∃ m, fuel = m + 1 := ⟨fuel - 1, by omega⟩
    obtain ⟨o1, o2⟩ := cor_over h
    have hT : runT RS (r + 1) T = if tE T ≤ tY T then T else runT RS r (passT T RS 0) := rfl
    have hW : runW RS (r + 1) T = if tE T ≤ tY T then 0 else passW T RS 0 + runW RS r (passT T RS 0) := rfl
    rw [hT, hW]
    have hk : ¬ nI n ≤ nI k := fun q => by have := (nN_le hn (by omega)).mp q; omega
    by_cases ho : tE T ≤ tY T
    · rw [if_pos ho, if_pos ho]
      refine ⟨S, σ, μ, ?_, ?_, h, frC.rf σ, frM.rf μ⟩
      · show (if nI n ≤ nI k then _ else _) = _
        rw [if_neg hk, o1, decide_eq_true ho]
        rfl
      · show (if nI n ≤ nI k then _ else _) = _
        rw [if_neg hk, o2, decide_eq_true ho]
        rfl
    · rw [if_neg ho, if_neg ho]
      obtain ⟨σ1, μ1, g1, g2, g3, g4, g5⟩ := cor_pass h (by omega) hN (a := 0) (by omega)
      obtain ⟨S', σ', μ', q1, q2, q3, q4, q5⟩ := ih (k + 1) (w + passW T RS 0) m _ _ σ1 μ1 g3 (by omega) (by omega)
      refine ⟨S', σ', μ', ?_, ?_, q3, g4.tr q4, g5.tr q5⟩
      · show (if nI n ≤ nI k then _ else _) = _
        rw [if_neg hk, o1, decide_eq_false ho]
        simp only [Option.bind_some, Bool.false_eq_true, if_false]
        rw [neg1, g1]
        simp only [Option.bind_some]
        rw [nN_add, nI_1, q1, Nat.add_assoc]
      · show (if nI n ≤ nI k then _ else _) = _
        rw [if_neg hk, o2, decide_eq_false ho]
        simp only [Option.bind_some, Bool.false_eq_true, if_false]
        rw [show (0 : Int32) = nI 0 from rfl, g2]
        simp only [Option.bind_some]
        rw [nN_add, nI_1, q2, Nat.add_assoc]
