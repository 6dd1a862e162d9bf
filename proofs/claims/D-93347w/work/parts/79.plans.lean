/-! PLAIN LAW: all plans: the component's walk through them -/
set_option maxRecDepth 100000
theorem n0 {n : Nat} (h : n < 2 ^ 31) : (nI n = 0) ↔ n = 0 := nN_eq (b := 0) h (by decide)
def fo {α : Type} (f : Nat → α → α) : Nat → α → α
  | 0, s => s
  | n + 1, s => f n (fo f n s)
/-- through all plans of so many years: at each end a leaf -/
def trv {α : Type} (RS : Rls) (lf : Nat → Tw → (Nat → Nat) → Nat → α → α) : Nat → Nat → Tw → (Nat → Nat) → Nat → α → α
  | 0, k, T, ln, w, s => lf k T ln w s
  | r + 1, k, T, ln, w, s => fo (fun a s => trv RS lf r (k + 1) (passT T RS a) (uN ln k a) (w + passW T RS a) s) (tP T + 1) s
/-- most, how many ways, how long, the plan -/
abbrev PSt : Type := Int32 × Int32 × Nat × (Nat → Nat)
def leafP (k : Nat) (T : Tw) (ln : Nat → Nat) (w : Nat) (s : PSt) : PSt := if nI w ≤ s.1 then (if nI w = s.1 then (s.1, s.2.1 + 1, s.2.2) else s) else (nI w, 1, k, ln)
def actsN (ln : Nat → Nat) (k : Nat) : Nat := sN (fun i => if ln i = 0 then 0 else 1) k
/-- fewest acts, what stood -/
def leafL (W : Int32) (k : Nat) (T : Tw) (ln : Nat → Nat) (w : Nat) (s : Int32 × Int32) : Int32 × Int32 := (if W &&& (setS T (1 : Int32) (tD T) ^^^ (-1 : Int32)) = 0 then (if nI (actsN ln k) < s.1 then nI (actsN ln k) else s.1) else s.1, s.2 ||| setS T (1 : Int32) (tD T))
/-- the component's town -/
def corC (T : Tw) (RS : Rls) (δ : DS) (σ : SS) : Prop := simC T 0 σ ∧ (Inv T ∧ rulI RS) ∧ hnd δ (σ.2.2.2 0) T ∧ rulC δ (σ.2.2.1 0) RS
def corM (T : Tw) (S : Int32) (RS : Rls) (μ : MS) : Prop := simM (wI T 0 S) (μ.2 0) ∧ (Inv T ∧ rulI RS) ∧ rulM (μ.2 0) RS
theorem cor.C {T : Tw} {S : Int32} {RS : Rls} {δ : DS} {σ : SS} {μ : MS} (h : cor T S RS δ σ μ) : corC T RS δ σ := ⟨h.1.1, h.2.1, h.2.2.1⟩
theorem cor.Mo {T : Tw} {S : Int32} {RS : Rls} {δ : DS} {σ : SS} {μ : MS} (h : cor T S RS δ σ μ) : corM T S RS μ := ⟨h.1.2, h.2.1, h.2.2.2⟩
/-- what a walk through plans leaves as it was -/
def GP (k : Nat) (σ σ' : SS) : Prop := (σ'.2.2 = σ.2.2 ∧ ∀ i, i ≠ 3 → ¬ (49 ≤ i ∧ i ≤ 54) → σ'.1 i = σ.1 i) ∧ (∀ j, j ≠ 7 → j ≠ 39 → j ≠ 40 → j ≠ 42 → j ≠ 43 → σ'.2.1 j = σ.2.1 j) ∧ (∀ i, i < 10 * k → σ'.2.1 40 i = σ.2.1 40 i) ∧ ∀ i, i < k → σ'.2.1 42 i = σ.2.1 42 i
theorem GP.rf (k : Nat) (σ : SS) : GP k σ σ := ⟨⟨rfl, fun _ _ _ => rfl⟩, fun _ _ _ _ _ _ => rfl, fun _ _ => rfl, fun _ _ => rfl⟩
theorem GP.tr {k : Nat} {a b c : SS} (h : GP k a b) (g : GP k b c) : GP k a c := ⟨⟨g.1.1.trans h.1.1, fun i h1 h2 => (g.1.2 i h1 h2).trans (h.1.2 i h1 h2)⟩, fun j h1 h2 h3 h4 h5 => (g.2.1 j h1 h2 h3 h4 h5).trans (h.2.1 j h1 h2 h3 h4 h5), fun i hi => (g.2.2.1 i hi).trans (h.2.2.1 i hi), fun i hi => (g.2.2.2 i hi).trans (h.2.2.2 i hi)⟩
theorem GP.le {k l : Nat} {a b : SS} (h : GP l a b) (hk : k ≤ l) : GP k a b := ⟨h.1, h.2.1, fun i hi => h.2.2.1 i (by omega), fun i hi => h.2.2.2 i (by omega)⟩
theorem GP.FC {k : Nat} {σ σ' : SS} (h : GP k σ σ') : FC σ σ' := ⟨fun i hi => h.1.2 i (by omega) (by omega), fun j hj => h.2.1 j (by omega) (by omega) (by omega) (by omega) (by omega), fun i _ _ => by rw [h.1.1], by rw [h.1.1]⟩
theorem GP.F2 {k : Nat} {σ σ' : SS} (h : GP k σ σ') : F2 σ σ' := ⟨fun i hi => h.1.2 i (by omega) (by omega), fun j hj => h.2.1 j (by omega) (by omega) (by omega) (by omega) (by omega), by rw [h.1.1]⟩
theorem frC.GP {σ σ' : SS} (h : frC σ σ') (k : Nat) : GP k σ σ' := ⟨⟨h.1, fun i h1 _ => h.2.2 i h1⟩, fun j h1 h2 _ _ _ => h.2.1 j h1 h2, fun i _ => by rw [h.2.1 40 (by decide) (by decide)], fun i _ => by rw [h.2.1 42 (by decide) (by decide)]⟩
theorem corC_GP {T : Tw} {RS : Rls} {δ : DS} {σ σ' : SS} {k : Nat} (h : corC T RS δ σ) (g : GP k σ σ') (hC : simC T 0 σ') : corC T RS δ σ' := ⟨hC, h.2.1, by rw [g.1.1]; exact h.2.2⟩
/-- a year of the component -/
theorem f_pass {T : Tw} {RS : Rls} {δ : DS} {σ : SS} (h : corC T RS δ σ) (hy : tY T < tE T) {a : Nat} (ha : a ≤ 7) : ∃ σ', f0_passes 1000 δ σ (nI a - (1 : Int32)) = some (nI (passW T RS a), σ') ∧ corC (passT T RS a) RS δ σ' ∧ frC σ σ' := by
  obtain ⟨hC, ⟨hI, hRI⟩, hH, hR⟩ := h
  obtain ⟨σ', g1, g2, g3⟩ := f_passes_eq hC hI hH hR hRI (N := 1000) (h := a) (by decide) ha
  obtain ⟨e1, e2, e3, e4, e5, e6⟩ := pass_ali hI RS a
  exact ⟨σ', g1, ⟨g2, ⟨Inv_pass hI hy RS a, hRI⟩, by rw [g3.1]; exact hnd_cg e1 (e5 0 (by decide)) (e5 1 (by decide)) hH, by rw [g3.1]; exact hR⟩, g3⟩
/-- a year of the model -/
theorem m_pass {T : Tw} {S : Int32} {RS : Rls} {μ : MS} (h : corM T S RS μ) (hy : tY T < tE T) {a : Nat} (ha : a ≤ 7) : ∃ μ', m_goes 1000 μ (nI a) = some (nI (passW T RS a), μ') ∧ corM (passT T RS a) (S + nI (passW T RS a)) RS μ' ∧ frM μ μ' := by
  obtain ⟨hM, ⟨hI, hRI⟩, hRM⟩ := h
  obtain ⟨μ', q1, q2, q3⟩ := m_goes_eq hM (T := wI T 0 S) hI hRM hRI (N := 1000) (by decide) ha
  rw [passW_sc] at q1
  rw [goneT_sc] at q2
  exact ⟨μ', q1, ⟨q2, ⟨Inv_pass hI hy RS a, hRI⟩, frM_rul q3.2.2 hRM⟩, q3⟩
theorem f_over {T : Tw} {RS : Rls} {δ : DS} {σ : SS} (h : corC T RS δ σ) : f3_isOver σ 0 = some (decide (tE T ≤ tY T)) := by
  obtain ⟨hC, ⟨hI, hRI⟩, -⟩ := h
  have hy : tY T ≤ 16 := Nat.le_trans hI.1.2.2.2.2.1 hI.1.2.2.2.1
  have he := hI.1.2.2.2.1
  unfold f3_isOver
  rw [show σ.1 (7 * 0 + 3) = nI (tY T) from hC.1.2.2.2.1, show σ.1 (7 * 0 + 2) = nI (tE T) from hC.1.2.2.1]
  by_cases hl : tY T < tE T
  · rw [if_pos ((nN_lt (by omega) (by omega)).mpr hl), decide_eq_false (by omega)]
  · rw [if_neg (fun q => hl ((nN_lt (by omega) (by omega)).mp q)), decide_eq_true (by omega)]
theorem pass_back {T : Tw} (hI : Inv T) (RS : Rls) (a : Nat) : wN (passT T RS a) 3 (tY T) = handed T RS a := by
  have e := (Inv_handed hI RS a).2.nums.2.2.2.1
  unfold passT wN
  refine congrArg (fun f => (f, (handed T RS a).2)) (funext fun j => ?_)
  by_cases hj : j = 3
  · rw [if_pos hj, hj]; exact e.symm
  · rw [if_neg hj]
    exact if_neg hj
/-- a year is taken back -/
theorem goesBack_eq {T : Tw} {RS : Rls} {δ : DS} {σ : SS} {a k : Nat} (hI : Inv T) (h : simC (passT T RS a) 0 σ) (hk : k ≤ 4) (hs : svd T k σ) : ∃ σ', f0_goesBack σ (nI k) = some σ' ∧ simC T 0 σ' ∧ frC σ σ' := by
  have hy : σ.1 3 = nI (tY T + 1) := by
    rw [← (pass_ali hI RS a).2.2.2.1]
    exact h.1.2.2.2.1
  have c1 := simC_wN h 3 (tY T) (by decide)
  rw [pass_back hI] at c1
  obtain ⟨σ', v1, v2, fv, v3⟩ := back_so c1 (k := k) (T := T) hk hs (Inv_handed hI RS a).2
  refine ⟨σ', ?_, v2, ?_⟩
  · unfold f0_goesBack
    rw [hy, show nI (tY T + 1) - (1 : Int32) = nI (tY T) from nN_sub (a := tY T + 1) (b := 1) (by omega), Option.bind_some, show (10 : Int32) * nI k = nI (10 * k) from nN_mul 10 k, v1]
    rfl
  · rw [v3]
    exact (frC_y σ _).tr (frC_so _ _)
/-- what the component knows of the best plans -/
def psC (s : PSt) (σ : SS) : Prop := σ.1 49 = s.1 ∧ σ.1 50 = s.2.1 ∧ σ.1 51 = nI s.2.2.1 ∧ s.2.2.1 ≤ 4 ∧ ∀ i, i < s.2.2.1 → σ.2.1 43 i = nI (s.2.2.2 i)
theorem psC_fr {s : PSt} {σ σ' : SS} (h : psC s σ) (g : frC σ σ') : psC s σ' := ⟨by rw [g.2.2 49 (by decide)]; exact h.1, by rw [g.2.2 50 (by decide)]; exact h.2.1, by rw [g.2.2 51 (by decide)]; exact h.2.2.1, h.2.2.2.1, by rw [g.2.1 43 (by decide) (by decide)]; exact h.2.2.2.2⟩
theorem simC_own {T : Tw} {σ : SS} (hC : simC T 0 σ) {k : Nat} (hk : 7 ≤ k) (x : Int32) : simC T 0 (sI σ k x) := simC_cg hC (fun i hi => upd_ne (by omega)) (fun _ _ _ _ => rfl)
theorem leafP_C {δ : DS} {T : Tw} {σ : SS} {K : SS → Int32 → Int32 → Int32 → Option SS} {k w : Nat} {ln : Nat → Nat} {s : PSt} (hC : simC T 0 σ) (hk : k ≤ 4) (hp : psC s σ) (hl : ∀ i, i < k → σ.2.1 42 i = nI (ln i)) : ∃ σ', f0_plansFrom_B14 1000 K δ σ (nI k) (nI w) = some σ' ∧ simC T 0 σ' ∧ psC (leafP k T ln w s) σ' ∧ GP k σ σ' := by
  obtain ⟨p1, p2, p3, p4, p5⟩ := hp
  have gI : ∀ (σ : SS) (i : Nat) (x : Int32), (49 ≤ i ∧ i ≤ 54) → GP k σ (sI σ i x) := fun σ i x hi => ⟨⟨rfl, fun j h1 h2 => upd_ne (fun e => h2 (e ▸ hi))⟩, fun _ _ _ _ _ _ => rfl, fun _ _ => rfl, fun _ _ => rfl⟩
  unfold f0_plansFrom_B14 leafP
  rw [p1]
  by_cases h1 : nI w ≤ s.1
  · rw [if_pos h1, if_pos h1]
    have hn : ¬ s.1 < nI w := by rw [Int32.not_lt]; exact h1
    by_cases h2 : nI w = s.1
    · rw [if_pos h2, if_pos h2, Option.bind_some, if_neg (by show ¬ (sI σ 50 _).1 49 < nI w; rw [show (sI σ 50 (σ.1 50 + (1 : Int32))).1 49 = s.1 from p1]; exact hn)]
      exact ⟨_, rfl, simC_own hC (by decide) _, ⟨p1, by show σ.1 50 + 1 = s.2.1 + 1; rw [p2], p3, p4, p5⟩, gI _ _ _ (by decide)⟩
    · rw [if_neg h2, if_neg h2, Option.bind_some, if_neg (by show ¬ (sI σ 50 _).1 49 < nI w; rw [show (sI σ 50 (σ.1 50)).1 49 = s.1 from p1]; exact hn)]
      exact ⟨_, rfl, simC_own hC (by decide) _, ⟨p1, p2, p3, p4, p5⟩, gI _ _ _ (by decide)⟩
  · rw [if_neg h1, if_neg h1, Option.bind_some, if_pos (by show (sI σ 50 _).1 49 < nI w; rw [show (sI σ 50 (1 : Int32)).1 49 = s.1 from p1, ← Int32.not_le]; exact h1), Option.bind_some, Option.bind_some]
    have hcp := cpC_n (σ := sI (sI (sI σ 50 (1 : Int32)) 49 (nI w)) 51 (nI k)) (j1 := 42) (j2 := 43) (a := 0) (b := 0) (n := k) (by show 0 + k ≤ 4; omega) (by show 0 + k ≤ 4; omega) (by omega)
    rw [show cpC (sI (sI (sI σ 50 (1 : Int32)) 49 (nI w)) 51 (nI k)) 42 (0 : Int32) 43 (0 : Int32) (nI k) = _ from hcp]
    refine ⟨_, rfl, simC_40 (simC_own (simC_own (simC_own hC (by decide) _) (by decide) _) (by decide) _) (by decide) _, ⟨rfl, rfl, rfl, hk, fun i hi => ?_⟩, ?_⟩
    · have hi' : i < k := hi
      rw [sA_at]
      unfold va_cpy
      rw [if_pos (by omega), show 0 + (i - 0) = i by omega]
      exact hl i hi'
    · refine ((gI σ 50 (1 : Int32) (by decide)).tr ((gI (sI σ 50 (1 : Int32)) 49 (nI w) (by decide)).tr (gI (sI (sI σ 50 (1 : Int32)) 49 (nI w)) 51 (nI k) (by decide)))).tr ?_
      exact ⟨⟨rfl, fun _ _ _ => rfl⟩, fun j h1 h2 h3 h4 h5 => sA_ne h5, fun i _ => by rw [sA_ne (by decide)], fun i _ => by rw [sA_ne (by decide)]⟩
theorem plans_C {RS : Rls} {δ : DS} : ∀ (r k left D w : Nat) (T : Tw) (ln : Nat → Nat) (s : PSt) (σ : SS), corC T RS δ σ → r = min left (tE T - tY T) → k + r ≤ 4 → left ≤ 4 → r < D → psC s σ → (∀ i, i < k → σ.2.1 42 i = nI (ln i)) → ∃ σ', f0_plansFrom 1000 δ D σ (nI left) (nI k) (nI w) = some σ' ∧ simC T 0 σ' ∧ psC (trv RS leafP r k T ln w s) σ' ∧ GP k σ σ' := by
  intro r
  induction r with
  | zero =>
    intro k left D w T ln s σ h hr hk hl4 hD hp hl
    obtain ⟨D, rfl⟩ : ∃ n, D = n + 1 := ⟨D - 1, by omega⟩
    obtain ⟨σ', g1, g2, g3, g4⟩ := leafP_C (δ := δ) (K := f0_plansFrom 1000 δ D) (w := w) (ln := ln) h.1 (by omega) hp hl
    refine ⟨σ', ?_, g2, g3, g4⟩
    show (if nI left = 0 then _ else _) = _
    by_cases h0 : left = 0
    · rw [if_pos (by rw [h0]; rfl)]
      exact g1
    · rw [if_neg (fun q => h0 ((n0 (by omega)).mp q)), f_over h, decide_eq_true (by omega), Option.bind_some, if_pos rfl]
      exact g1
  | succ r ih =>
    intro k left D w T ln s σ h hr hk hl4 hD hp hl
    obtain ⟨D, rfl⟩ : ∃ n, D = n + 1 := ⟨D - 1, by omega⟩
    have hI := h.2.1.1
    have hp6 : tP T ≤ 6 := hI.1.1
    have hy : tY T < tE T := by omega
    obtain ⟨f, s1, s2, s3⟩ := saves_eq h.1 (k := k) (by omega)
    -- the loop through the acts
    have loop : ∀ (m a fuel : Nat) (s : PSt) (σ : SS), corC T RS δ σ → svd T k σ → a + m = tP T + 1 → m < fuel → psC s σ → (∀ i, i < k → σ.2.1 42 i = nI (ln i)) → ∃ σ', f0_plansFrom_L93 1000 (f0_plansFrom 1000 δ D) δ fuel σ (nI left) (nI k) (nI w) (nI a) = some σ' ∧ simC T 0 σ' ∧ (∀ s0, s = fo (fun a s => trv RS leafP r (k + 1) (passT T RS a) (uN ln k a) (w + passW T RS a) s) a s0 → psC (fo (fun a s => trv RS leafP r (k + 1) (passT T RS a) (uN ln k a) (w + passW T RS a) s) (tP T + 1) s0) σ') ∧ GP k σ σ' := by
      intro m
      induction m with
      | zero =>
        intro a fuel s σ h hs hm hf hp hl
        obtain ⟨n, rfl⟩ : ∃ n, fuel = n + 1 := ⟨fuel - 1, by omega⟩
        refine ⟨σ, ?_, h.1, fun s0 hs0 => by rw [← show a = tP T + 1 by omega, ← hs0]; exact hp, GP.rf k σ⟩
        show (if σ.1 0 < nI a then _ else _) = _
        rw [show σ.1 0 = nI (tP T) from h.1.1.1, if_pos ((nN_lt (by omega) (by omega)).mpr (by omega))]
      | succ m ihm =>
        intro a fuel s σ h hs hm hf hp hl
        obtain ⟨n, rfl⟩ : ∃ n, fuel = n + 1 := ⟨fuel - 1, by omega⟩
        have hst : stC σ 42 (nI k) (nI a) = some (sA σ 42 (upd (σ.2.1 42) k (nI a))) := stC_n (by show k < 4; omega) (by omega)
        have c1 : corC T RS δ (sA σ 42 (upd (σ.2.1 42) k (nI a))) := ⟨simC_40 h.1 (by decide) _, h.2⟩
        have p1 : psC s (sA σ 42 (upd (σ.2.1 42) k (nI a))) := ⟨hp.1, hp.2.1, hp.2.2.1, hp.2.2.2.1, fun i hi => by rw [sA_ne (by decide)]; exact hp.2.2.2.2 i hi⟩
        have l1 : ∀ i, i < k + 1 → (sA σ 42 (upd (σ.2.1 42) k (nI a))).2.1 42 i = nI (uN ln k a i) := fun i hi => by
          rw [sA_at]
          show (if i = k then nI a else σ.2.1 42 i) = nI (if i = k then a else ln i)
          by_cases e : i = k
          · rw [if_pos e, if_pos e]
          · rw [if_neg e, if_neg e]; exact hl i (by omega)
        have g42 : GP k σ (sA σ 42 (upd (σ.2.1 42) k (nI a))) := ⟨⟨rfl, fun _ _ _ => rfl⟩, fun j _ _ _ h4 _ => sA_ne h4, fun i _ => by rw [sA_ne (by decide)], fun i hi => by rw [sA_at]; exact upd_ne (by omega)⟩
        obtain ⟨σ1, q1, q2, q3⟩ := f_pass c1 hy (a := a) (by omega)
        obtain ⟨e1, e2, e3, e4, e5, e6⟩ := pass_ali hI RS a
        obtain ⟨σ2, u1, u2, u3, u4⟩ := ih (k + 1) (left - 1) D (w + passW T RS a) (passT T RS a) (uN ln k a) s σ1 q2 (by rw [e3, e4]; omega) (by omega) (by omega) (by omega) (psC_fr p1 q3) (fun i hi => by rw [q3.2.1 42 (by decide) (by decide)]; exact l1 i hi)
        have hs2 : svd T k σ2 := fun d hd => by rw [u4.2.2.1 _ (by omega), q3.2.1 40 (by decide) (by decide), sA_ne (by decide)]; exact hs d hd
        obtain ⟨σ3, v1, v2, v3⟩ := goesBack_eq (δ := δ) hI u2 (by omega) hs2
        have g1 : GP k σ σ3 := ((g42.tr (q3.GP k)).tr (u4.le (by omega))).tr (v3.GP k)
        have c3 : corC T RS δ σ3 := corC_GP h g1 v2
        have hs3 : svd T k σ3 := fun d hd => by rw [v3.2.1 40 (by decide) (by decide)]; exact hs2 d hd
        obtain ⟨σ4, z1, z2, z3, z4⟩ := ihm (a + 1) n _ σ3 c3 hs3 (by omega) (by omega) (psC_fr u3 v3) (fun i hi => by rw [g1.2.2.2 i hi]; exact hl i hi)
        refine ⟨σ4, ?_, z2, fun s0 hs0 => z3 s0 (by show _ = (fun a s => trv RS leafP r (k + 1) (passT T RS a) (uN ln k a) (w + passW T RS a) s) a (fo _ a s0); rw [← hs0]), g1.tr z4⟩
        show (if σ.1 0 < nI a then _ else _) = _
        rw [show σ.1 0 = nI (tP T) from h.1.1.1, if_neg (fun q => by have := (nN_lt (by omega) (by omega)).mp q; omega), hst, Option.bind_some, q1, Option.bind_some]
        dsimp only
        rw [show nI left - (1 : Int32) = nI (left - 1) from nN_sub (b := 1) (by omega), show nI k + (1 : Int32) = nI (k + 1) from nI_1 k, nN_add, u1, Option.bind_some, v1, Option.bind_some, nI_1]
        exact z1
    have c0 : corC T RS δ (sA σ 40 f) := ⟨simC_40 h.1 (by decide) _, h.2⟩
    have p0 : psC s (sA σ 40 f) := ⟨hp.1, hp.2.1, hp.2.2.1, hp.2.2.2.1, fun i hi => by rw [sA_ne (by decide)]; exact hp.2.2.2.2 i hi⟩
    obtain ⟨σ', g1, g2, g3, g4⟩ := loop (tP T + 1) 0 1000 s (sA σ 40 f) c0 (fun d hd => by rw [sA_at]; exact s2 d hd) (by omega) (by omega) p0 (fun i hi => by rw [sA_ne (by decide)]; exact hl i hi)
    have g40 : GP k σ (sA σ 40 f) := ⟨⟨rfl, fun _ _ _ => rfl⟩, fun j _ _ h3 _ _ => sA_ne h3, fun i hi => by rw [sA_at]; exact s3 i hi, fun i _ => by rw [sA_ne (by decide)]⟩
    refine ⟨σ', ?_, g2, g3 s rfl, g40.tr g4⟩
    show (if nI left = 0 then _ else _) = _
    rw [if_neg (fun q => by have := (n0 (by omega)).mp q; omega), f_over h, decide_eq_false (by omega), Option.bind_some, if_neg (by decide), s1, Option.bind_some]
    exact g1
