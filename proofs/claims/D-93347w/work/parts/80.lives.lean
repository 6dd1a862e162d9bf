/-! PLAIN LAW: all plans: the component's lives; the model's walk -/
set_option maxRecDepth 100000
theorem sN_cg {f g : Nat → Nat} : ∀ n, (∀ i, i < n → f i = g i) → sN f n = sN g n := by
  intro n
  induction n with
  | zero => intro _; rfl
  | succ n ih =>
    intro h
    show sN f n + f n = sN g n + g n
    rw [ih (fun i hi => h i (by omega)), h n (by omega)]
theorem actsN_ext (ln : Nat → Nat) (k a : Nat) : actsN (uN ln k a) (k + 1) = actsN ln k + (if a = 0 then 0 else 1) := by
  unfold actsN
  show sN (fun i => if uN ln k a i = 0 then 0 else 1) k + (if uN ln k a k = 0 then 0 else 1) = _
  rw [show uN ln k a k = a from if_pos rfl, sN_cg (g := fun i => if ln i = 0 then 0 else 1) k (fun i hi => by
    show (if uN ln k a i = 0 then 0 else 1) = if ln i = 0 then 0 else 1
    rw [show uN ln k a i = ln i from if_neg (by omega)])]
theorem actsN_le (ln : Nat → Nat) (k : Nat) : actsN ln k ≤ k := by
  have := sN_le (g := fun i => if ln i = 0 then 0 else 1) (b := 1) (n := k) (fun i _ => by
    show (if ln i = 0 then 0 else 1) ≤ 1
    split <;> omega)
  unfold actsN
  omega
def lsC (W : Int32) (s : Int32 × Int32) (σ : SS) : Prop := σ.1 52 = W ∧ σ.1 53 = s.1 ∧ σ.1 54 = s.2
theorem lsC_fr {W : Int32} {s : Int32 × Int32} {σ σ' : SS} (h : lsC W s σ) (g : frC σ σ') : lsC W s σ' := ⟨by rw [g.2.2 52 (by decide)]; exact h.1, by rw [g.2.2 53 (by decide)]; exact h.2.1, by rw [g.2.2 54 (by decide)]; exact h.2.2⟩
theorem gpI {k : Nat} (σ : SS) (i : Nat) (x : Int32) (hi : 49 ≤ i ∧ i ≤ 54) : GP k σ (sI σ i x) := ⟨⟨rfl, fun j h1 h2 => upd_ne (fun e => h2 (e ▸ hi))⟩, fun _ _ _ _ _ _ => rfl, fun _ _ => rfl, fun _ _ => rfl⟩
theorem leafL_C {T : Tw} {σ : SS} {W : Int32} {k w : Nat} {ln : Nat → Nat} {s : Int32 × Int32} (hC : simC T 0 σ) (hd : tD T ≤ 10) (hp : lsC W s σ) : ∃ σ', ((f0_setOf 1000 σ (1 : Int32)).bind fun r1 => (some (sI σ 54 ((σ.1 54) ||| r1))).bind fun σ2 => (if ((σ2.1 52) &&& (r1 ^^^ (-1 : Int32))) = 0 then (some (sI σ2 53 (if nI (actsN ln k) < (σ2.1 53) then nI (actsN ln k) else (σ2.1 53)))).bind fun σ4 => some σ4 else (some (sI σ2 53 (σ2.1 53))).bind fun σ3 => some σ3)) = some σ' ∧ simC T 0 σ' ∧ lsC W (leafL W k T ln w s) σ' ∧ GP k σ σ' := by
  obtain ⟨p1, p2, p3⟩ := hp
  rw [f_set_eq hC hd (by decide), Option.bind_some, Option.bind_some]
  have e52 : (sI σ 54 (σ.1 54 ||| setS T (1 : Int32) (tD T))).1 52 = W := p1
  have e53 : (sI σ 54 (σ.1 54 ||| setS T (1 : Int32) (tD T))).1 53 = s.1 := p2
  rw [e52, e53]
  unfold leafL
  have hh : σ.1 54 ||| setS T (1 : Int32) (tD T) = s.2 ||| setS T (1 : Int32) (tD T) := by rw [p3]
  by_cases hc : W &&& (setS T (1 : Int32) (tD T) ^^^ (-1 : Int32)) = 0
  · rw [if_pos hc, if_pos hc]
    exact ⟨_, rfl, simC_own (simC_own hC (by decide) _) (by decide) _, ⟨p1, rfl, hh⟩, (gpI _ 54 _ (by decide)).tr (gpI _ 53 _ (by decide))⟩
  · rw [if_neg hc, if_neg hc]
    exact ⟨_, rfl, simC_own (simC_own hC (by decide) _) (by decide) _, ⟨p1, rfl, hh⟩, (gpI _ 54 _ (by decide)).tr (gpI _ 53 _ (by decide))⟩
theorem lives_C {RS : Rls} {δ : DS} {W : Int32} : ∀ (r k left D w : Nat) (T : Tw) (ln : Nat → Nat) (s : Int32 × Int32) (σ : SS), corC T RS δ σ → r = min left (tE T - tY T) → k + r ≤ 4 → left ≤ 4 → r < D → lsC W s σ → ∃ σ', f0_livesFrom 1000 δ D σ (nI left) (nI k) (nI (actsN ln k)) = some σ' ∧ simC T 0 σ' ∧ lsC W (trv RS (leafL W) r k T ln w s) σ' ∧ GP k σ σ' := by
  intro r
  induction r with
  | zero =>
    intro k left D w T ln s σ h hr hk hl4 hD hp
    obtain ⟨D, rfl⟩ : ∃ n, D = n + 1 := ⟨D - 1, by omega⟩
    obtain ⟨σ', g1, g2, g3, g4⟩ := leafL_C (W := W) (k := k) (w := w) (ln := ln) h.1 h.2.1.1.1.2.1 hp
    refine ⟨σ', ?_, g2, g3, g4⟩
    show (if nI left = 0 then _ else _) = _
    by_cases h0 : left = 0
    · rw [if_pos (by rw [h0]; rfl)]
      exact g1
    · rw [if_neg (fun q => h0 ((n0 (by omega)).mp q)), f_over h, decide_eq_true (by omega), Option.bind_some, if_pos rfl]
      exact g1
  | succ r ih =>
    intro k left D w T ln s σ h hr hk hl4 hD hp
    obtain ⟨D, rfl⟩ : ∃ n, D = n + 1 := ⟨D - 1, by omega⟩
    have hI := h.2.1.1
    have hp6 : tP T ≤ 6 := hI.1.1
    have hy : tY T < tE T := by omega
    obtain ⟨f, s1, s2, s3⟩ := saves_eq h.1 (k := k) (by omega)
    have loop : ∀ (m a fuel : Nat) (s : Int32 × Int32) (σ : SS), corC T RS δ σ → svd T k σ → a + m = tP T + 1 → m < fuel → lsC W s σ → ∃ σ', f0_livesFrom_L72 1000 (f0_livesFrom 1000 δ D) δ fuel σ (nI left) (nI k) (nI (actsN ln k)) (nI a) = some σ' ∧ simC T 0 σ' ∧ (∀ s0, s = fo (fun a s => trv RS (leafL W) r (k + 1) (passT T RS a) (uN ln k a) (w + passW T RS a) s) a s0 → lsC W (fo (fun a s => trv RS (leafL W) r (k + 1) (passT T RS a) (uN ln k a) (w + passW T RS a) s) (tP T + 1) s0) σ') ∧ GP k σ σ' := by
      intro m
      induction m with
      | zero =>
        intro a fuel s σ h hs hm hf hp
        obtain ⟨n, rfl⟩ : ∃ n, fuel = n + 1 := ⟨fuel - 1, by omega⟩
        refine ⟨σ, ?_, h.1, fun s0 hs0 => by rw [← show a = tP T + 1 by omega, ← hs0]; exact hp, GP.rf k σ⟩
        show (if σ.1 0 < nI a then _ else _) = _
        rw [show σ.1 0 = nI (tP T) from h.1.1.1, if_pos ((nN_lt (by omega) (by omega)).mpr (by omega))]
      | succ m ihm =>
        intro a fuel s σ h hs hm hf hp
        obtain ⟨n, rfl⟩ : ∃ n, fuel = n + 1 := ⟨fuel - 1, by omega⟩
        obtain ⟨σ1, q1, q2, q3⟩ := f_pass h hy (a := a) (by omega)
        obtain ⟨e1, e2, e3, e4, e5, e6⟩ := pass_ali hI RS a
        have hac := actsN_ext ln k a
        have hal := actsN_le ln k
        have hw := passW_le hI RS a
        obtain ⟨σ2, u1, u2, u3, u4⟩ := ih (k + 1) (left - 1) D (w + passW T RS a) (passT T RS a) (uN ln k a) s σ1 q2 (by rw [e3, e4]; omega) (by omega) (by omega) (by omega) (lsC_fr hp q3)
        have hs2 : svd T k σ2 := fun d hd => by rw [u4.2.2.1 _ (by omega), q3.2.1 40 (by decide) (by decide)]; exact hs d hd
        obtain ⟨σ3, v1, v2, v3⟩ := goesBack_eq (δ := δ) hI u2 (by omega) hs2
        have g1 : GP k σ σ3 := ((q3.GP k).tr (u4.le (by omega))).tr (v3.GP k)
        have c3 : corC T RS δ σ3 := corC_GP h g1 v2
        have hs3 : svd T k σ3 := fun d hd => by rw [v3.2.1 40 (by decide) (by decide)]; exact hs2 d hd
        obtain ⟨σ4, z1, z2, z3, z4⟩ := ihm (a + 1) n _ σ3 c3 hs3 (by omega) (by omega) (lsC_fr u3 v3)
        refine ⟨σ4, ?_, z2, fun s0 hs0 => z3 s0 (by show _ = (fun a s => trv RS (leafL W) r (k + 1) (passT T RS a) (uN ln k a) (w + passW T RS a) s) a (fo _ a s0); rw [← hs0]), g1.tr z4⟩
        show (if σ.1 0 < nI a then _ else _) = _
        rw [show σ.1 0 = nI (tP T) from h.1.1.1, if_neg (fun q => by have := (nN_lt (by omega) (by omega)).mp q; omega), q1, Option.bind_some]
        dsimp only
        rw [if_neg (nN_neg (by omega)), show nI left - (1 : Int32) = nI (left - 1) from nN_sub (b := 1) (by omega), show nI k + (1 : Int32) = nI (k + 1) from nI_1 k, show nI (actsN ln k) + (1 : Int32) = nI (actsN ln k + 1) from nI_1 _, nI_1]
        by_cases ha : a = 0
        · have hac2 : actsN (uN ln k a) (k + 1) = actsN ln k := by rw [hac, if_pos ha]; rfl
          rw [hac2] at u1
          rw [if_pos ((n0 (by omega)).mpr ha), u1, Option.bind_some, v1, Option.bind_some]
          exact z1
        · rw [if_neg ha] at hac
          rw [if_neg (fun q => ha ((n0 (by omega)).mp q)), ← hac, u1, Option.bind_some, v1, Option.bind_some]
          exact z1
    have c0 : corC T RS δ (sA σ 40 f) := ⟨simC_40 h.1 (by decide) _, h.2⟩
    obtain ⟨σ', g1, g2, g3, g4⟩ := loop (tP T + 1) 0 1000 s (sA σ 40 f) c0 (fun d hd => by rw [sA_at]; exact s2 d hd) (by omega) (by omega) hp
    have g40 : GP k σ (sA σ 40 f) := ⟨⟨rfl, fun _ _ _ => rfl⟩, fun j _ _ h3 _ _ => sA_ne h3, fun i hi => by rw [sA_at]; exact s3 i hi, fun i _ => by rw [sA_ne (by decide)]⟩
    refine ⟨σ', ?_, g2, g3 s rfl, g40.tr g4⟩
    show (if nI left = 0 then _ else _) = _
    rw [if_neg (fun q => by have := (n0 (by omega)).mp q; omega), f_over h, decide_eq_false (by omega), Option.bind_some, if_neg (by decide), s1, Option.bind_some]
    exact g1
/-! the model -/
/-- deeds, the year, the score, saved at a depth -/
def msv (T : Tw) (S : Int32) (k : Nat) (μ : MS) : Prop := (∀ d, d < 10 → μ.2 6 (12 * k + d) = nI (tA T 7 d)) ∧ μ.2 6 (12 * k + 10) = nI (tY T) ∧ μ.2 6 (12 * k + 11) = S
theorem ix12 (k d : Nat) : (12 : Int32) * nI k + nI d = nI (12 * k + d) := by
  rw [show (12 : Int32) = nI 12 from rfl, nN_mul, nN_add]
theorem m_saves_L {T : Tw} {S : Int32} {N k : Nat} (hk : k ≤ 4) : ∀ (r d fuel : Nat) (μ : MS), simM (wI T 0 S) (μ.2 0) → d + r = 10 → r < fuel → (∀ d', d' < d → μ.2 6 (12 * k + d') = nI (tA T 7 d')) → ∃ f, m_saves_L2 N fuel μ (nI k) (nI d) = some (setA μ 6 f) ∧ msv T S k (setA μ 6 f) ∧ ∀ i, i < 12 * k → f i = μ.2 6 i := by
  intro r
  induction r with
  | zero =>
    intro d fuel μ hM h1 h2 h
    obtain ⟨n, rfl⟩ : ∃ n, fuel = n + 1 := ⟨fuel - 1, by omega⟩
    refine ⟨upd (upd (μ.2 6) (12 * k + 10) (nI (tY T))) (12 * k + 11) S, ?_, ⟨fun d' hd' => ?_, ?_, ?_⟩, fun i hi => by rw [upd_ne (by omega), upd_ne (by omega)]⟩
    · show (if nI 10 ≤ nI d then _ else _) = _
      rw [if_pos ((nN_le (a := 10) (b := d) (by decide) (by omega)).mpr (by omega)), show ldM μ 0 (3 : Int32) = some (nI (tY T)) from mF_year (T := wI T 0 S) hM, Option.bind_some, show (12 : Int32) * nI k + (10 : Int32) = nI (12 * k + 10) from ix12 k 10, show (12 : Int32) * nI k + (11 : Int32) = nI (12 * k + 11) from ix12 k 11, stM_n (by show 12 * k + 10 < 60; omega) (by omega), Option.bind_some, show (4 : Int32) = nI 4 from rfl, mF_at (by decide), setA_o _ _ _ (by decide), Option.bind_some, stM_n (by show 12 * k + 11 < 60; omega) (by omega), setA_at, setA_setA, show μ.2 0 4 = S from hM.1.2.2.2.1]
      rfl
    · rw [setA_at, upd_ne (by omega), upd_ne (by omega)]
      exact h d' (by omega)
    · rw [setA_at, upd_ne (by omega), upd_at]
    · rw [setA_at, upd_at]
  | succ r ih =>
    intro d fuel μ hM h1 h2 h
    obtain ⟨n, rfl⟩ : ∃ n, fuel = n + 1 := ⟨fuel - 1, by omega⟩
    obtain ⟨f, g1, g2, g3⟩ := ih (d + 1) n (setA μ 6 (upd (μ.2 6) (12 * k + d) (nI (tA T 7 d)))) (by rw [setA_o _ _ _ (by decide)]; exact hM) (by omega) (by omega) (fun d' hd' => by
      rw [setA_at]
      by_cases e : d' = d
      · rw [e, upd_at]
      · rw [upd_ne (by omega)]; exact h d' (by omega))
    rw [setA_setA] at g1 g2
    refine ⟨f, ?_, g2, fun i hi => by rw [g3 i hi, setA_at, upd_ne (by omega)]⟩
    show (if (10 : Int32) ≤ nI d then _ else _) = _
    rw [if_neg (fun q => by have := (nN_le (a := 10) (by decide) (by omega)).mp q; omega), show m_deedIs μ (nI d) (4 : Int32) = some (nI (tA T 7 d)) from mD_so (T := wI T 0 S) hM (by omega), Option.bind_some, ix12, stM_n (by show 12 * k + d < 60; omega) (by omega), Option.bind_some, nI_1]
    exact g1
theorem m_saves_eq {T : Tw} {S : Int32} {k : Nat} (hk : k ≤ 4) {μ : MS} (hM : simM (wI T 0 S) (μ.2 0)) : ∃ f, m_saves 1000 μ (nI k) = some (setA μ 6 f) ∧ msv T S k (setA μ 6 f) ∧ ∀ i, i < 12 * k → f i = μ.2 6 i := m_saves_L hk 10 0 1000 μ hM (by omega) (by omega) (fun d' h => absurd h (by omega))
theorem m_tb_L {N k : Nat} (hk : k ≤ 4) : ∀ (r d fuel : Nat) (μ : MS), d + r = 10 → r < fuel → ∃ g, m_takesBack_L2 N fuel μ (nI k) (nI d) = some (setA μ 0 g) ∧ (∀ d', d ≤ d' → d' < 10 → g (26 + 5 * d' + 4) = μ.2 6 (12 * k + d')) ∧ g 3 = μ.2 6 (12 * k + 10) ∧ g 4 = μ.2 6 (12 * k + 11) ∧ ∀ i, i ≠ 3 → i ≠ 4 → (∀ d', d ≤ d' → d' < 10 → i ≠ 26 + 5 * d' + 4) → g i = μ.2 0 i := by
  intro r
  induction r with
  | zero =>
    intro d fuel μ h1 h2
    obtain ⟨n, rfl⟩ : ∃ n, fuel = n + 1 := ⟨fuel - 1, by omega⟩
    refine ⟨upd (upd (μ.2 0) 3 (μ.2 6 (12 * k + 10))) 4 (μ.2 6 (12 * k + 11)), ?_, fun d' h1 h2 => by omega, by rw [upd_ne (by decide), upd_at], by rw [upd_at], fun i h1 h2 _ => by rw [upd_ne h2, upd_ne h1]⟩
    show (if nI 10 ≤ nI d then _ else _) = _
    rw [if_pos ((nN_le (a := 10) (b := d) (by decide) (by omega)).mpr (by omega)), show (12 : Int32) * nI k + (10 : Int32) = nI (12 * k + 10) from ix12 k 10, show (12 : Int32) * nI k + (11 : Int32) = nI (12 * k + 11) from ix12 k 11, ldM_n (by show 12 * k + 10 < 60; omega) (by omega), Option.bind_some, show (3 : Int32) = nI 3 from rfl, mS_at (by decide), Option.bind_some, ldM_n (by show 12 * k + 11 < 60; omega) (by omega), setA_o _ _ _ (by decide), Option.bind_some, show (4 : Int32) = nI 4 from rfl, mS_at (by decide), setA_at, setA_setA]
    rfl
  | succ r ih =>
    intro d fuel μ h1 h2
    obtain ⟨n, rfl⟩ : ∃ n, fuel = n + 1 := ⟨fuel - 1, by omega⟩
    obtain ⟨g, g1, g2, g3, g4, g5⟩ := ih (d + 1) n (setA μ 0 (upd (μ.2 0) (26 + 5 * d + 4) (μ.2 6 (12 * k + d)))) (by omega) (by omega)
    rw [setA_setA] at g1
    rw [setA_o _ _ _ (by decide)] at g3 g4
    refine ⟨g, ?_, fun d' h3 h4 => ?_, g3, g4, fun i h3 h4 h5 => ?_⟩
    · show (if (10 : Int32) ≤ nI d then _ else _) = _
      rw [if_neg (fun q => by have := (nN_le (a := 10) (by decide) (by omega)).mp q; omega), m_spot_so, Option.bind_some, ix12, ldM_n (by show 12 * k + d < 60; omega) (by omega), Option.bind_some, mS_at (by omega), Option.bind_some, nI_1]
      exact g1
    · by_cases e : d' = d
      · subst e
        rw [g5 _ (by omega) (by omega) (fun d'' h6 h7 => by omega), setA_at, upd_at]
      · rw [g2 d' (by omega) h4, setA_o _ _ _ (by decide)]
    · rw [g5 i h3 h4 (fun d' h6 h7 => h5 d' (by omega) h7), setA_at, upd_ne (h5 d (Nat.le_refl _) (by omega))]
/-- a year is taken back -/
theorem m_back_so {T : Tw} {S S' : Int32} {RS : Rls} {a k : Nat} {μ : MS} (hI : Inv T) (hk : k ≤ 4) (hM : simM (wI (passT T RS a) 0 S') (μ.2 0)) (hs : msv T S k μ) : ∃ g, m_takesBack 1000 μ (nI k) = some (setA μ 0 g) ∧ simM (wI T 0 S) g ∧ ∀ i, (i = 1 ∨ 136 ≤ i) → g i = μ.2 0 i := by
  obtain ⟨g, g1, g2, g3, g4, g5⟩ := m_tb_L (N := 1000) hk 10 0 1000 μ (by omega) (by omega)
  obtain ⟨e1, e2, e3, e4, e5, e6, e7, e8⟩ := (Inv_handed hI RS a).2.nums
  have er : ∀ j, j ≠ 7 → tA (passT T RS a) j = tA T j := (pass_ali hI RS a).2.2.2.2.1
  have hn : ∀ j, j ≠ 3 → (passT T RS a).1 j = (handed T RS a).1 j := fun j hj => wN_ne hj
  obtain ⟨⟨a0, a1, a2, a3, a4, a5, a6⟩, b, c, o, r⟩ := hM
  refine ⟨g, g1, ⟨⟨?_, ?_, ?_, ?_, ?_, ?_, ?_⟩, fun p hp => ?_, fun d hd => ?_, fun i hi => ?_, fun i hi => ?_⟩, fun i hi => g5 i (by omega) (by omega) (fun d' _ _ => by omega)⟩
  · rw [g5 _ (by decide) (by decide) (fun d' _ _ => by omega), a0]
    show nI ((passT T RS a).1 0) = nI (tP T)
    rw [hn _ (by decide)]; exact congrArg nI e1
  · rw [g5 _ (by decide) (by decide) (fun d' _ _ => by omega), a1]
    show nI ((passT T RS a).1 2) = nI (tE T)
    rw [hn _ (by decide)]; exact congrArg nI e3
  · rw [g3, hs.2.1]; rfl
  · rw [g4, hs.2.2]; rfl
  · rw [g5 _ (by decide) (by decide) (fun d' _ _ => by omega), a4]
    show nI ((passT T RS a).1 1) = nI (tD T)
    rw [hn _ (by decide)]; exact congrArg nI e2
  · rw [g5 _ (by decide) (by decide) (fun d' _ _ => by omega), a5]
    show nI ((passT T RS a).1 5) = nI (tR T)
    rw [hn _ (by decide)]; exact congrArg nI e5
  · rw [g5 _ (by decide) (by decide) (fun d' _ _ => by omega), a6]
    exact e8
  · rw [g5 _ (by omega) (by omega) (fun d' _ _ => by omega), g5 _ (by omega) (by omega) (fun d' _ _ => by omega), g5 _ (by omega) (by omega) (fun d' _ _ => by omega)]
    have := b p hp
    rw [show tA (wI (passT T RS a) 0 S') 0 = tA T 0 from er 0 (by decide), show tA (wI (passT T RS a) 0 S') 1 = tA T 1 from er 1 (by decide), show tA (wI (passT T RS a) 0 S') 2 = tA T 2 from er 2 (by decide)] at this
    exact this
  · rw [g5 _ (by omega) (by omega) (fun d' _ _ => by omega), g5 (26 + 5 * d + 1) (by omega) (by omega) (fun d' _ _ => by omega), g5 (26 + 5 * d + 2) (by omega) (by omega) (fun d' _ _ => by omega), g5 (26 + 5 * d + 3) (by omega) (by omega) (fun d' _ _ => by omega), g2 d (by omega) hd, hs.1 d hd]
    obtain ⟨c0, c1, c2, c3, c4⟩ := c d hd
    refine ⟨?_, ?_, ?_, ?_, rfl⟩
    · rw [c0]; exact congrArg (fun f => nI (f d)) (er 3 (by decide))
    · rw [c1]; exact congrArg (fun f => nI (f d)) (er 4 (by decide))
    · rw [c2]; exact congrArg (fun f => nI (f d)) (er 5 (by decide))
    · rw [c3]; exact congrArg (fun f => nE (f d)) (pass_ali hI RS a).2.2.2.2.2
  · rw [g5 _ (by omega) (by omega) (fun d' _ _ => by omega), o i hi]
    exact congrArg (fun f => nI (f i)) (er 8 (by decide))
  · rw [g5 _ (by omega) (by omega) (fun d' _ _ => by omega), g5 (112 + 4 * i + 1) (by omega) (by omega) (fun d' _ _ => by omega), g5 (112 + 4 * i + 2) (by omega) (by omega) (fun d' _ _ => by omega), g5 (112 + 4 * i + 3) (by omega) (by omega) (fun d' _ _ => by omega)]
    obtain ⟨r0, r1, r2, r3⟩ := r i hi
    refine ⟨?_, ?_, ?_, ?_⟩
    · rw [r0]; exact congrArg (fun f => nI (f i)) (er 9 (by decide))
    · rw [r1]; exact congrArg (fun f => nI (f i)) (er 10 (by decide))
    · rw [r2]; exact congrArg (fun f => nI (f i)) (er 11 (by decide))
    · rw [r3]; exact congrArg (fun f => nI (f i)) (er 12 (by decide))
