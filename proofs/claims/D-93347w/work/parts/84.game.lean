/-! PLAIN LAW: a game of two -/
set_option maxRecDepth 100000
def better (sd : Bool) (v b : Nat) : Bool := if sd = true then decide (b < v) else decide (v < b)
def bstep (sd : Bool) (v a : Nat) (s : Option (Nat × Nat)) : Option (Nat × Nat) := match s with
  | none => some (v, a)
  | some x => if better sd v x.1 = true then some (v, a) else some x
/-- the first best of those below a number -/
def bsF (sd : Bool) (g : Nat → Nat) : Nat → Option (Nat × Nat)
  | 0 => none
  | n + 1 => bstep sd (g n) n (bsF sd g n)
def fstO : Option (Nat × Nat) → Nat
  | none => 0
  | some x => x.1
/-- what so many years are worth, one in turn wanting much (or little) -/
def valG (RS : Rls) : Nat → Bool → Tw → Nat
  | 0, _, _ => 0
  | r + 1, sd, T => fstO (bsF sd (fun a => passW T RS a + valG RS r (!sd) (passT T RS a)) (tP T + 1))
theorem bsF_some {sd : Bool} {g : Nat → Nat} : ∀ n, ∃ b c, bsF sd g (n + 1) = some (b, c) ∧ c < n + 1 ∧ g c = b ∧ (∀ a, a < n + 1 → better sd (g a) b = false) ∧ ∀ a, a < c → g a ≠ b := by
  intro n
  induction n with
  | zero =>
    refine ⟨g 0, 0, rfl, by omega, rfl, fun a ha => ?_, fun a ha => absurd ha (by omega)⟩
    rw [show a = 0 by omega]
    unfold better
    split <;> simp
  | succ n ih =>
    obtain ⟨b, c, h1, h2, h3, h4, h5⟩ := ih
    have hs : bsF sd g (n + 1 + 1) = bstep sd (g (n + 1)) (n + 1) (bsF sd g (n + 1)) := rfl
    rw [h1] at hs
    have hs' : bsF sd g (n + 1 + 1) = if better sd (g (n + 1)) b = true then some (g (n + 1), n + 1) else some (b, c) := hs
    rw [hs']
    by_cases hb : better sd (g (n + 1)) b = true
    · rw [if_pos hb]
      refine ⟨g (n + 1), n + 1, rfl, by omega, rfl, fun a ha => ?_, fun a ha e => ?_⟩
      · by_cases e : a = n + 1
        · rw [e]
          unfold better
          split <;> simp
        · have := h4 a (by omega)
          unfold better at this hb ⊢
          by_cases hs : sd = true
          · rw [if_pos hs] at this hb ⊢
            rw [decide_eq_true_eq] at hb
            rw [decide_eq_false_iff_not] at this ⊢
            omega
          · rw [if_neg hs] at this hb ⊢
            rw [decide_eq_true_eq] at hb
            rw [decide_eq_false_iff_not] at this ⊢
            omega
      · have := h4 a (by omega)
        rw [e, hb] at this
        cases this
    · rw [if_neg hb]
      refine ⟨b, c, rfl, by omega, h3, fun a ha => ?_, h5⟩
      by_cases e : a = n + 1
      · rw [e]
        cases hx : better sd (g (n + 1)) b with
        | true => exact absurd hx hb
        | false => rfl
      · exact h4 a (by omega)
theorem valG_le {RS : Rls} : ∀ (r : Nat) (sd : Bool) {T : Tw}, Inv T → r ≤ tE T - tY T → valG RS r sd T ≤ 90 * r := by
  intro r
  induction r with
  | zero => intro sd T hI hr; exact Nat.le_refl _
  | succ r ih =>
    intro sd T hI hr
    obtain ⟨b, c, h1, h2, h3, -⟩ := bsF_some (sd := sd) (g := fun a => passW T RS a + valG RS r (!sd) (passT T RS a)) (tP T)
    show fstO (bsF sd (fun a => passW T RS a + valG RS r (!sd) (passT T RS a)) (tP T + 1)) ≤ _
    rw [h1]
    show b ≤ _
    have hp := passW_le hI RS c
    obtain ⟨e1, e2, e3, e4, -⟩ := pass_ali hI RS c
    have := ih (!sd) (Inv_pass hI (by omega) RS c) (by rw [e3, e4]; omega)
    have h3' : passW T RS c + valG RS r (!sd) (passT T RS c) = b := h3
    omega
def sdI (sd : Bool) : Int32 := if sd = true then 0 else 1
theorem sdI_not (sd : Bool) : (1 : Int32) - sdI sd = sdI (!sd) := by cases sd <;> rfl
/-- the component's best so far -/
def bC (s : Option (Nat × Nat)) : Int32 := match s with
  | none => -1
  | some x => nI x.1
theorem bsF_le {sd : Bool} {g : Nat → Nat} {B : Nat} : ∀ n, (∀ a, a < n → g a ≤ B) → ∀ x, bsF sd g n = some x → x.1 ≤ B := by
  intro n
  induction n with
  | zero => intro _ x hx; cases hx
  | succ n ih =>
    intro h x hx
    have hs : bsF sd g (n + 1) = bstep sd (g n) n (bsF sd g n) := rfl
    rw [hs] at hx
    cases hb : bsF sd g n with
    | none =>
      rw [hb] at hx
      cases hx
      exact h n (by omega)
    | some y =>
      rw [hb] at hx
      have hy := ih (fun a ha => h a (by omega)) y hb
      have hx' : (if better sd (g n) y.1 = true then some (g n, n) else some y) = some x := hx
      split at hx'
      · cases hx'; exact h n (by omega)
      · cases hx'; exact hy
theorem value_C {RS : Rls} {δ : DS} : ∀ (r k left D : Nat) (sd : Bool) (T : Tw) (σ : SS), corC T RS δ σ → r = min left (tE T - tY T) → k + r ≤ 4 → left ≤ 4 → r < D → ∃ σ', f0_valueFrom 1000 δ D σ (sdI sd) (nI left) (nI k) = some (nI (valG RS r sd T), σ') ∧ simC T 0 σ' ∧ GP k σ σ' := by
  intro r
  induction r with
  | zero =>
    intro k left D sd T σ h hr hk hl4 hD
    obtain ⟨D, rfl⟩ : ∃ n, D = n + 1 := ⟨D - 1, by omega⟩
    refine ⟨σ, ?_, h.1, GP.rf k σ⟩
    show (if nI left = 0 then _ else _) = _
    by_cases h0 : left = 0
    · rw [if_pos (by rw [h0]; rfl)]
      rfl
    · rw [if_neg (fun q => h0 ((n0 (by omega)).mp q)), f_over h, decide_eq_true (by omega), Option.bind_some, if_pos rfl]
      rfl
  | succ r ih =>
    intro k left D sd T σ h hr hk hl4 hD
    obtain ⟨D, rfl⟩ : ∃ n, D = n + 1 := ⟨D - 1, by omega⟩
    have hI := h.2.1.1
    have hp6 : tP T ≤ 6 := hI.1.1
    have hy : tY T < tE T := by omega
    obtain ⟨f, s1, s2, s3⟩ := saves_eq h.1 (k := k) (by omega)
    have hbound : ∀ a, a < tP T + 1 → passW T RS a + valG RS r (!sd) (passT T RS a) ≤ 450 := fun a _ => by
      obtain ⟨e1, e2, e3, e4, -⟩ := pass_ali hI RS a
      have h1 := passW_le hI RS a
      have h2 := valG_le (RS := RS) r (!sd) (Inv_pass hI hy RS a) (by rw [e3, e4]; omega)
      omega
    have loop : ∀ (m a fuel : Nat) (σ : SS), corC T RS δ σ → svd T k σ → a + m = tP T + 1 → m < fuel → ∃ σ', f0_valueFrom_L27 1000 (f0_valueFrom 1000 δ D) δ fuel σ (sdI sd) (nI left) (nI k) (bC (bsF sd (fun a => passW T RS a + valG RS r (!sd) (passT T RS a)) a)) (nI a) = some (bC (bsF sd (fun a => passW T RS a + valG RS r (!sd) (passT T RS a)) (tP T + 1)), σ') ∧ simC T 0 σ' ∧ GP k σ σ' := by
      intro m
      induction m with
      | zero =>
        intro a fuel σ h hs hm hf
        obtain ⟨n, rfl⟩ : ∃ n, fuel = n + 1 := ⟨fuel - 1, by omega⟩
        refine ⟨σ, ?_, h.1, GP.rf k σ⟩
        show (if σ.1 0 < nI a then _ else _) = _
        rw [show σ.1 0 = nI (tP T) from h.1.1.1, if_pos ((nN_lt (by omega) (by omega)).mpr (by omega)), show a = tP T + 1 by omega]
      | succ m ihm =>
        intro a fuel σ h hs hm hf
        obtain ⟨n, rfl⟩ : ∃ n, fuel = n + 1 := ⟨fuel - 1, by omega⟩
        obtain ⟨σ1, q1, q2, q3⟩ := f_pass h hy (a := a) (by omega)
        obtain ⟨e1, e2, e3, e4, e5, e6⟩ := pass_ali hI RS a
        obtain ⟨σ2, u1, u2, u4⟩ := ih (k + 1) (left - 1) D (!sd) (passT T RS a) σ1 q2 (by rw [e3, e4]; omega) (by omega) (by omega) (by omega)
        have hs2 : svd T k σ2 := fun d hd => by rw [u4.2.2.1 _ (by omega), q3.2.1 40 (by decide) (by decide)]; exact hs d hd
        obtain ⟨σ3, v1, v2, v3⟩ := goesBack_eq (δ := δ) hI u2 (by omega) hs2
        have g1 : GP k σ σ3 := ((q3.GP k).tr (u4.le (by omega))).tr (v3.GP k)
        have c3 : corC T RS δ σ3 := corC_GP h g1 v2
        have hs3 : svd T k σ3 := fun d hd => by rw [v3.2.1 40 (by decide) (by decide)]; exact hs2 d hd
        obtain ⟨σ4, z1, z2, z4⟩ := ihm (a + 1) n σ3 c3 hs3 (by omega) (by omega)
        refine ⟨σ4, ?_, z2, g1.tr z4⟩
        have hb := hbound a (by omega)
        have hsx : bsF sd (fun a => passW T RS a + valG RS r (!sd) (passT T RS a)) (a + 1) = bstep sd (passW T RS a + valG RS r (!sd) (passT T RS a)) a (bsF sd (fun a => passW T RS a + valG RS r (!sd) (passT T RS a)) a) := rfl
        rw [hsx] at z1
        show (if σ.1 0 < nI a then _ else _) = _
        rw [show σ.1 0 = nI (tP T) from h.1.1.1, if_neg (fun q => by have := (nN_lt (by omega) (by omega)).mp q; omega), q1, Option.bind_some]
        dsimp only
        rw [show nI left - (1 : Int32) = nI (left - 1) from nN_sub (b := 1) (by omega), show nI k + (1 : Int32) = nI (k + 1) from nI_1 k, sdI_not, u1, Option.bind_some]
        dsimp only
        rw [v1, Option.bind_some, nI_1, nN_add]
        cases hbs : bsF sd (fun a => passW T RS a + valG RS r (!sd) (passT T RS a)) a with
        | none =>
          rw [hbs] at z1
          rw [if_pos (show bC none < 0 from by decide)]
          exact z1
        | some x =>
          rw [hbs] at z1
          have hx := bsF_le (B := 450) a (fun a' ha' => hbound a' (by omega)) x hbs
          rw [if_neg (show ¬ bC (some x) < 0 from nN_neg (a := x.1) (by omega))]
          have z1' : f0_valueFrom_L27 1000 (f0_valueFrom 1000 δ D) δ n σ3 (sdI sd) (nI left) (nI k) (bC (if better sd (passW T RS a + valG RS r (!sd) (passT T RS a)) x.1 = true then some (passW T RS a + valG RS r (!sd) (passT T RS a), a) else some x)) (nI (a + 1)) = _ := z1
          by_cases hsd : sd = true
          · rw [if_pos (show sdI sd = 0 by rw [hsd]; rfl)]
            unfold better at z1'
            rw [if_pos hsd] at z1'
            by_cases hl : passW T RS a + valG RS r (!sd) (passT T RS a) ≤ x.1
            · rw [if_pos (show _ ≤ bC (some x) from (nN_le (by omega) (by omega)).mpr hl)]
              rw [if_neg (by rw [decide_eq_true_eq]; omega)] at z1'
              exact z1'
            · rw [if_neg (show ¬ _ ≤ bC (some x) from fun q => hl ((nN_le (by omega) (by omega)).mp q))]
              rw [if_pos (by rw [decide_eq_true_eq]; omega)] at z1'
              exact z1'
          · rw [if_neg (show ¬ sdI sd = 0 by unfold sdI; rw [if_neg hsd]; decide)]
            unfold better at z1'
            rw [if_neg hsd] at z1'
            by_cases hl : x.1 ≤ passW T RS a + valG RS r (!sd) (passT T RS a)
            · rw [if_pos (show bC (some x) ≤ _ from (nN_le (by omega) (by omega)).mpr hl)]
              rw [if_neg (by rw [decide_eq_true_eq]; omega)] at z1'
              exact z1'
            · rw [if_neg (show ¬ bC (some x) ≤ _ from fun q => hl ((nN_le (by omega) (by omega)).mp q))]
              rw [if_pos (by rw [decide_eq_true_eq]; omega)] at z1'
              exact z1'
    have c0 : corC T RS δ (sA σ 40 f) := ⟨simC_40 h.1 (by decide) _, h.2⟩
    obtain ⟨σ', g1, g2, g4⟩ := loop (tP T + 1) 0 1000 (sA σ 40 f) c0 (fun d hd => by rw [sA_at]; exact s2 d hd) (by omega) (by omega)
    have g40 : GP k σ (sA σ 40 f) := ⟨⟨rfl, fun _ _ _ => rfl⟩, fun j _ _ h3 _ _ => sA_ne h3, fun i hi => by rw [sA_at]; exact s3 i hi, fun i _ => by rw [sA_ne (by decide)]⟩
    refine ⟨σ', ?_, g2, g40.tr g4⟩
    show (if nI left = 0 then _ else _) = _
    rw [if_neg (fun q => by have := (n0 (by omega)).mp q; omega), f_over h, decide_eq_false (by omega), Option.bind_some, if_neg (by decide), s1, Option.bind_some]
    refine Eq.trans g1 ?_
    obtain ⟨b, c, h1, -⟩ := bsF_some (sd := sd) (g := fun a => passW T RS a + valG RS r (!sd) (passT T RS a)) (tP T)
    show some (bC (bsF sd (fun a => passW T RS a + valG RS r (!sd) (passT T RS a)) (tP T + 1)), σ') = some (nI (fstO (bsF sd (fun a => passW T RS a + valG RS r (!sd) (passT T RS a)) (tP T + 1))), σ')
    rw [h1]
    rfl
/-- the model's best so far, and by whom -/
def bM (s : Option (Nat × Nat)) : Int32 := match s with
  | none => 0
  | some x => nI x.1
def byM (s : Option (Nat × Nat)) : Int32 := match s with
  | none => -1
  | some x => nI x.2
theorem bsF_lt {sd : Bool} {g : Nat → Nat} : ∀ n x, bsF sd g n = some x → x.2 < n := by
  intro n
  induction n with
  | zero => intro x hx; cases hx
  | succ n ih =>
    intro x hx
    have hs : bsF sd g (n + 1) = bstep sd (g n) n (bsF sd g n) := rfl
    rw [hs] at hx
    cases hb : bsF sd g n with
    | none => rw [hb] at hx; cases hx; exact Nat.lt_succ_self _
    | some y =>
      rw [hb] at hx
      have hy := ih y hb
      have hx' : (if better sd (g n) y.1 = true then some (g n, n) else some y) = some x := hx
      split at hx'
      · cases hx'; exact Nat.lt_succ_self _
      · cases hx'; omega
theorem B98 (K : MS → Int32 → Int32 → Bool → Option (Int32 × MS)) (k16 : MS → Int32 → Int32 → Bool → Int32 → Int32 → Int32 → Option (Int32 × MS)) (μ : MS) (x1 x2 : Int32) (x3 : Bool) (x4 x5 x6 x7 : Int32) (y : Bool) : m_played_B98 1000 K k16 μ x1 x2 x3 x4 x5 x6 x7 y = if y = true then k16 μ x1 x2 x3 x7 x6 (x6 + 1) else k16 μ x1 x2 x3 x4 x5 (x6 + 1) := by
  unfold m_played_B98
  cases y <;> rfl
theorem played_M {RS : Rls} : ∀ (r k n D : Nat) (sd : Bool) (T : Tw) (S : Int32) (μ : MS), corM T S RS μ → r ≤ tE T - tY T → k + r = n → n ≤ 4 → r < D → ∃ μ', m_played 1000 D μ (nI k) (nI n) sd = some (nI (valG RS r sd T), μ') ∧ simM (wI T 0 S) (μ'.2 0) ∧ GM k μ μ' ∧ ∀ r', r = r' + 1 → μ'.1 15 = byM (bsF sd (fun a => passW T RS a + valG RS r' (!sd) (passT T RS a)) (tP T + 1)) := by
  intro r
  induction r with
  | zero =>
    intro k n D sd T S μ h hr hk hn hD
    obtain ⟨D, rfl⟩ : ∃ n, D = n + 1 := ⟨D - 1, by omega⟩
    refine ⟨μ, ?_, h.1, GM.rf k μ, fun r' hr' => by omega⟩
    show (if nI k = nI n then _ else _) = _
    rw [if_pos (by rw [show k = n by omega])]
    rfl
  | succ r ih =>
    intro k n D sd T S μ h hr hk hn hD
    obtain ⟨D, rfl⟩ : ∃ n, D = n + 1 := ⟨D - 1, by omega⟩
    have hI := h.2.1.1
    have hp6 : tP T ≤ 6 := hI.1.1
    have hy : tY T < tE T := by omega
    have hbound : ∀ a, a < tP T + 1 → passW T RS a + valG RS r (!sd) (passT T RS a) ≤ 450 := fun a _ => by
      obtain ⟨e1, e2, e3, e4, -⟩ := pass_ali hI RS a
      have h1 := passW_le hI RS a
      have h2 := valG_le (RS := RS) r (!sd) (Inv_pass hI hy RS a) (by rw [e3, e4]; omega)
      omega
    have loop : ∀ (m a fuel : Nat) (μ : MS), corM T S RS μ → a + m = tP T + 1 → m < fuel → ∃ μ', m_played_L16 1000 (m_played 1000 D) fuel μ (nI k) (nI n) sd (bM (bsF sd (fun a => passW T RS a + valG RS r (!sd) (passT T RS a)) a)) (byM (bsF sd (fun a => passW T RS a + valG RS r (!sd) (passT T RS a)) a)) (nI a) = some (bM (bsF sd (fun a => passW T RS a + valG RS r (!sd) (passT T RS a)) (tP T + 1)), μ') ∧ simM (wI T 0 S) (μ'.2 0) ∧ GM k μ μ' ∧ μ'.1 15 = byM (bsF sd (fun a => passW T RS a + valG RS r (!sd) (passT T RS a)) (tP T + 1)) := by
      intro m
      induction m with
      | zero =>
        intro a fuel μ h hm hf
        obtain ⟨N, rfl⟩ : ∃ n, fuel = n + 1 := ⟨fuel - 1, by omega⟩
        refine ⟨stF μ 15 (byM (bsF sd (fun a => passW T RS a + valG RS r (!sd) (passT T RS a)) a)), ?_, h.1, gmF _ 15 _ (by decide), by rw [stF_at, show a = tP T + 1 by omega]⟩
        show (ldM μ 0 (0 : Int32)).bind _ = _
        rw [show ldM μ 0 (0 : Int32) = some (nI (tP T)) from mF_people (T := wI T 0 S) h.1, Option.bind_some, if_pos ((nN_lt (by omega) (by omega)).mpr (by omega)), Option.bind_some, show a = tP T + 1 by omega]
      | succ m ihm =>
        intro a fuel μ h hm hf
        obtain ⟨N, rfl⟩ : ∃ n, fuel = n + 1 := ⟨fuel - 1, by omega⟩
        obtain ⟨f, s1, s2, s3⟩ := m_saves_eq (k := k) (by omega) h.1
        have c1 : corM T S RS (setA μ 6 f) := ⟨by rw [setA_o _ _ _ (by decide)]; exact h.1, h.2.1, by rw [setA_o _ _ _ (by decide)]; exact h.2.2⟩
        have g01 : GM k μ (setA μ 6 f) := ⟨⟨fun _ _ => rfl, fun j h0 h3 h6 h7 h8 => by rw [setA_o _ _ _ h6]⟩, fun i hi => by rw [setA_at]; exact s3 i hi, fun i hi => by rw [setA_o _ _ _ (by decide)], fun i _ => by rw [setA_o _ _ _ (by decide)]⟩
        obtain ⟨μ1, q1, q2, q3⟩ := m_pass c1 hy (a := a) (by omega)
        obtain ⟨e1, e2, e3, e4, e5, e6⟩ := pass_ali hI RS a
        obtain ⟨μ2, u1, u2, u4, -⟩ := ih (k + 1) n D (!sd) (passT T RS a) _ μ1 q2 (by rw [e3, e4]; omega) (by omega) hn (by omega)
        have sv2 : msv T S k μ2 := by
          refine ⟨fun d hd => ?_, ?_, ?_⟩
          · rw [u4.2.1 _ (by omega), q3.2.1 6 (by decide) (by decide)]; exact s2.1 d hd
          · rw [u4.2.1 _ (by omega), q3.2.1 6 (by decide) (by decide)]; exact s2.2.1
          · rw [u4.2.1 _ (by omega), q3.2.1 6 (by decide) (by decide)]; exact s2.2.2
        obtain ⟨g, v1, v2, v3⟩ := m_back_so hI (by omega) u2 sv2
        have g23 : GM k μ2 (setA μ2 0 g) := ⟨⟨fun _ _ => rfl, fun j h0 _ _ _ _ => setA_o _ _ _ h0⟩, fun i _ => by rw [setA_o _ _ _ (by decide)], fun i _ => by rw [setA_o _ _ _ (by decide)], fun i hi => by rw [setA_at]; exact v3 i hi⟩
        have gA : GM k μ (setA μ2 0 g) := ((g01.tr (q3.GM k)).tr (u4.le (by omega))).tr g23
        have c3 : corM T S RS (setA μ2 0 g) := ⟨by rw [setA_at]; exact v2, h.2.1, frM_rul gA.2.2.2 h.2.2⟩
        obtain ⟨μ4, z1, z2, z4, z5⟩ := ihm (a + 1) N (setA μ2 0 g) c3 (by omega) (by omega)
        refine ⟨μ4, ?_, z2, gA.tr z4, z5⟩
        have hb := hbound a (by omega)
        have hsx : bsF sd (fun a => passW T RS a + valG RS r (!sd) (passT T RS a)) (a + 1) = bstep sd (passW T RS a + valG RS r (!sd) (passT T RS a)) a (bsF sd (fun a => passW T RS a + valG RS r (!sd) (passT T RS a)) a) := rfl
        rw [hsx] at z1
        have step : ∀ (x4 x5 : Int32), m_played_L16 1000 (m_played 1000 D) (N + 1) μ (nI k) (nI n) sd x4 x5 (nI a) = (if (x5 < 0 ∨ (if sd = true then ¬ nI (passW T RS a + valG RS r (!sd) (passT T RS a)) ≤ x4 else ¬ x4 ≤ nI (passW T RS a + valG RS r (!sd) (passT T RS a)))) then m_played_L16 1000 (m_played 1000 D) N (setA μ2 0 g) (nI k) (nI n) sd (nI (passW T RS a + valG RS r (!sd) (passT T RS a))) (nI a) (nI (a + 1)) else m_played_L16 1000 (m_played 1000 D) N (setA μ2 0 g) (nI k) (nI n) sd x4 x5 (nI (a + 1))) := fun x4 x5 => by
          show (ldM μ 0 (0 : Int32)).bind _ = _
          rw [show ldM μ 0 (0 : Int32) = some (nI (tP T)) from mF_people (T := wI T 0 S) h.1, Option.bind_some, if_neg (fun q => by have := (nN_lt (by omega) (by omega)).mp q; omega), s1, Option.bind_some, q1, Option.bind_some]
          dsimp only
          rw [show nI k + (1 : Int32) = nI (k + 1) from nI_1 k]
          cases sd with
          | true =>
            have u1' : m_played 1000 D μ1 (nI (k + 1)) (nI n) false = some (nI (valG RS r (!true) (passT T RS a)), μ2) := u1
            rw [if_pos rfl, u1', Option.bind_some]
            dsimp only
            rw [v1, Option.bind_some]
            simp only [B98, nN_add, nI_1, if_true, if_false, Bool.false_eq_true]
            by_cases h5 : x5 < 0 <;> by_cases hl : nI (passW T RS a + valG RS r (!true) (passT T RS a)) ≤ x4 <;> simp only [h5, hl, if_true, if_false, not_true, not_false_iff, or_true, true_or, or_false, false_or]
          | false =>
            have u1' : m_played 1000 D μ1 (nI (k + 1)) (nI n) true = some (nI (valG RS r (!false) (passT T RS a)), μ2) := u1
            rw [if_neg (by decide), u1', Option.bind_some]
            dsimp only
            rw [v1, Option.bind_some]
            simp only [B98, nN_add, nI_1, if_true, if_false, Bool.false_eq_true]
            by_cases h5 : x5 < 0 <;> by_cases hl : x4 ≤ nI (passW T RS a + valG RS r (!false) (passT T RS a)) <;> simp only [h5, hl, if_true, if_false, not_true, not_false_iff, or_true, true_or, or_false, false_or]
        rw [step]
        cases hbs : bsF sd (fun a => passW T RS a + valG RS r (!sd) (passT T RS a)) a with
        | none =>
          rw [hbs] at z1
          rw [if_pos (Or.inl (show byM none < 0 from by decide))]
          exact z1
        | some x =>
          rw [hbs] at z1
          have hx := bsF_le (B := 450) a (fun a' ha' => hbound a' (by omega)) x hbs
          have hx2 := bsF_lt a x hbs
          have h5 : ¬ byM (some x) < 0 := nN_neg (a := x.2) (by omega)
          have z1' : m_played_L16 1000 (m_played 1000 D) N (setA μ2 0 g) (nI k) (nI n) sd (bM (if better sd (passW T RS a + valG RS r (!sd) (passT T RS a)) x.1 = true then some (passW T RS a + valG RS r (!sd) (passT T RS a), a) else some x)) (byM (if better sd (passW T RS a + valG RS r (!sd) (passT T RS a)) x.1 = true then some (passW T RS a + valG RS r (!sd) (passT T RS a), a) else some x)) (nI (a + 1)) = _ := z1
          unfold better at z1'
          by_cases hsd : sd = true
          · rw [if_pos hsd] at z1'
            by_cases hl : passW T RS a + valG RS r (!sd) (passT T RS a) ≤ x.1
            · rw [if_neg (by
                rintro (q | q)
                · exact h5 q
                · rw [if_pos hsd] at q
                  exact q ((nN_le (by omega) (by omega)).mpr hl))]
              rw [if_neg (by rw [decide_eq_true_eq]; omega)] at z1'
              exact z1'
            · rw [if_pos (Or.inr (by
                rw [if_pos hsd]
                exact fun q => hl ((nN_le (by omega) (by omega)).mp q)))]
              rw [if_pos (by rw [decide_eq_true_eq]; omega)] at z1'
              exact z1'
          · rw [if_neg hsd] at z1'
            by_cases hl : x.1 ≤ passW T RS a + valG RS r (!sd) (passT T RS a)
            · rw [if_neg (by
                rintro (q | q)
                · exact h5 q
                · rw [if_neg hsd] at q
                  exact q ((nN_le (by omega) (by omega)).mpr hl))]
              rw [if_neg (by rw [decide_eq_true_eq]; omega)] at z1'
              exact z1'
            · rw [if_pos (Or.inr (by
                rw [if_neg hsd]
                exact fun q => hl ((nN_le (by omega) (by omega)).mp q)))]
              rw [if_pos (by rw [decide_eq_true_eq]; omega)] at z1'
              exact z1'
    obtain ⟨μ', g1, g2, g4, g5⟩ := loop (tP T + 1) 0 1000 μ h (by omega) (by omega)
    refine ⟨μ', ?_, g2, g4, fun r' hr' => by rw [show r' = r by omega]; exact g5⟩
    show (if nI k = nI n then _ else _) = _
    rw [if_neg (fun q => by have := (nN_eq (by omega) (by omega)).mp q; omega)]
    refine Eq.trans g1 ?_
    obtain ⟨b, c, h1, -⟩ := bsF_some (sd := sd) (g := fun a => passW T RS a + valG RS r (!sd) (passT T RS a)) (tP T)
    show some (bM (bsF sd (fun a => passW T RS a + valG RS r (!sd) (passT T RS a)) (tP T + 1)), μ') = some (nI (fstO (bsF sd (fun a => passW T RS a + valG RS r (!sd) (passT T RS a)) (tP T + 1))), μ')
    rw [h1]
    rfl
theorem pl_30 (a b c d : Int32) (σ : SS) (δ : DS) (μ : MS) (H : Rel σ δ μ) : pLaw Rel 30 a b c d σ δ μ := by
  obtain ⟨T, RS, h⟩ := H.1
  rcases in_1_4 a with ⟨n, hn1, hn, rfl, e1, e2⟩ | ⟨e1, e2⟩
  · have hy : yrs T n ≤ n := Nat.min_le_left _ _
    obtain ⟨σ1, g1, g2, g3⟩ := value_C (RS := RS) (δ := δ) (yrs T n) 0 n 6 true T σ h.C rfl (by omega) hn (by omega)
    obtain ⟨μ1, q1, q2, q3, -⟩ := played_M (RS := RS) (yrs T n) 0 (yrs T n) 6 true T (tS T) μ h.Mo (Nat.min_le_right _ _) (by omega) (by omega) (by omega)
    have c2 : corM T (tS T) RS μ1 := ⟨q2, h.2.1, frM_rul q3.2.2.2 h.2.2.2⟩
    refine pl_0 (r := nI (valG RS (yrs T n) true T)) (σ' := σ1) (μ' := μ1) ?_ ?_ (Rel_cor H g3.FC q3.FM (cor_CM (corC_GP h.C g3 g2) c2))
    · rw [cc30]
      unfold f0_game
      rw [e1, Option.bind_some, if_pos rfl, show f0_valueFrom 1000 δ 6 σ (0 : Int32) (nI n) (0 : Int32) = _ from g1]
      rfl
    · rw [mc30]
      unfold m_game
      rw [e2, Option.bind_some, if_pos rfl, yearsOf_eq (T := T) (S := tS T) h.1.2 h.2.1.1 hn, Option.bind_some, show m_played 1000 6 μ (0 : Int32) (nI (yrs T n)) true = _ from q1]
      rfl
  · exact pl_0 (r := -1) (σ' := σ) (μ' := μ) (by rw [cc30]; unfold f0_game; rw [e1]; rfl) (by rw [mc30]; unfold m_game; rw [e2]; rfl) H
theorem play_C {T : Tw} {RS : Rls} {δ : DS} (hy : tY T < tE T) {n r : Nat} (hn : 1 ≤ n ∧ n ≤ 4) (hr : r = min (n - 1) (tE T - (tY T + 1))) {b c : Nat} (hbb : b < 2 ^ 31) (hc : c < tP T + 1) (hb : passW T RS c + valG RS r false (passT T RS c) = b) (hne : ∀ a, a < c → passW T RS a + valG RS r false (passT T RS a) ≠ b) : ∀ (m a fuel : Nat) (σ : SS), corC T RS δ σ → a + m = c → m < fuel → ∃ σ', f0_play_L34 1000 δ fuel σ (nI n) (nI b) (nI a - (1 : Int32)) = some (nI c, σ') ∧ corC T RS δ σ' ∧ GP 0 σ σ' := by
  intro m
  induction m with
  | zero =>
    intro a fuel σ h hm hf
    obtain ⟨N, rfl⟩ : ∃ n, fuel = n + 1 := ⟨fuel - 1, by omega⟩
    have hac : a = c := by omega
    subst hac
    have hI := h.2.1.1
    have hp6 : tP T ≤ 6 := hI.1.1
    obtain ⟨f, s1, s2, s3⟩ := saves_eq h.1 (k := 0) (by decide)
    have c0 : corC T RS δ (sA σ 40 f) := ⟨simC_40 h.1 (by decide) _, h.2⟩
    have g40 : GP 0 σ (sA σ 40 f) := ⟨⟨rfl, fun _ _ _ => rfl⟩, fun j _ _ h3 _ _ => sA_ne h3, fun i hi => absurd hi (by omega), fun i hi => absurd hi (by omega)⟩
    obtain ⟨σ1, q1, q2, q3⟩ := f_pass c0 hy (a := a) (by omega)
    obtain ⟨e1, e2, e3, e4, e5, e6⟩ := pass_ali hI RS a
    obtain ⟨σ2, u1, u2, u4⟩ := value_C (RS := RS) (δ := δ) r 1 (n - 1) 6 false (passT T RS a) σ1 q2 (by rw [e3, e4]; exact hr) (by omega) (by omega) (by omega)
    have hs2 : svd T 0 σ2 := fun d hd => by rw [u4.2.2.1 _ (by omega), q3.2.1 40 (by decide) (by decide), sA_at]; exact s2 d hd
    obtain ⟨σ3, v1, v2, v3⟩ := goesBack_eq (δ := δ) hI u2 (by omega) hs2
    have g1 : GP 0 σ σ3 := ((g40.tr (q3.GP 0)).tr (u4.le (by omega))).tr (v3.GP 0)
    refine ⟨σ3, ?_, corC_GP h g1 v2, g1⟩
    show (f0_saves σ (0 : Int32)).bind _ = _
    rw [show f0_saves σ (0 : Int32) = _ from s1, Option.bind_some, show nI a - (1 : Int32) + 1 = nI a from Int32.sub_add_cancel _ _, q1, Option.bind_some]
    dsimp only
    rw [show nI n - (1 : Int32) = nI (n - 1) from nN_sub (b := 1) hn.1, show f0_valueFrom 1000 δ 6 σ1 (1 : Int32) (nI (n - 1)) (1 : Int32) = _ from u1, Option.bind_some]
    dsimp only
    rw [show f0_goesBack σ2 (0 : Int32) = _ from v1, Option.bind_some, nN_add, if_pos (by rw [hb])]
  | succ m ih =>
    intro a fuel σ h hm hf
    obtain ⟨N, rfl⟩ : ∃ n, fuel = n + 1 := ⟨fuel - 1, by omega⟩
    have hI := h.2.1.1
    have hp6 : tP T ≤ 6 := hI.1.1
    obtain ⟨f, s1, s2, s3⟩ := saves_eq h.1 (k := 0) (by decide)
    have c0 : corC T RS δ (sA σ 40 f) := ⟨simC_40 h.1 (by decide) _, h.2⟩
    have g40 : GP 0 σ (sA σ 40 f) := ⟨⟨rfl, fun _ _ _ => rfl⟩, fun j _ _ h3 _ _ => sA_ne h3, fun i hi => absurd hi (by omega), fun i hi => absurd hi (by omega)⟩
    obtain ⟨σ1, q1, q2, q3⟩ := f_pass c0 hy (a := a) (by omega)
    obtain ⟨e1, e2, e3, e4, e5, e6⟩ := pass_ali hI RS a
    obtain ⟨σ2, u1, u2, u4⟩ := value_C (RS := RS) (δ := δ) r 1 (n - 1) 6 false (passT T RS a) σ1 q2 (by rw [e3, e4]; exact hr) (by omega) (by omega) (by omega)
    have hs2 : svd T 0 σ2 := fun d hd => by rw [u4.2.2.1 _ (by omega), q3.2.1 40 (by decide) (by decide), sA_at]; exact s2 d hd
    obtain ⟨σ3, v1, v2, v3⟩ := goesBack_eq (δ := δ) hI u2 (by omega) hs2
    have g1 : GP 0 σ σ3 := ((g40.tr (q3.GP 0)).tr (u4.le (by omega))).tr (v3.GP 0)
    have c3 : corC T RS δ σ3 := corC_GP h g1 v2
    obtain ⟨σ4, z1, z2, z3⟩ := ih (a + 1) N σ3 c3 (by omega) (by omega)
    have hw := passW_le hI RS a
    have hv := valG_le (RS := RS) r false (Inv_pass hI hy RS a) (by rw [e3, e4]; omega)
    have hnb : ¬ nI (passW T RS a + valG RS r false (passT T RS a)) = nI b := fun q => hne a (by omega) ((nN_eq (by omega) hbb).mp q)
    refine ⟨σ4, ?_, z2, g1.tr z3⟩
    show (f0_saves σ (0 : Int32)).bind _ = _
    rw [show f0_saves σ (0 : Int32) = _ from s1, Option.bind_some, show nI a - (1 : Int32) + 1 = nI a from Int32.sub_add_cancel _ _, q1, Option.bind_some]
    dsimp only
    rw [show nI n - (1 : Int32) = nI (n - 1) from nN_sub (b := 1) hn.1, show f0_valueFrom 1000 δ 6 σ1 (1 : Int32) (nI (n - 1)) (1 : Int32) = _ from u1, Option.bind_some]
    dsimp only
    rw [show f0_goesBack σ2 (0 : Int32) = _ from v1, Option.bind_some, nN_add, if_neg hnb, show nI a = nI (a + 1) - (1 : Int32) from (nN_sub (a := a + 1) (b := 1) (by omega)).symm]
    exact z1
theorem pl_31 (a b c d : Int32) (σ : SS) (δ : DS) (μ : MS) (H : Rel σ δ μ) : pLaw Rel 31 a b c d σ δ μ := by
  obtain ⟨T, RS, h⟩ := H.1
  obtain ⟨o1, o2⟩ := cor_over h
  rcases in_1_4 a with ⟨n, hn1, hn, rfl, e1, e2⟩ | ⟨e1, e2⟩
  · by_cases ho : tE T ≤ tY T
    · exact pl_0 (r := -3) (σ' := σ) (μ' := μ) (by rw [cc31]; unfold f0_play; rw [e1, Option.bind_some, if_pos rfl, o1, decide_eq_true ho]; rfl) (by rw [mc31]; unfold m_play; rw [e2, Option.bind_some, if_pos rfl, o2, decide_eq_true ho]; rfl) H
    · have hI := h.2.1.1
      have hp6 : tP T ≤ 6 := hI.1.1
      have hy : yrs T n ≤ n := Nat.min_le_left _ _
      obtain ⟨r, hr⟩ : ∃ r, yrs T n = r + 1 := ⟨yrs T n - 1, by unfold yrs; omega⟩
      obtain ⟨σ1, g1, g2, g3⟩ := value_C (RS := RS) (δ := δ) (yrs T n) 0 n 6 true T σ h.C rfl (by omega) hn (by omega)
      obtain ⟨μ1, q1, q2, q3, q4⟩ := played_M (RS := RS) (yrs T n) 0 (yrs T n) 6 true T (tS T) μ h.Mo (Nat.min_le_right _ _) (by omega) (by omega) (by omega)
      have c2 : corM T (tS T) RS μ1 := ⟨q2, h.2.1, frM_rul q3.2.2.2 h.2.2.2⟩
      have q4' := q4 r hr
      obtain ⟨bb, cc, h1, h2, h3, h4, h5⟩ := bsF_some (sd := true) (g := fun a => passW T RS a + valG RS r (!true) (passT T RS a)) (tP T)
      rw [h1] at q4'
      have hval : valG RS (yrs T n) true T = bb := by
        rw [hr]
        show fstO (bsF true (fun a => passW T RS a + valG RS r (!true) (passT T RS a)) (tP T + 1)) = bb
        rw [h1]
        rfl
      have hle := valG_le (RS := RS) (yrs T n) true hI (Nat.min_le_right _ _)
      have hrr : r = min (n - 1) (tE T - (tY T + 1)) := by unfold yrs at hr; omega
      obtain ⟨σ2, p1, p2, p3⟩ := play_C (T := T) (RS := RS) (δ := δ) (by omega) (n := n) (r := r) ⟨hn1, hn⟩ hrr (b := bb) (c := cc) (by omega) h2 h3 h5 cc 0 1000 σ1 (corC_GP h.C g3 g2) (by omega) (by omega)
      refine pl_0 (r := nI cc) (σ' := σ2) (μ' := μ1) ?_ ?_ (Rel_cor H (g3.FC.tr p3.FC) q3.FM (cor_CM p2 c2))
      · rw [cc31]
        unfold f0_play
        rw [e1, Option.bind_some, if_pos rfl, o1, decide_eq_false ho, Option.bind_some, if_neg (by decide), show f0_valueFrom 1000 δ 6 σ (0 : Int32) (nI n) (0 : Int32) = _ from g1, Option.bind_some]
        dsimp only
        rw [hval, show f0_play_L34 1000 δ 1000 σ1 (nI n) (nI bb) (-1 : Int32) = some (nI cc, σ2) from p1]
        rfl
      · rw [mc31]
        unfold m_play
        rw [e2, Option.bind_some, if_pos rfl, o2, decide_eq_false ho, Option.bind_some, if_neg (by decide), yearsOf_eq (T := T) (S := tS T) h.1.2 h.2.1.1 hn, Option.bind_some, show m_played 1000 6 μ (0 : Int32) (nI (yrs T n)) true = _ from q1, Option.bind_some]
        dsimp only
        rw [q4']
        rfl
  · exact pl_0 (r := -1) (σ' := σ) (μ' := μ) (by rw [cc31]; unfold f0_play; rw [e1]; rfl) (by rw [mc31]; unfold m_play; rw [e2]; rfl) H
