/-! PLAIN LAW: what is undone, what right hands do -/
set_option maxRecDepth 100000
/-- a deed is so -/
def uS (T : Tw) (d v : Nat) : Tw := wA T 7 (uN (tA T 7) d v)
theorem uS_so (T : Tw) (d v k : Nat) : tA (uS T d v) 7 k = if k = d then v else tA T 7 k := rfl
theorem uS_row {T : Tw} {d v j : Nat} (h : j ≠ 7) : tA (uS T d v) j = tA T j := by
  unfold uS wA tA
  simp only [if_neg h]
theorem uS_other (T : Tw) (d v : Nat) : tP (uS T d v) = tP T ∧ tD (uS T d v) = tD T ∧ tE (uS T d v) = tE T ∧ tY (uS T d v) = tY T ∧ tR (uS T d v) = tR T ∧ tN (uS T d v) = tN T ∧ tS (uS T d v) = tS T ∧ tZ (uS T d v) = tZ T := ⟨rfl, rfl, rfl, rfl, rfl, rfl, rfl, rfl⟩
/-- only deeds and the year, and the facts, were changed -/
def frC (σ σ' : SS) : Prop := σ'.2.2 = σ.2.2 ∧ (∀ j, j ≠ 7 → j ≠ 39 → σ'.2.1 j = σ.2.1 j) ∧ ∀ k, k ≠ 3 → σ'.1 k = σ.1 k
def frM (μ μ' : MS) : Prop := μ'.1 = μ.1 ∧ (∀ j, j ≠ 0 → j ≠ 3 → μ'.2 j = μ.2 j) ∧ ∀ i, (i = 1 ∨ 136 ≤ i) → μ'.2 0 i = μ.2 0 i
theorem frC.rf (σ : SS) : frC σ σ := ⟨rfl, fun _ _ _ => rfl, fun _ _ => rfl⟩
theorem frM.rf (μ : MS) : frM μ μ := ⟨rfl, fun _ _ _ => rfl, fun _ _ => rfl⟩
theorem frC.tr {a b c : SS} (h : frC a b) (g : frC b c) : frC a c := ⟨g.1.trans h.1, fun j h1 h2 => (g.2.1 j h1 h2).trans (h.2.1 j h1 h2), fun k h1 => (g.2.2 k h1).trans (h.2.2 k h1)⟩
theorem frM.tr {a b c : MS} (h : frM a b) (g : frM b c) : frM a c := ⟨g.1.trans h.1, fun j h1 h2 => (g.2.1 j h1 h2).trans (h.2.1 j h1 h2), fun k h1 => (g.2.2 k h1).trans (h.2.2 k h1)⟩
theorem simC_so {T : Tw} {σ : SS} (hC : simC T 0 σ) (d v : Nat) : simC (uS T d v) 0 (sA σ 7 (upd (σ.2.1 7) d (nI v))) := by
  refine ⟨hC.1, fun p hp => ?_, fun k hk => ?_, fun k hk => ?_, fun r hr => ?_⟩
  · exact hC.2.1 p hp
  · obtain ⟨h1, h2, h3, h4, h5⟩ := hC.2.2.1 k hk
    refine ⟨h1, h2, h3, h4, ?_⟩
    show (if (7 : Nat) = 7 then upd (σ.2.1 7) d (nI v) else σ.2.1 7) k = nI (tA (uS T d v) 7 k)
    rw [if_pos rfl, uS_so]
    unfold upd
    split
    · rfl
    · exact h5
  · exact hC.2.2.2.1 k hk
  · exact hC.2.2.2.2 r hr
theorem frC_so (σ : SS) (f : Nat → Int32) : frC σ (sA σ 7 f) := ⟨rfl, fun j h1 _ => by show (if j = 7 then f else σ.2.1 j) = _; rw [if_neg h1], fun _ _ => rfl⟩
theorem setA_0 (μ : MS) (f : Nat → Int32) : (setA μ 0 f).2 0 = f := by
  unfold setA
  simp
theorem setA_ne (μ : MS) (f : Nat → Int32) {j : Nat} (h : j ≠ 0) : (setA μ 0 f).2 j = μ.2 j := by
  unfold setA
  simp [h]
theorem setA_i (μ : MS) (f : Nat → Int32) : (setA μ 0 f).1 = μ.1 := rfl
theorem simM_so {T : Tw} {f : Nat → Int32} (hM : simM T f) {d : Nat} (hd : d < 10) (v : Nat) : simM (uS T d v) (upd f (26 + 5 * d + 4) (nI v)) := by
  have e : ∀ i, i ≠ 26 + 5 * d + 4 → upd f (26 + 5 * d + 4) (nI v) i = f i := fun i h => by unfold upd; rw [if_neg h]
  obtain ⟨⟨a1, a2, a3, a4, a5, a6, a7⟩, b, c, o, r⟩ := hM
  refine ⟨⟨?_, ?_, ?_, ?_, ?_, ?_, ?_⟩, fun p hp => ?_, fun k hk => ?_, fun k hk => ?_, fun k hk => ?_⟩
  · rw [e _ (by omega)]; exact a1
  · rw [e _ (by omega)]; exact a2
  · rw [e _ (by omega)]; exact a3
  · rw [e _ (by omega)]; exact a4
  · rw [e _ (by omega)]; exact a5
  · rw [e _ (by omega)]; exact a6
  · rw [e _ (by omega)]; exact a7
  · rw [e _ (by omega), e _ (by omega), e _ (by omega)]; exact b p hp
  · obtain ⟨h1, h2, h3, h4, h5⟩ := c k hk
    refine ⟨by rw [e _ (by omega)]; exact h1, by rw [e _ (by omega)]; exact h2, by rw [e _ (by omega)]; exact h3, by rw [e _ (by omega)]; exact h4, ?_⟩
    rw [uS_so]
    by_cases hkd : k = d
    · subst hkd
      rw [if_pos rfl]
      unfold upd
      rw [if_pos rfl]
    · rw [if_neg hkd, e _ (by omega)]
      exact h5
  · rw [e _ (by omega)]; exact o k hk
  · rw [e _ (by omega), e _ (by omega), e _ (by omega), e _ (by omega)]; exact r k hk
theorem frM_so (μ : MS) {d : Nat} (hd : d < 10) (x : Int32) : frM μ (setA μ 0 (upd (μ.2 0) (26 + 5 * d + 4) x)) := by
  refine ⟨rfl, fun j h1 _ => setA_ne μ _ h1, fun i hi => ?_⟩
  rw [setA_0]
  unfold upd
  rw [if_neg (by omega)]
/-- a town with bounded deeds -/
def dB (T : Tw) : Prop := tD T ≤ 10 ∧ ∀ d, d < tD T → tA T 7 d ≤ 4 ∧ ∀ n, tN T d = some n → n < d
theorem dB_so {T : Tw} (h : dB T) (d : Nat) {v : Nat} (hv : v ≤ 4) : dB (uS T d v) := by
  refine ⟨h.1, fun k hk => ⟨?_, fun n hn => (h.2 k hk).2 n hn⟩⟩
  rw [uS_so]
  split
  · exact hv
  · exact (h.2 k hk).1
theorem Inv.dB {T : Tw} (hI : Inv T) : dB T := ⟨hI.1.2.1, fun d hd => ⟨(hI.2.2.1 d hd).2.2.2.1, (hI.2.2.1 d hd).2.2.2.2.1⟩⟩
/-- a deed falls, if what it needs is undone or fell -/
def falls (T : Tw) (d : Nat) : Bool := decide (tA T 7 d = 1) && (match tN T d with | none => false | some n => decide (tA T 7 n = 2 ∨ tA T 7 n = 3))
def fallS (T : Tw) (d : Nat) : Tw := if falls T d = true then uS T d 3 else T
def fallF (T : Tw) (a : Nat) : Nat → Tw
  | 0 => T
  | r + 1 => fallS (fallF T a r) (a + r)
def undoT (T : Tw) (d : Nat) : Tw := fallF (uS T d 2) 0 (tD T)
theorem fallS_dB {T : Tw} (h : dB T) (d : Nat) : dB (fallS T d) := by
  unfold fallS
  split
  · exact dB_so h d (by decide)
  · exact h
theorem fallF_dB {T : Tw} (h : dB T) (a r : Nat) : dB (fallF T a r) := by
  induction r with
  | zero => exact h
  | succ r ih => exact fallS_dB ih _
theorem fallS_tD (T : Tw) (d : Nat) : tD (fallS T d) = tD T := by
  unfold fallS
  split <;> rfl
theorem fallF_tD (T : Tw) (a r : Nat) : tD (fallF T a r) = tD T := by
  induction r with
  | zero => rfl
  | succ r ih => exact (fallS_tD _ _).trans ih
theorem fallF_add (T : Tw) (a m r : Nat) : fallF T a (m + r) = fallF (fallF T a m) (a + m) r := by
  induction r with
  | zero => rfl
  | succ r ih =>
    show fallS (fallF T a (m + r)) (a + (m + r)) = fallS (fallF (fallF T a m) (a + m) r) (a + m + r)
    rw [ih, Nat.add_assoc]
/-- one step of the component's loop -/
theorem f_undo_L {N : Nat} : ∀ (r : Nat) (T : Tw) (σ : SS) (d fuel : Nat), simC T 0 σ → dB T → d + r = tD T → r < fuel → ∃ σ', f0_undo_L14 N fuel σ (nI d) = some σ' ∧ simC (fallF T d r) 0 σ' ∧ frC σ σ' := by
  intro r
  induction r with
  | zero =>
    intro T σ d fuel hC hB h1 h2
    have hb := hB.1
    obtain ⟨n, rfl⟩ : ∃ n, fuel = n + 1 := ⟨fuel - 1, by omega⟩
    refine ⟨σ, ?_, hC, frC.rf σ⟩
    show (if (σ.1 1) ≤ nI d then _ else _) = _
    rw [show σ.1 1 = nI (tD T) from hC.1.2.1, if_pos ((nN_le (by omega) (by omega)).mpr (by omega))]
  | succ r ih =>
    intro T σ d fuel hC hB h1 h2
    have hb := hB.1
    obtain ⟨n, rfl⟩ : ∃ n, fuel = n + 1 := ⟨fuel - 1, by omega⟩
    have hd := hB.2 d (by omega)
    have e1 : nI d + 1 = nI (d + 1) := nI_1 d
    -- what the loop goes on with
    have go : ∀ v, v ≤ 4 → fallS T d = uS T d v ∨ (fallS T d = T ∧ v = tA T 7 d) → ∃ σ', (stC σ 7 (nI d) (nI v)).bind (fun σ3 => f0_undo_L14 N n σ3 (nI d + 1)) = some σ' ∧ simC (fallF T d (r + 1)) 0 σ' ∧ frC σ σ' := by
      intro v hv hf
      rw [stC_n (by show d < 10; omega) (by omega), e1]
      simp only [Option.bind_some]
      have hs : fallF T d (r + 1) = fallF (fallS T d) (d + 1) r := by
        rw [show r + 1 = 1 + r by omega, fallF_add]
        rfl
      rw [hs]
      have hC2 : simC (fallS T d) 0 (sA σ 7 (upd (σ.2.1 7) d (nI v))) := by
        rcases hf with hf | ⟨hf, hv2⟩
        · rw [hf]; exact simC_so hC d v
        · rw [hf]
          have := simC_so hC d v
          have e : uS T d v = T := by
            unfold uS wA uN
            have : (fun j => if j = 7 then (fun j => if j = d then v else tA T 7 j) else T.2.1 j) = T.2.1 := by
              funext j k
              by_cases hj : j = 7
              · subst hj
                rw [if_pos rfl]
                by_cases hk : k = d
                · subst hk; rw [if_pos rfl, hv2]; rfl
                · rw [if_neg hk]; rfl
              · rw [if_neg hj]
            rw [this]
          rw [e] at this
          exact this
      obtain ⟨σ', g1, g2, g3⟩ := ih (fallS T d) _ (d + 1) n hC2 (fallS_dB hB d) (by rw [fallS_tD]; omega) (by omega)
      exact ⟨σ', g1, g2, (frC_so σ _).tr g3⟩
    show ∃ σ', (if (σ.1 1) ≤ nI d then _ else _) = some σ' ∧ _
    rw [show σ.1 1 = nI (tD T) from hC.1.2.1, if_neg (fun h => by have := (nN_le (by omega) (by omega)).mp h; omega)]
    rw [cD_need hC (by omega), cD_so hC (by omega)]
    simp only [Option.bind_some]
    have hso : ∀ k, k ≤ 4 → (nI (tA T 7 d) = nI k ↔ tA T 7 d = k) := fun k hk => nN_eq (by omega) (by omega)
    cases hnd : tN T d with
    | none =>
      rw [if_pos (by decide)]
      refine go _ hd.1 (Or.inr ⟨?_, rfl⟩)
      unfold fallS falls
      rw [hnd]
      simp
    | some nn =>
      have hnn := hd.2 nn hnd
      rw [if_neg (by show ¬ nI nn < 0; exact nN_neg (by omega))]
      by_cases h1d : tA T 7 d = 1
      · rw [if_pos (by rw [h1d]; rfl)]
        have hsn := (hB.2 nn (by omega)).1
        simp only [nE]
        rw [cD_so hC (d := nn) (by omega)]
        simp only [Option.bind_some]
        by_cases h2n : tA T 7 nn = 2
        · rw [if_pos (by rw [h2n]; rfl)]
          refine go 3 (by decide) (Or.inl ?_)
          unfold fallS falls
          rw [hnd, h1d]
          simp [h2n]
        · rw [if_neg (show ¬ nI (tA T 7 nn) = (2 : Int32) from fun h => h2n ((nN_eq (b := 2) (by omega) (by decide)).mp h))]
          by_cases h3n : tA T 7 nn = 3
          · rw [if_pos (by rw [h3n]; rfl)]
            refine go 3 (by decide) (Or.inl ?_)
            unfold fallS falls
            rw [hnd, h1d]
            simp [h3n]
          · rw [if_neg (show ¬ nI (tA T 7 nn) = (3 : Int32) from fun h => h3n ((nN_eq (b := 3) (by omega) (by decide)).mp h))]
            refine go _ hd.1 (Or.inr ⟨?_, rfl⟩)
            unfold fallS falls
            rw [hnd]
            simp [h2n, h3n]
      · rw [if_neg (show ¬ nI (tA T 7 d) = (1 : Int32) from fun h => h1d ((nN_eq (b := 1) (by omega) (by decide)).mp h))]
        refine go _ hd.1 (Or.inr ⟨?_, rfl⟩)
        unfold fallS falls
        simp [h1d]
theorem undo_low {T : Tw} (hI : Inv T) {d : Nat} (hd : d < tD T) : ∀ r, r ≤ d + 1 → fallF (uS T d 2) 0 r = uS T d 2 := by
  intro r
  induction r with
  | zero => intro _; rfl
  | succ r ih =>
    intro hr
    show fallS (fallF (uS T d 2) 0 r) (0 + r) = _
    rw [ih (by omega), Nat.zero_add]
    unfold fallS
    have hf : falls (uS T d 2) r = false := by
      unfold falls
      rw [uS_so, (uS_other T d 2).2.2.2.2.2.1]
      by_cases hrd : r = d
      · rw [if_pos hrd]; simp
      · rw [if_neg hrd]
        by_cases h1 : tA T 7 r = 1
        · cases hn : tN T r with
          | none => simp
          | some n =>
            have hc := (hI.2.2.1 r (by omega)).2.2.2.2.2 h1 n hn
            have hl := (hI.2.2.1 r (by omega)).2.2.2.2.1 n hn
            have e2 : tA (uS T d 2) 7 n = 1 := by rw [uS_so, if_neg (by omega), hc]
            simp [e2]
        · simp [h1]
    rw [hf]
    simp
theorem undoT_high {T : Tw} (hI : Inv T) {d : Nat} (hd : d < tD T) : undoT T d = fallF (uS T d 2) (d + 1) (tD T - (d + 1)) := by
  unfold undoT
  have : tD T = (d + 1) + (tD T - (d + 1)) := by omega
  conv => lhs; rw [this]
  rw [fallF_add, undo_low hI hd (d + 1) (Nat.le_refl _), Nat.zero_add]
theorem f_undo_eq {T : Tw} {σ : SS} (hC : simC T 0 σ) (hI : Inv T) {N d : Nat} (hN : 11 ≤ N) (hd : d < tD T) : ∃ σ', f0_undo N σ (nI d) = some σ' ∧ simC (undoT T d) 0 σ' ∧ frC σ σ' := by
  have hd6 : tD T ≤ 10 := hI.1.2.1
  unfold f0_undo
  rw [stC_n (by show d < 10; omega) (by omega)]
  simp only [Option.bind_some]
  rw [undoT_high hI hd, show nI d + (1 : Int32) = nI (d + 1) from nI_1 d]
  obtain ⟨σ', g1, g2, g3⟩ := f_undo_L (N := N) (tD T - (d + 1)) (uS T d 2) _ (d + 1) N (simC_so hC d 2) (dB_so hI.dB d (by decide)) (by show d + 1 + _ = tD T; omega) (by omega)
  exact ⟨σ', g1, g2, (frC_so σ _).tr g3⟩
/-! the model's undoing -/
theorem m_spot_so (d : Nat) : m_spot (nI d) (4 : Int32) = some (nI (26 + 5 * d + 4)) := by
  unfold m_spot
  rw [show (26 : Int32) = nI 26 from rfl, show (5 : Int32) = nI 5 from rfl, show (4 : Int32) = nI 4 from rfl, nN_mul, nN_add, nN_add]
theorem m_so_st {μ : MS} {d : Nat} (hd : d < 10) (x : Int32) : stM μ 0 (nI (26 + 5 * d + 4)) x = some (setA μ 0 (upd (μ.2 0) (26 + 5 * d + 4) x)) := stM_n (by show _ < 368; omega) (by omega)
theorem uS_same {T : Tw} {d v : Nat} (h : v = tA T 7 d) : uS T d v = T := by
  unfold uS wA uN
  have : (fun j => if j = 7 then (fun j => if j = d then v else tA T 7 j) else T.2.1 j) = T.2.1 := by
    funext j k
    by_cases hj : j = 7
    · subst hj
      rw [if_pos rfl]
      by_cases hk : k = d
      · subst hk; rw [if_pos rfl, h]; rfl
      · rw [if_neg hk]; rfl
    · rw [if_neg hj]
  rw [this]
theorem m_undo_L {N : Nat} : ∀ (r : Nat) (T : Tw) (μ : MS) (d fuel : Nat), simM T (μ.2 0) → dB T → d + r = tD T → r < fuel → ∃ μ', m_undo_L13 N fuel μ (nI d) = some μ' ∧ simM (fallF T d r) (μ'.2 0) ∧ frM μ μ' := by
  intro r
  induction r with
  | zero =>
    intro T μ d fuel hM hB h1 h2
    have hb := hB.1
    obtain ⟨n, rfl⟩ : ∃ n, fuel = n + 1 := ⟨fuel - 1, by omega⟩
    refine ⟨μ, ?_, hM, frM.rf μ⟩
    show (ldM μ 0 (5 : Int32)).bind _ = _
    rw [mF_deeds hM]
    simp only [Option.bind_some]
    rw [if_pos ((nN_le (by omega) (by omega)).mpr (by omega))]
  | succ r ih =>
    intro T μ d fuel hM hB h1 h2
    have hb := hB.1
    obtain ⟨n, rfl⟩ : ∃ n, fuel = n + 1 := ⟨fuel - 1, by omega⟩
    have hd := hB.2 d (by omega)
    have e1 : nI d + 1 = nI (d + 1) := nI_1 d
    have go : ∀ v, v ≤ 4 → fallS T d = uS T d v ∨ (fallS T d = T ∧ v = tA T 7 d) → ∃ μ', (stM μ 0 (nI (26 + 5 * d + 4)) (nI v)).bind (fun μ3 => m_undo_L13 N n μ3 (nI d + 1)) = some μ' ∧ simM (fallF T d (r + 1)) (μ'.2 0) ∧ frM μ μ' := by
      intro v hv hf
      rw [m_so_st (by omega), e1]
      simp only [Option.bind_some]
      have hs : fallF T d (r + 1) = fallF (fallS T d) (d + 1) r := by
        rw [show r + 1 = 1 + r by omega, fallF_add]
        rfl
      rw [hs]
      have hM2 : simM (fallS T d) ((setA μ 0 (upd (μ.2 0) (26 + 5 * d + 4) (nI v))).2 0) := by
        rw [setA_0]
        have := simM_so hM (d := d) (by omega) v
        rcases hf with hf | ⟨hf, hv2⟩
        · rw [hf]; exact this
        · rw [hf]
          rw [uS_same hv2] at this
          exact this
      obtain ⟨μ', g1, g2, g3⟩ := ih (fallS T d) _ (d + 1) n hM2 (fallS_dB hB d) (by rw [fallS_tD]; omega) (by omega)
      exact ⟨μ', g1, g2, (frM_so μ (by omega) _).tr g3⟩
    show ∃ μ', (ldM μ 0 (5 : Int32)).bind _ = some μ' ∧ _
    rw [mF_deeds hM]
    simp only [Option.bind_some]
    rw [if_neg (fun h => by have := (nN_le (by omega) (by omega)).mp h; omega)]
    simp only [m_spot_so]
    rw [mD_need hM (by omega), mD_so hM (by omega)]
    simp only [Option.bind_some]
    by_cases h1d : tA T 7 d = 1
    · rw [if_pos (by rw [h1d]; rfl)]
      cases hnd : tN T d with
      | none =>
        rw [if_pos (by decide)]
        refine go _ hd.1 (Or.inr ⟨?_, rfl⟩)
        unfold fallS falls
        rw [hnd]
        simp
      | some nn =>
        have hnn := hd.2 nn hnd
        have hsn := (hB.2 nn (by omega)).1
        rw [if_neg (by show ¬ nI nn < 0; exact nN_neg (by omega))]
        simp only [nE]
        rw [mD_so hM (d := nn) (by omega)]
        simp only [Option.bind_some]
        by_cases h2n : tA T 7 nn = 2
        · rw [if_pos (by rw [h2n]; rfl)]
          refine go 3 (by decide) (Or.inl ?_)
          unfold fallS falls
          rw [hnd, h1d]
          simp [h2n]
        · rw [if_neg (show ¬ nI (tA T 7 nn) = (2 : Int32) from fun h => h2n ((nN_eq (b := 2) (by omega) (by decide)).mp h))]
          by_cases h3n : tA T 7 nn = 3
          · rw [if_pos (by rw [h3n]; rfl)]
            refine go 3 (by decide) (Or.inl ?_)
            unfold fallS falls
            rw [hnd, h1d]
            simp [h3n]
          · rw [if_neg (show ¬ nI (tA T 7 nn) = (3 : Int32) from fun h => h3n ((nN_eq (b := 3) (by omega) (by decide)).mp h))]
            refine go _ hd.1 (Or.inr ⟨?_, rfl⟩)
            unfold fallS falls
            rw [hnd]
            simp [h2n, h3n]
    · rw [if_neg (show ¬ nI (tA T 7 d) = (1 : Int32) from fun h => h1d ((nN_eq (b := 1) (by omega) (by decide)).mp h))]
      refine go _ hd.1 (Or.inr ⟨?_, rfl⟩)
      unfold fallS falls
      simp [h1d]
theorem m_undo_eq {T : Tw} {μ : MS} (hM : simM T (μ.2 0)) (hI : Inv T) {N d : Nat} (hN : 11 ≤ N) (hd : d < tD T) : ∃ μ', m_undo N μ (nI d) = some μ' ∧ simM (undoT T d) (μ'.2 0) ∧ frM μ μ' := by
  have hd6 : tD T ≤ 10 := hI.1.2.1
  unfold m_undo
  rw [m_spot_so]
  simp only [Option.bind_some]
  rw [m_so_st (by omega)]
  simp only [Option.bind_some]
  obtain ⟨μ', g1, g2, g3⟩ := m_undo_L (N := N) (tD T) (uS T d 2) (setA μ 0 (upd (μ.2 0) (26 + 5 * d + 4) (nI 2))) 0 N (by rw [setA_0]; exact simM_so hM (by omega) 2) (dB_so hI.dB d (by decide)) (by show 0 + _ = tD T; omega) (by omega)
  exact ⟨μ', g1, g2, (frM_so μ (by omega) _).tr g3⟩
