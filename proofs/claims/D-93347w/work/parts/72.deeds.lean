/-! PLAIN LAW: personOf, deed, anew, loans told, reports, lots -/
set_option maxRecDepth 100000
theorem choice_same {T : Tw} {RS : Rls} {δ : DS} {σ : SS} {μ : MS} (h : cor T (tS T) RS δ σ μ) {p : Nat} (hp : p < tP T) : ∃ σ1 μ1, f0_choiceOf 1000 δ σ (nI p) = some (nC (choiceT T RS p), σ1) ∧ m_choice 1000 μ (nI p) = some (nM (choiceT T RS p), μ1) ∧ cor T (tS T) RS δ σ1 μ1 ∧ FC σ σ1 ∧ FM μ μ1 := by
  obtain ⟨σ1, g1, g2, g3⟩ := f_choice_eq h.1.1 h.2.1.1 h.2.2.1.1 h.2.2.1.2 h.2.1.2 (N := 1000) (by decide) hp
  obtain ⟨μ1, q1, q2, q3⟩ := m_choice_eq h.M h.2.1.1 h.2.2.2 h.2.1.2 (N := 1000) (by decide) hp
  exact ⟨σ1, μ1, g1, q1, cor_id g2 (by rw [q2]; exact h.M) h.2.1.1 h.2.1.2 (by rw [g3.1]; exact h.2.2.1.1) (by rw [g3.1]; exact h.2.2.1.2) (by rw [q2]; exact h.2.2.2), g3.FC, q3.FM⟩
theorem pl_1 (a b c d : Int32) (σ : SS) (δ : DS) (μ : MS) (H : Rel σ δ μ) : pLaw Rel 1 a b c d σ δ μ := by
  obtain ⟨T, RS, h⟩ := H.1
  have hC := h.1.1
  have hM := h.M
  have hI := h.2.1.1
  have hp6 : tP T ≤ 6 := hI.1.1
  rcases isP_both hC hM hI a with ⟨p, hp, rfl, e1, e2⟩ | ⟨e1, e2⟩
  · have hk := hI.2.1 p hp
    have hy : tY T ≤ 16 := Nat.le_trans hI.1.2.2.2.2.1 hI.1.2.2.2.1
    have fC : ∀ x : Option (Int32 × SS), (if b = (0 : Int32) then some (nI (tA T 0 p), σ) else (if b = (1 : Int32) then some (nI (tA T 1 p), σ) else (if b = (2 : Int32) then some (nI (tA T 2 p), σ) else (if b = (3 : Int32) then some (nI (stands T p), σ) else (if b = (4 : Int32) then some (nI (pull (tA T 0 p) (tA T 2 p) (tY T)), σ) else (if b = (5 : Int32) then (f0_choiceOf 1000 δ σ (nI p)).bind fun r9 => (if 0 ≤ r9.1 then (f0_choiceOf 1000 δ r9.2 (nI p)).bind fun r10 => some (r10.1, r10.2) else some ((10 : Int32), r9.2)) else some ((-1 : Int32), σ))))))) = x → f0_personOf 1000 δ σ (nI p) b = x := fun x hx => by
      unfold f0_personOf
      rw [e1]
      simp only [Option.bind_some, if_true]
      obtain ⟨q, hq, hq2⟩ := h.2.2.1.1 p hp
      rw [cP_kind hC (by omega), cP_grace hC (by omega), cP_strength hC (by omega), f_stands_eq hC hI (by decide) (by omega), ldN_h (j := 0) rfl (by show p < 6; omega) (by omega) hq]
      simp only [Option.bind_some]
      rw [show σ.1 3 = nI (tY T) from hC.1.2.2.2.1, hand_pull hk.1 hk.2.2.2 (by omega) hq2]
      simp only [Option.bind_some]
      exact hx
    have fM : ∀ x : Option (Int32 × MS), (if b = (0 : Int32) then some (nI (tA T 0 p), μ) else (if b = (1 : Int32) then some (nI (tA T 1 p), μ) else (if b = (2 : Int32) then some (nI (tA T 2 p), μ) else (if b = (3 : Int32) then some (nI (stands T p), μ) else (if b = (4 : Int32) then some (nI (pull (tA T 0 p) (tA T 2 p) (tY T)), μ) else (if b = (5 : Int32) then (m_choice 1000 μ (nI p)).bind fun r3 => some (r3.1, r3.2) else some ((-1 : Int32), μ))))))) = x → m_personOf 1000 μ (nI p) b = x := fun x hx => by
      unfold m_personOf
      rw [e2]
      simp only [Option.bind_some, if_true]
      rw [m_stands_eq hM hI (by decide) (by omega), m_pulls_eq hM hI hp]
      simp only [Option.bind_some]
      rcases (show (∃ n : Nat, 0 ≤ n ∧ n ≤ 5 ∧ b = nI n ∧ f0_isIn b 0 5 = some true ∧ m_in b.toInt64 0 5 = some true) ∨ (f0_isIn b 0 5 = some false ∧ m_in b.toInt64 0 5 = some false) from in_both b 0 5 (by decide) (by decide)) with ⟨n, _, hn, rfl, _, g⟩ | ⟨g0, g⟩
      · rw [g]
        simp only [Option.bind_some, if_true]
        rcases (show n = 0 ∨ n = 1 ∨ n = 2 ∨ n = 3 ∨ n = 4 ∨ n = 5 by omega) with rfl | rfl | rfl | rfl | rfl | rfl
        · rw [if_neg (by decide), show nI 0 = (0 : Int32) from rfl, mP_kind hM (by omega)]; exact hx
        · rw [if_neg (by decide), show nI 1 = (1 : Int32) from rfl, mP_grace hM (by omega)]; exact hx
        · rw [if_neg (by decide), show nI 2 = (2 : Int32) from rfl, mP_strength hM (by omega)]; exact hx
        · rw [if_pos (by decide)]; exact hx
        · rw [if_pos (by decide)]; exact hx
        · rw [if_pos (by decide)]; exact hx
      · rw [g]
        simp only [Option.bind_some, Bool.false_eq_true, if_false]
        have hb : ∀ n : Nat, n ≤ 5 → ¬ b = nI n := fun n hn q => by
          subst q
          rw [show f0_isIn (nI n) 0 5 = some (decide (¬ nI n < 0 ∧ ¬ (5 : Int32) < nI n)) from f_in_eq _ _ _] at g0
          simp only [Option.some.injEq, decide_eq_false_iff_not] at g0
          exact absurd ⟨nN_neg (by omega), fun q => by have := (nN_lt (a := 5) (b := n) (by decide) (by omega)).mp q; omega⟩ g0
        rw [if_neg (show ¬ b = (0 : Int32) from hb 0 (by decide)), if_neg (show ¬ b = (1 : Int32) from hb 1 (by decide)), if_neg (show ¬ b = (2 : Int32) from hb 2 (by decide)), if_neg (show ¬ b = (3 : Int32) from hb 3 (by decide)), if_neg (show ¬ b = (4 : Int32) from hb 4 (by decide)), if_neg (show ¬ b = (5 : Int32) from hb 5 (by decide))] at hx
        exact hx
    have key : ∀ x, f0_personOf 1000 δ σ (nI p) b = some (x, σ) → m_personOf 1000 μ (nI p) b = some (x, μ) → pLaw Rel 1 (nI p) b c d σ δ μ := fun x g1 g2 => pl_0 (r := x) (σ' := σ) (μ' := μ) (by rw [cc1, g1]; rfl) (by rw [mc1, g2]) H
    by_cases b0 : b = 0
    · exact key _ (fC _ (by rw [if_pos b0])) (fM _ (by rw [if_pos b0]))
    by_cases b1 : b = 1
    · exact key _ (fC _ (by rw [if_neg b0, if_pos b1])) (fM _ (by rw [if_neg b0, if_pos b1]))
    by_cases b2 : b = 2
    · exact key _ (fC _ (by rw [if_neg b0, if_neg b1, if_pos b2])) (fM _ (by rw [if_neg b0, if_neg b1, if_pos b2]))
    by_cases b3 : b = 3
    · exact key _ (fC _ (by rw [if_neg b0, if_neg b1, if_neg b2, if_pos b3])) (fM _ (by rw [if_neg b0, if_neg b1, if_neg b2, if_pos b3]))
    by_cases b4 : b = 4
    · exact key _ (fC _ (by rw [if_neg b0, if_neg b1, if_neg b2, if_neg b3, if_pos b4])) (fM _ (by rw [if_neg b0, if_neg b1, if_neg b2, if_neg b3, if_pos b4]))
    by_cases b5 : b = 5
    · obtain ⟨σ1, μ1, g1, g2, g3, g4, g5⟩ := choice_same h hp
      obtain ⟨σ2, μ2, q1, q2, q3, q4, q5⟩ := choice_same g3 hp
      cases hch : choiceT T RS p with
      | none =>
        refine pl_0 (r := 10) (σ' := σ1) (μ' := μ1) ?_ ?_ (Rel_cor H g4 g5 g3)
        · rw [cc1, fC _ (by rw [if_neg b0, if_neg b1, if_neg b2, if_neg b3, if_neg b4, if_pos b5, g1, hch])]
          rfl
        · rw [mc1, fM _ (by rw [if_neg b0, if_neg b1, if_neg b2, if_neg b3, if_neg b4, if_pos b5, g2, hch])]
          rfl
      | some e =>
        have he := choiceT_lt hch
        have he6 : tD T ≤ 10 := hI.1.2.1
        refine pl_0 (r := nI e) (σ' := σ2) (μ' := μ1) ?_ ?_ (Rel_cor H (g4.tr q4) g5 (cor_id q3.1.1 g3.M g3.2.1.1 g3.2.1.2 q3.2.2.1.1 q3.2.2.1.2 g3.2.2.2))
        · rw [cc1, fC _ (by rw [if_neg b0, if_neg b1, if_neg b2, if_neg b3, if_neg b4, if_pos b5, g1, hch])]
          simp only [Option.bind_some]
          rw [if_pos (show (0 : Int32) ≤ nC (some e) from by rw [← Int32.not_lt]; exact nN_neg (a := e) (by omega)), q1, hch]
          rfl
        · rw [mc1, fM _ (by rw [if_neg b0, if_neg b1, if_neg b2, if_neg b3, if_neg b4, if_pos b5, g2, hch])]
          rfl
    exact key _ (fC _ (by rw [if_neg b0, if_neg b1, if_neg b2, if_neg b3, if_neg b4, if_neg b5])) (fM _ (by rw [if_neg b0, if_neg b1, if_neg b2, if_neg b3, if_neg b4, if_neg b5]))
  · exact pl_0 (r := -1) (σ' := σ) (μ' := μ) (by rw [cc1]; unfold f0_personOf; rw [e1]; rfl) (by rw [mc1]; unfold m_personOf; rw [e2]; rfl) H
theorem setA_setA (μ : MS) (j : Nat) (f1 f2 : Nat → Int32) : setA (setA μ j f1) j f2 = setA μ j f2 := by
  unfold setA
  refine congrArg (fun z => (μ.1, z)) (funext fun k => ?_)
  dsimp only
  split <;> rfl
/-- a deed's place in the model -/
theorem simM_deedR {T : Tw} {f : Nat → Int32} (hM : simM T f) {j off d : Nat} (hj : (j = 3 ∧ off = 0) ∨ (j = 4 ∧ off = 1) ∨ (j = 5 ∧ off = 2) ∨ (j = 7 ∧ off = 4)) (hd : d < 10) (v : Nat) : simM (eA T j d v) (upd f (26 + 5 * d + off) (nI v)) := by
  obtain ⟨⟨a0, a1, a2, a3, a4, a5, a6⟩, b, c, o, r⟩ := hM
  have e : ∀ i, (i < 26 ∨ 76 ≤ i) → upd f (26 + 5 * d + off) (nI v) i = f i := fun i hi => upd_ne (by omega)
  have e2 : ∀ k, (k < 3 ∨ 8 ≤ k) → tA (eA T j d v) k = tA T k := fun k hk => eA_ne (by omega)
  refine ⟨⟨by rw [e _ (by decide)]; exact a0, by rw [e _ (by decide)]; exact a1, by rw [e _ (by decide)]; exact a2, by rw [e _ (by decide)]; exact a3, by rw [e _ (by decide)]; exact a4, by rw [e _ (by decide)]; exact a5, by rw [e _ (by decide)]; exact a6⟩, fun n hn => ?_, fun n hn => ?_, fun k hk => ?_, fun k hk => ?_⟩
  · rw [e _ (by omega), e _ (by omega), e _ (by omega), e2 0 (by decide), e2 1 (by decide), e2 2 (by decide)]; exact b n hn
  · obtain ⟨c0, c1, c2, c3, c4⟩ := c n hn
    refine ⟨rowM_eA (off' := 0) (by omega) (by decide) (by omega) c0, rowM_eA (off' := 1) (by omega) (by decide) (by omega) c1, rowM_eA (off' := 2) (by omega) (by decide) (by omega) c2, ?_, rowM_eA (off' := 4) (by omega) (by decide) (by omega) c4⟩
    rw [upd_ne (by omega)]
    exact c3
  · rw [e _ (by omega), e2 8 (by decide)]; exact o k hk
  · rw [e _ (by omega), e _ (by omega), e _ (by omega), e _ (by omega), e2 9 (by decide), e2 10 (by decide), e2 11 (by decide), e2 12 (by decide)]; exact r k hk
theorem simM_need {T : Tw} {f : Nat → Int32} (hM : simM T f) {d : Nat} (hd : d < 10) (n : Option Nat) : simM (wD T (fun k => if k = d then n else tN T k)) (upd f (26 + 5 * d + 3) (nE n)) := by
  obtain ⟨⟨a0, a1, a2, a3, a4, a5, a6⟩, b, c, o, r⟩ := hM
  have e : ∀ i, (i < 26 ∨ 76 ≤ i) → upd f (26 + 5 * d + 3) (nE n) i = f i := fun i hi => upd_ne (by omega)
  refine ⟨⟨by rw [e _ (by decide)]; exact a0, by rw [e _ (by decide)]; exact a1, by rw [e _ (by decide)]; exact a2, by rw [e _ (by decide)]; exact a3, by rw [e _ (by decide)]; exact a4, by rw [e _ (by decide)]; exact a5, by rw [e _ (by decide)]; exact a6⟩, fun k hk => ?_, fun k hk => ?_, fun k hk => ?_, fun k hk => ?_⟩
  · rw [e _ (by omega), e _ (by omega), e _ (by omega)]; exact b k hk
  · obtain ⟨c0, c1, c2, c3, c4⟩ := c k hk
    refine ⟨by rw [upd_ne (by omega)]; exact c0, by rw [upd_ne (by omega)]; exact c1, by rw [upd_ne (by omega)]; exact c2, ?_, by rw [upd_ne (by omega)]; exact c4⟩
    show _ = nE (if k = d then n else tN T k)
    by_cases hkd : k = d
    · rw [if_pos hkd, hkd, upd_at]
    · rw [if_neg hkd, upd_ne (by omega)]; exact c3
  · rw [e _ (by omega)]; exact o k hk
  · rw [e _ (by omega), e _ (by omega), e _ (by omega), e _ (by omega)]; exact r k hk
/-- a deed more -/
def newD (T : Tw) (p y w : Nat) (n : Option Nat) : Tw := wN (eA (wD (eA (eA (eA T 3 (tD T) p) 4 (tD T) y) 5 (tD T) w) (fun k => if k = tD T then n else tN T k)) 7 (tD T) 0) 1 (tD T + 1)
theorem newD_row (T : Tw) (p y w : Nat) (n : Option Nat) (j q : Nat) : tA (newD T p y w n) j q = if q = tD T ∧ j = 3 then p else if q = tD T ∧ j = 4 then y else if q = tD T ∧ j = 5 then w else if q = tD T ∧ j = 7 then 0 else tA T j q := by
  show tA (eA (wD (eA (eA (eA T 3 (tD T) p) 4 (tD T) y) 5 (tD T) w) (fun k => if k = tD T then n else tN T k)) 7 (tD T) 0) j q = _
  have e : ∀ i x, tA (wD (eA (eA (eA T 3 (tD T) p) 4 (tD T) y) 5 (tD T) w) (fun k => if k = tD T then n else tN T k)) i x = tA (eA (eA (eA T 3 (tD T) p) 4 (tD T) y) 5 (tD T) w) i x := fun _ _ => rfl
  by_cases h7 : j = 7
  · subst h7
    rw [eA_at, e, eA_ne (by decide), eA_ne (by decide), eA_ne (by decide)]
    by_cases hq : q = tD T <;> simp [hq]
  · rw [eA_ne h7, e]
    by_cases h5 : j = 5
    · subst h5
      rw [eA_at, eA_ne (by decide), eA_ne (by decide)]
      by_cases hq : q = tD T <;> simp [hq]
    · rw [eA_ne h5]
      by_cases h4 : j = 4
      · subst h4
        rw [eA_at, eA_ne (by decide)]
        by_cases hq : q = tD T <;> simp [hq]
      · rw [eA_ne h4]
        by_cases h3 : j = 3
        · subst h3
          rw [eA_at]
          by_cases hq : q = tD T <;> simp [hq]
        · rw [eA_ne h3]
          simp [h3, h4, h5, h7]
theorem newD_o (T : Tw) (p y w : Nat) (n : Option Nat) {j : Nat} (hj : j ≠ 3 ∧ j ≠ 4 ∧ j ≠ 5 ∧ j ≠ 7) : tA (newD T p y w n) j = tA T j := by
  funext q
  rw [newD_row]
  simp [hj.1, hj.2.1, hj.2.2.1, hj.2.2.2]
theorem newD_lt {T : Tw} (p y w : Nat) (n : Option Nat) {q : Nat} (hq : q ≠ tD T) (j : Nat) : tA (newD T p y w n) j q = tA T j q := by
  rw [newD_row]
  simp [hq]
theorem Inv_newD {T : Tw} (hI : Inv T) (hd : tD T < 10) {p y w : Nat} {n : Option Nat} (hp : p < tP T) (hy : y ≤ 15) (hw : 1 ≤ w ∧ w ≤ 9) (hn : ∀ k, n = some k → k < tD T) : Inv (newD T p y w n) := by
  obtain ⟨⟨a1, a2, a3, a4, a5, a6⟩, b, c, o, r⟩ := hI
  have eD : tD (newD T p y w n) = tD T + 1 := wN_at _ 1 _
  have eN : ∀ j, j ≠ 1 → (newD T p y w n).1 j = T.1 j := fun j hj => wN_ne hj
  have eP : tP (newD T p y w n) = tP T := eN 0 (by decide)
  have eW : ∀ k, tN (newD T p y w n) k = if k = tD T then n else tN T k := fun k => rfl
  refine ⟨⟨by rw [eP]; exact a1, by rw [eD]; omega, by rw [show tE (newD T p y w n) = tE T from eN 2 (by decide)]; exact a3, by rw [show tE (newD T p y w n) = tE T from eN 2 (by decide)]; exact a4, by rw [show tE (newD T p y w n) = tE T from eN 2 (by decide), show tY (newD T p y w n) = tY T from eN 3 (by decide)]; exact a5, by rw [show tR (newD T p y w n) = tR T from eN 5 (by decide)]; exact a6⟩, fun q hq => ?_, fun d hd' => ?_, fun i hi => ?_, fun i hi => ?_⟩
  · rw [eP] at hq
    rw [newD_o T p y w n (j := 0) (by decide), newD_o T p y w n (j := 1) (by decide), newD_o T p y w n (j := 2) (by decide)]
    exact b q hq
  · rw [eD] at hd'
    rw [eP]
    by_cases e : d = tD T
    · subst e
      refine ⟨?_, ?_, ?_, ?_, ?_, ?_⟩
      · rw [newD_row, if_pos ⟨rfl, rfl⟩]; exact hp
      · rw [newD_row, if_neg (by omega), if_pos ⟨rfl, rfl⟩]; exact hy
      · rw [newD_row, if_neg (by omega), if_neg (by omega), if_pos ⟨rfl, rfl⟩]; exact hw
      · rw [newD_row, if_neg (by omega), if_neg (by omega), if_neg (by omega), if_pos ⟨rfl, rfl⟩]; exact Nat.zero_le _
      · intro k hk
        rw [eW, if_pos rfl] at hk
        exact hn k hk
      · intro h1
        rw [newD_row, if_neg (by omega), if_neg (by omega), if_neg (by omega), if_pos ⟨rfl, rfl⟩] at h1
        omega
    · have hc := c d (by omega)
      rw [newD_lt p y w n e, newD_lt p y w n e, newD_lt p y w n e, newD_lt p y w n e, eW, if_neg e]
      refine ⟨hc.1, hc.2.1, hc.2.2.1, hc.2.2.2.1, hc.2.2.2.2.1, fun h1 k hk => ?_⟩
      have hkd := hc.2.2.2.2.1 k hk
      rw [newD_lt p y w n (show k ≠ tD T by omega)]
      exact hc.2.2.2.2.2 h1 k hk
  · rw [newD_o T p y w n (j := 8) (by decide), eP]; exact o i hi
  · rw [newD_o T p y w n (j := 9) (by decide), newD_o T p y w n (j := 10) (by decide), newD_o T p y w n (j := 11) (by decide), newD_o T p y w n (j := 12) (by decide)]; exact r i hi
theorem m_spot_eq (d k : Nat) : m_spot (nI d) (nI k) = some (nI (26 + 5 * d + k)) := by
  unfold m_spot
  rw [show (26 : Int32) = nI 26 from rfl, show (5 : Int32) = nI 5 from rfl, nN_mul, nN_add, nN_add]
theorem deed_end {a b c d : Int32} {σ : SS} {δ : DS} {μ : MS} (H : Rel σ δ μ) {T : Tw} {RS : Rls} (h : cor T (tS T) RS δ σ μ) {p y w : Nat} {n : Option Nat} (hp : p < tP T) (hy : y ≤ 15) (hw : 1 ≤ w ∧ w ≤ 9) (hn : ∀ k, n = some k → k < tD T) (g1 : f0_deed σ a b c d = f0_deed_B42 σ (nI p) (nI y) (nI w) (nE n)) (g2 : m_deed μ a b c d = m_deed_B49 μ (nI p) (nI y) (nI w) (nE n)) : pLaw Rel 4 a b c d σ δ μ := by
  have hC := h.1.1
  have hM := h.M
  have hI := h.2.1.1
  have hd10 : tD T ≤ 10 := hI.1.2.1
  have hy16 : tY T ≤ 16 := Nat.le_trans hI.1.2.2.2.2.1 hI.1.2.2.2.1
  have hcD : σ.1 1 = nI (tD T) := hC.1.2.1
  have hcY : σ.1 3 = nI (tY T) := hC.1.2.2.2.1
  unfold f0_deed_B42 at g1
  unfold m_deed_B49 at g2
  rw [hcD, hcY] at g1
  rw [mF_deeds hM, mF_year hM] at g2
  simp only [Option.bind_some] at g2
  by_cases hf : tD T = 10
  · rw [if_pos (show nI (tD T) = (10 : Int32) by rw [hf]; rfl)] at g1 g2
    exact pl_0 (r := -2) (σ' := σ) (μ' := μ) (by rw [cc4, g1]; rfl) (by rw [mc4, g2]) H
  · have hnf : ¬ nI (tD T) = (10 : Int32) := fun q => hf ((nN_eq (b := 10) (by omega) (by decide)).mp q)
    rw [if_neg hnf] at g1 g2
    by_cases hl : tY T ≤ y
    · rw [if_pos ((nN_le (by omega) (by omega)).mpr hl)] at g1 g2
      have c1 := simC_eA hC (j := 3) (by decide) (tD T) p
      have c2 := simC_eA c1 (j := 4) (by decide) (tD T) y
      have c3 := simC_eA c2 (j := 5) (by decide) (tD T) w
      have c4 := simC_need c3 (tD T) n
      have c5 := simC_eA c4 (j := 7) (by decide) (tD T) 0
      have c6 := simC_wN c5 1 (tD T + 1) (by decide)
      have s1 := simM_deedR hM (j := 3) (off := 0) (d := tD T) (by decide) (by omega) p
      have s2 := simM_deedR s1 (j := 4) (off := 1) (d := tD T) (by decide) (by omega) y
      have s3 := simM_deedR s2 (j := 5) (off := 2) (d := tD T) (by decide) (by omega) w
      have s4 := simM_need s3 (d := tD T) (by omega) n
      have s5 := simM_deedR s4 (j := 7) (off := 4) (d := tD T) (by decide) (by omega) 0
      have s6 := simM_num s5 (k := 1) (m := 5) (by decide) (tD T + 1)
      refine pl_0 (r := nI (tD T)) ?_ ?_ (Rel_cor H (T := newD T p y w n) (RS := RS) (σ' := sI _ 1 (nI (tD T + 1))) (μ' := setA μ 0 (upd _ 5 (nI (tD T + 1)))) ((((((FC_sA (by decide)).tr (FC_sA (by decide))).tr (FC_sA (by decide))).tr (FC_sA (by decide))).tr (FC_sA (by decide))).tr (FC_sI (by decide))) (FM_sA (by decide)) (cor_up h c6 (by rw [setA_at]; exact s6) (Inv_newD hI (by omega) hp hy hw hn) (wN_ne (by decide)) (newD_o T p y w n (by decide)) (newD_o T p y w n (by decide)) rfl (fun i _ hi => by rw [setA_at, upd_ne (by omega), upd_ne (by omega), upd_ne (by omega), upd_ne (by omega), upd_ne (by omega), upd_ne (by omega)])))
      · rw [cc4, g1, cS_at (by show tD T < 10; omega) (by omega)]
        simp only [Option.bind_some]
        rw [cS_at (by show tD T < 10; omega) (by omega)]
        simp only [Option.bind_some]
        rw [cS_at (by show tD T < 10; omega) (by omega)]
        simp only [Option.bind_some]
        rw [cS_at (by show tD T < 10; omega) (by omega)]
        simp only [Option.bind_some]
        rw [cS_at (by show tD T < 10; omega) (by omega)]
        simp only [Option.bind_some]
        rw [show ∀ v x y z u : Nat → Int32, (sA (sA (sA (sA (sA σ 3 v) 4 x) 5 y) 6 z) 7 u).1 1 = nI (tD T) from fun _ _ _ _ _ => hcD, show nI (tD T) + (1 : Int32) = nI (tD T + 1) from nI_1 _]
        rfl
      · rw [mc4, g2, show (0 : Int32) = nI 0 from rfl, show (1 : Int32) = nI 1 from rfl, show (2 : Int32) = nI 2 from rfl, show (3 : Int32) = nI 3 from rfl, show (4 : Int32) = nI 4 from rfl, show (5 : Int32) = nI 5 from rfl]
        simp only [m_spot_eq, Option.bind_some]
        rw [mS_at (by omega)]
        simp only [Option.bind_some]
        rw [mS_at (by omega), setA_at, setA_setA]
        simp only [Option.bind_some]
        rw [mS_at (by omega), setA_at, setA_setA]
        simp only [Option.bind_some]
        rw [mS_at (by omega), setA_at, setA_setA]
        simp only [Option.bind_some]
        rw [mS_at (by omega), setA_at, setA_setA]
        simp only [Option.bind_some]
        rw [mF_at (by omega), setA_at]
        simp only [Option.bind_some]
        rw [mS_at (by omega), setA_at, setA_setA, upd_ne (by omega), upd_ne (by omega), upd_ne (by omega), upd_ne (by omega), upd_ne (by omega), hM.1.2.2.2.2.1, nN_add]
        rfl
    · rw [if_neg (fun q => hl ((nN_le (by omega) (by omega)).mp q))] at g1 g2
      exact pl_0 (r := -4) (σ' := σ) (μ' := μ) (by rw [cc4, g1]; rfl) (by rw [mc4, g2]) H
theorem pl_4 (a b c d : Int32) (σ : SS) (δ : DS) (μ : MS) (H : Rel σ δ μ) : pLaw Rel 4 a b c d σ δ μ := by
  obtain ⟨T, RS, h⟩ := H.1
  have hC := h.1.1
  have hM := h.M
  have hI := h.2.1.1
  rcases isP_both hC hM hI a with ⟨p, hp, rfl, e1, e2⟩ | ⟨e1, e2⟩
  · rcases in_0_15 b with ⟨y, -, hy, rfl, e3, e4⟩ | ⟨e3, e4⟩
    · rcases part_both c with ⟨w, hw1, hw2, rfl, e5, e6⟩ | ⟨e5, e6⟩
      · have fC : f0_deed σ (nI p) (nI y) (nI w) d = if d = (-1 : Int32) then f0_deed_B42 σ (nI p) (nI y) (nI w) d else (f0_isDeed σ d).bind fun r4 => (if r4 = true then f0_deed_B42 σ (nI p) (nI y) (nI w) d else some ((-1 : Int32), σ)) := by
          unfold f0_deed
          rw [e1]
          simp only [Option.bind_some, if_true]
          rw [e3]
          simp only [Option.bind_some, if_true]
          rw [e5]
          simp only [Option.bind_some, if_true]
        have fM : m_deed μ (nI p) (nI y) (nI w) d = if d = (-1 : Int32) then m_deed_B49 μ (nI p) (nI y) (nI w) d else (m_isDeed μ d).bind fun r4 => (if r4 = true then m_deed_B49 μ (nI p) (nI y) (nI w) d else some ((-1 : Int32), μ)) := by
          unfold m_deed
          rw [e2]
          simp only [Option.bind_some, if_true]
          rw [e4]
          simp only [Option.bind_some, if_true]
          rw [e6]
          simp only [Option.bind_some, if_true]
        by_cases hd : d = -1
        · refine deed_end H h (n := none) hp hy ⟨hw1, hw2⟩ (fun k hk => by cases hk) ?_ ?_
          · rw [fC, if_pos hd, hd]; rfl
          · rw [fM, if_pos hd, hd]; rfl
        · rcases isD_both hC hM hI d with ⟨n, hn, rfl, e7, e8⟩ | ⟨e7, e8⟩
          · refine deed_end H h (n := some n) hp hy ⟨hw1, hw2⟩ (fun k hk => by cases hk; exact hn) ?_ ?_
            · rw [fC, if_neg hd, e7]; rfl
            · rw [fM, if_neg hd, e8]; rfl
          · exact pl_0 (r := -1) (σ' := σ) (μ' := μ) (by rw [cc4, fC, if_neg hd, e7]; rfl) (by rw [mc4, fM, if_neg hd, e8]; rfl) H
      · exact pl_0 (r := -1) (σ' := σ) (μ' := μ) (by rw [cc4]; unfold f0_deed; rw [e1]; simp only [Option.bind_some, if_true]; rw [e3]; simp only [Option.bind_some, if_true]; rw [e5]; rfl) (by rw [mc4]; unfold m_deed; rw [e2]; simp only [Option.bind_some, if_true]; rw [e4]; simp only [Option.bind_some, if_true]; rw [e6]; rfl) H
    · exact pl_0 (r := -1) (σ' := σ) (μ' := μ) (by rw [cc4]; unfold f0_deed; rw [e1]; simp only [Option.bind_some, if_true]; rw [e3]; rfl) (by rw [mc4]; unfold m_deed; rw [e2]; simp only [Option.bind_some, if_true]; rw [e4]; rfl) H
  · exact pl_0 (r := -1) (σ' := σ) (μ' := μ) (by rw [cc4]; unfold f0_deed; rw [e1]; rfl) (by rw [mc4]; unfold m_deed; rw [e2]; rfl) H
