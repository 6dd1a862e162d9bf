/-! PLAIN LAW: people: person, change, remake, personOf -/
set_option maxRecDepth 100000
theorem cS_at {σ : SS} {j i : Nat} {x : Int32} (h : i < lenC j) (hi : i < 1000) : stC σ j (nI i) x = some (sA σ j (upd (σ.2.1 j) i x)) := stC_n h (by omega)
/-- a person made anew: all of the relation -/
theorem renew_rel {T : Tw} {RS : Rls} {δ : DS} {σ : SS} {μ : MS} (hC : simC T 0 σ) (hM : simM T (μ.2 0)) (hI : Inv T) (hRI : rulI RS) (hR : rulC δ (σ.2.2.1 0) RS) (hRM : rulM (μ.2 0) RS) (hf : fresh δ) {p : Nat} (hp : p < tP T) (hH : ∀ p', p' < tP T → p' ≠ p → ∃ q, σ.2.2.2 0 p' = some q ∧ isHand δ q (tA T 0 p') p' (tA T 1 p')) : ∃ σ' δ', dMonV δ (f0_renew σ δ (nI p)) = some (σ', δ') ∧ cor T (tS T) RS δ' σ' μ ∧ FC σ σ' ∧ F2 σ σ' ∧ exA δ δ' ∧ fresh δ' ∧ δ'.2 = δ.2 + 1 ∧ σ'.1 = σ.1 ∧ σ'.2.1 = σ.2.1 ∧ σ'.2.2.1 = σ.2.2.1 := by
  have hp6 : tP T ≤ 6 := hI.1.1
  have hk := (hI.2.1 p hp).1
  have hl : δ.2 ≤ (dAdd δ (6 + tA T 0 p) [.int (nI p), .int (nI (tA T 1 p))]).2 := Nat.le_succ _
  have hE := exA_add δ (6 + tA T 0 p) [.int (nI p), .int (nI (tA T 1 p))]
  refine ⟨_, _, dMonV_eq (renew_eq hC hf (by omega) hk) hl, ?_, ⟨fun _ _ => rfl, fun _ _ => rfl, fun _ _ _ => rfl, rfl⟩, ⟨fun _ _ => rfl, fun _ _ => rfl, rfl⟩, hE, fresh_add hf _ _, rfl, rfl, rfl, rfl⟩
  refine cor_id hC hM hI hRI (fun p' hp' => ?_) (rulC_ext hE.ext hR) hRM
  by_cases e : p' = p
  · subst e
    exact ⟨δ.2, if_pos rfl, isHand_add hf _ _ _⟩
  · obtain ⟨q, g1, g2⟩ := hH p' hp' e
    refine ⟨q, ?_, isHand_ex hE g2⟩
    show va_up (σ.2.2.2 0) p (some δ.2) p' = some q
    unfold va_up
    rw [if_neg e]
    exact g1
/-- the end of a call that makes a person anew -/
theorem pl_renew {k : Nat} {a b c d : Int32} {σ σ1 : SS} {δ : DS} {μ μ1 : MS} {T : Tw} {RS : Rls} {r : Int32} (H : Rel σ δ μ) (hC : simC T 0 σ1) (hM : simM T (μ1.2 0)) (hI : Inv T) (hRI : rulI RS) (hR : rulC δ (σ1.2.2.1 0) RS) (hRM : rulM (μ1.2 0) RS) {p : Nat} (hp : p < tP T) (hH : ∀ p', p' < tP T → p' ≠ p → ∃ q, σ1.2.2.2 0 p' = some q ∧ isHand δ q (tA T 0 p') p' (tA T 1 p')) (fC : FC σ σ1) (fM : FM μ μ1) (g1 : ∀ σ' δ', dMonV δ (f0_renew σ1 δ (nI p)) = some (σ', δ') → cCall k a b c d σ δ = some (r, σ', δ')) (g2 : mCall k a b c d μ = some (r, μ1)) : pLaw Rel k a b c d σ δ μ := by
  have hf := H.2.2.2.2.2
  obtain ⟨σ', δ', e1, e2, e3, -, e4, e5, e6, -⟩ := renew_rel hC hM hI hRI hR hRM hf hp hH
  exact pl_d (g1 σ' δ' e1) g2 ⟨⟨T, RS, e2⟩, RelX_cg H.2 (fC.tr e3) fM e4 e5⟩ (by omega) (by omega)
theorem hH_of {T U : Tw} {δ : DS} {hf : Nat → Option Nat} (h : hnd δ hf T) {p : Nat} (e1 : tP U ≤ tP T ∨ (tP U = p + 1 ∧ p = tP T)) (e2 : ∀ q, q ≠ p → tA U 0 q = tA T 0 q ∧ tA U 1 q = tA T 1 q) : ∀ p', p' < tP U → p' ≠ p → ∃ q, hf p' = some q ∧ isHand δ q (tA U 0 p') p' (tA U 1 p') := by
  intro p' h1 h2
  obtain ⟨g1, g2⟩ := e2 p' h2
  rw [g1, g2]
  exact h p' (by omega)
theorem Inv_eA012 {T : Tw} (hI : Inv T) {j p v : Nat} (hj : (j = 0 ∧ 1 ≤ v ∧ v ≤ 5) ∨ (j = 1 ∧ 1 ≤ v ∧ v ≤ 9) ∨ (j = 2 ∧ 1 ≤ v ∧ v ≤ 9)) : Inv (eA T j p v) := by
  obtain ⟨a, b, c, o, r⟩ := hI
  have e2 : ∀ k, 3 ≤ k → tA (eA T j p v) k = tA T k := fun k hk => eA_ne (by omega)
  refine ⟨a, fun q hq => ?_, fun d hd => ?_, fun k hk => ?_, fun k hk => ?_⟩
  · have hb := b q hq
    rcases hj with ⟨rfl, h1, h2⟩ | ⟨rfl, h1, h2⟩ | ⟨rfl, h1, h2⟩
    · rw [eA_at, eA_ne (show 1 ≠ 0 by decide), eA_ne (show 2 ≠ 0 by decide)]
      refine ⟨?_, hb.2⟩
      split
      · exact ⟨h1, h2⟩
      · exact hb.1
    · rw [eA_at, eA_ne (show 0 ≠ 1 by decide), eA_ne (show 2 ≠ 1 by decide)]
      refine ⟨hb.1, ?_, hb.2.2⟩
      split
      · exact ⟨h1, h2⟩
      · exact hb.2.1
    · rw [eA_at, eA_ne (show 0 ≠ 2 by decide), eA_ne (show 1 ≠ 2 by decide)]
      refine ⟨hb.1, hb.2.1, ?_⟩
      split
      · exact ⟨h1, h2⟩
      · exact hb.2.2
  · rw [e2 3 (by decide), e2 4 (by decide), e2 5 (by decide), e2 7 (by decide)]; exact c d hd
  · rw [e2 8 (by decide)]; exact o k hk
  · rw [e2 9 (by decide), e2 10 (by decide), e2 11 (by decide), e2 12 (by decide)]; exact r k hk
theorem m_at_eq (p k : Nat) : m_at (nI p) (nI k) = some (nI (8 + 3 * p + k)) := by
  unfold m_at
  rw [show (8 : Int32) = nI 8 from rfl, show (3 : Int32) = nI 3 from rfl, nN_mul, nN_add, nN_add]
theorem pl_2 (a b c d : Int32) (σ : SS) (δ : DS) (μ : MS) (H : Rel σ δ μ) : pLaw Rel 2 a b c d σ δ μ := by
  obtain ⟨T, RS, h⟩ := H.1
  have hC := h.1.1
  have hM := h.M
  have hI := h.2.1.1
  have hp6 : tP T ≤ 6 := hI.1.1
  rcases isP_both hC hM hI a with ⟨p, hp, rfl, e1, e2⟩ | ⟨e1, e2⟩
  · rcases in_1_2 b with ⟨w, hw1, hw2, rfl, e3, e4⟩ | ⟨e3, e4⟩
    · rcases part_both c with ⟨v, hv1, hv2, rfl, e5, e6⟩ | ⟨e5, e6⟩
      · have hm : m_change μ (nI p) (nI w) (nI v) = some (μ.2 0 (8 + 3 * p + w), setA μ 0 (upd (μ.2 0) (8 + 3 * p + w) (nI v))) := by
          unfold m_change
          rw [e2]
          simp only [Option.bind_some, if_true]
          rw [e4]
          simp only [Option.bind_some, if_true]
          rw [e6]
          simp only [Option.bind_some, if_true]
          rw [m_at_eq]
          simp only [Option.bind_some]
          rw [m_bec (by omega)]
          rfl
        have hI' : Inv (eA T w p v) := Inv_eA012 hI (by omega)
        have hrow : μ.2 0 (8 + 3 * p + w) = nI (tA T w p) := by
          obtain ⟨b0, b1, b2⟩ := hM.2.1 p (by omega)
          rcases (show w = 1 ∨ w = 2 by omega) with rfl | rfl
          · exact b1
          · exact b2
        have hrC : σ.2.1 w p = nI (tA T w p) := by
          obtain ⟨b0, b1, b2⟩ := hC.2.1 p (by omega)
          rcases (show w = 1 ∨ w = 2 by omega) with rfl | rfl
          · exact b1
          · exact b2
        refine pl_renew (T := eA T w p v) (RS := RS) (σ1 := sA σ w (upd (σ.2.1 w) p (nI v))) (μ1 := setA μ 0 (upd (μ.2 0) (8 + 3 * p + w) (nI v))) (r := nI (tA T w p)) H (simC_eA hC (by omega) p v) (by rw [setA_at]; exact simM_person hM (by omega) (by omega) v) hI' h.2.1.2 h.2.2.1.2 (by rw [setA_at]; exact rulM_cg h.2.2.2 h.2.1.2 (fun i _ hi => upd_ne (by omega))) hp (hH_of h.2.2.1.1 (Or.inl (Nat.le_refl _)) (fun q hq => ?_)) (FC_sA (by omega)) (FM_sA (by decide)) (fun σ' δ' g => ?_) (by rw [mc2, hm, hrow])
        · rcases (show w = 1 ∨ w = 2 by omega) with rfl | rfl
          · rw [eA_ne (show 0 ≠ 1 by decide), eA_at, if_neg hq]; exact ⟨rfl, rfl⟩
          · rw [eA_ne (show 0 ≠ 2 by decide), eA_ne (show 1 ≠ 2 by decide)]; exact ⟨rfl, rfl⟩
        · rw [cc2]
          unfold f0_change
          rw [e1]
          simp only [Option.bind_some, if_true]
          rw [e3]
          simp only [Option.bind_some, if_true]
          rw [e5]
          simp only [Option.bind_some, if_true]
          rcases (show w = 1 ∨ w = 2 by omega) with rfl | rfl
          · rw [if_pos (show nI 1 = (1 : Int32) from rfl), ldC_n (by show p < 6; omega) (by omega), cS_at (by show p < 6; omega) (by omega)]
            simp only [Option.bind_some]
            rw [g, hrC]
            rfl
          · rw [if_neg (show ¬ nI 2 = (1 : Int32) by decide), ldC_n (by show p < 6; omega) (by omega), cS_at (by show p < 6; omega) (by omega)]
            simp only [Option.bind_some]
            rw [g, hrC]
            rfl
      · exact pl_0 (r := -1) (σ' := σ) (μ' := μ) (by rw [cc2]; unfold f0_change; rw [e1]; simp only [Option.bind_some, if_true]; rw [e3]; simp only [Option.bind_some, if_true]; rw [e5]; rfl) (by rw [mc2]; unfold m_change; rw [e2]; simp only [Option.bind_some, if_true]; rw [e4]; simp only [Option.bind_some, if_true]; rw [e6]; rfl) H
    · exact pl_0 (r := -1) (σ' := σ) (μ' := μ) (by rw [cc2]; unfold f0_change; rw [e1]; simp only [Option.bind_some, if_true]; rw [e3]; rfl) (by rw [mc2]; unfold m_change; rw [e2]; simp only [Option.bind_some, if_true]; rw [e4]; rfl) H
  · exact pl_0 (r := -1) (σ' := σ) (μ' := μ) (by rw [cc2]; unfold f0_change; rw [e1]; rfl) (by rw [mc2]; unfold m_change; rw [e2]; rfl) H
theorem pl_3 (a b c d : Int32) (σ : SS) (δ : DS) (μ : MS) (H : Rel σ δ μ) : pLaw Rel 3 a b c d σ δ μ := by
  obtain ⟨T, RS, h⟩ := H.1
  have hC := h.1.1
  have hM := h.M
  have hI := h.2.1.1
  have hp6 : tP T ≤ 6 := hI.1.1
  rcases isP_both hC hM hI a with ⟨p, hp, rfl, e1, e2⟩ | ⟨e1, e2⟩
  · rcases kind_both b with ⟨v, hv1, hv2, rfl, e3, e4⟩ | ⟨e3, e4⟩
    · have hm : m_remake μ (nI p) (nI v) = some (μ.2 0 (8 + 3 * p + 0), setA μ 0 (upd (μ.2 0) (8 + 3 * p + 0) (nI v))) := by
        unfold m_remake
        rw [e2]
        simp only [Option.bind_some, if_true]
        rw [e4]
        simp only [Option.bind_some, if_true]
        rw [show (0 : Int32) = nI 0 from rfl, m_at_eq]
        simp only [Option.bind_some]
        rw [m_bec (by omega)]
        rfl
      have hI' : Inv (eA T 0 p v) := Inv_eA012 hI (by omega)
      have hrow : μ.2 0 (8 + 3 * p + 0) = nI (tA T 0 p) := (hM.2.1 p (by omega)).1
      have hrC : σ.2.1 0 p = nI (tA T 0 p) := (hC.2.1 p (by omega)).1
      refine pl_renew (T := eA T 0 p v) (RS := RS) (σ1 := sA σ 0 (upd (σ.2.1 0) p (nI v))) (μ1 := setA μ 0 (upd (μ.2 0) (8 + 3 * p + 0) (nI v))) (r := nI (tA T 0 p)) H (simC_eA hC (by omega) p v) (by rw [setA_at]; exact simM_person hM (by omega) (by omega) v) hI' h.2.1.2 h.2.2.1.2 (by rw [setA_at]; exact rulM_cg h.2.2.2 h.2.1.2 (fun i _ hi => upd_ne (by omega))) hp (hH_of h.2.2.1.1 (Or.inl (Nat.le_refl _)) (fun q hq => ?_)) (FC_sA (by omega)) (FM_sA (by decide)) (fun σ' δ' g => ?_) (by rw [mc3, hm, hrow])
      · rw [eA_ne (show 1 ≠ 0 by decide), eA_at, if_neg hq]; exact ⟨rfl, rfl⟩
      · rw [cc3]
        unfold f0_remake
        rw [e1]
        simp only [Option.bind_some, if_true]
        rw [e3]
        simp only [Option.bind_some, if_true]
        rw [ldC_n (by show p < 6; omega) (by omega), cS_at (by show p < 6; omega) (by omega)]
        simp only [Option.bind_some]
        rw [g, hrC]
        rfl
    · exact pl_0 (r := -1) (σ' := σ) (μ' := μ) (by rw [cc3]; unfold f0_remake; rw [e1]; simp only [Option.bind_some, if_true]; rw [e3]; rfl) (by rw [mc3]; unfold m_remake; rw [e2]; simp only [Option.bind_some, if_true]; rw [e4]; rfl) H
  · exact pl_0 (r := -1) (σ' := σ) (μ' := μ) (by rw [cc3]; unfold f0_remake; rw [e1]; rfl) (by rw [mc3]; unfold m_remake; rw [e2]; rfl) H
/-- a person more -/
def newP (T : Tw) (k g s : Nat) : Tw := wN (eA (eA (eA T 0 (tP T) k) 1 (tP T) g) 2 (tP T) s) 0 (tP T + 1)
theorem newP_row (T : Tw) (k g s j q : Nat) : tA (newP T k g s) j q = if q = tP T ∧ j = 0 then k else if q = tP T ∧ j = 1 then g else if q = tP T ∧ j = 2 then s else tA T j q := by
  show tA (eA (eA (eA T 0 (tP T) k) 1 (tP T) g) 2 (tP T) s) j q = _
  by_cases h2 : j = 2
  · subst h2
    rw [eA_at, eA_ne (by decide), eA_ne (by decide)]
    by_cases hq : q = tP T <;> simp [hq]
  · rw [eA_ne h2]
    by_cases h1 : j = 1
    · subst h1
      rw [eA_at, eA_ne (by decide)]
      by_cases hq : q = tP T <;> simp [hq]
    · rw [eA_ne h1]
      by_cases h0 : j = 0
      · subst h0
        rw [eA_at]
        by_cases hq : q = tP T <;> simp [hq]
      · rw [eA_ne h0]
        simp [h0, h1, h2]
theorem newP_hi (T : Tw) (k g s : Nat) {j : Nat} (hj : 3 ≤ j) : tA (newP T k g s) j = tA T j := by
  funext q
  rw [newP_row, if_neg (by omega), if_neg (by omega), if_neg (by omega)]
theorem Inv_newP {T : Tw} (hI : Inv T) (hp : tP T < 6) {k g s : Nat} (hk : 1 ≤ k ∧ k ≤ 5) (hg : 1 ≤ g ∧ g ≤ 9) (hs : 1 ≤ s ∧ s ≤ 9) : Inv (newP T k g s) := by
  obtain ⟨⟨a1, a2, a3, a4, a5, a6⟩, b, c, o, r⟩ := hI
  have eP : tP (newP T k g s) = tP T + 1 := wN_at _ 0 _
  have eN : ∀ j, j ≠ 0 → (newP T k g s).1 j = T.1 j := fun j hj => wN_ne hj
  have eD : tD (newP T k g s) = tD T := eN 1 (by decide)
  refine ⟨⟨by rw [eP]; omega, by rw [eD]; exact a2, by rw [show tE (newP T k g s) = tE T from eN 2 (by decide)]; exact a3, by rw [show tE (newP T k g s) = tE T from eN 2 (by decide)]; exact a4, by rw [show tE (newP T k g s) = tE T from eN 2 (by decide), show tY (newP T k g s) = tY T from eN 3 (by decide)]; exact a5, by rw [show tR (newP T k g s) = tR T from eN 5 (by decide)]; exact a6⟩, fun q hq => ?_, fun d hd => ?_, fun i hi => ?_, fun i hi => ?_⟩
  · rw [eP] at hq
    rw [newP_row, newP_row, newP_row]
    by_cases e : q = tP T
    · rw [if_pos ⟨e, rfl⟩, if_neg (by omega), if_pos ⟨e, rfl⟩, if_neg (by omega), if_neg (by omega), if_pos ⟨e, rfl⟩]
      exact ⟨hk, hg, hs⟩
    · rw [if_neg (fun x => e x.1), if_neg (fun x => e x.1), if_neg (fun x => e x.1), if_neg (fun x => e x.1), if_neg (fun x => e x.1), if_neg (fun x => e x.1), if_neg (fun x => e x.1), if_neg (fun x => e x.1), if_neg (fun x => e x.1)]
      exact b q (by omega)
  · rw [eD] at hd
    have hc := c d hd
    rw [newP_hi T k g s (show 3 ≤ 3 by decide), newP_hi T k g s (show 3 ≤ 4 by decide), newP_hi T k g s (show 3 ≤ 5 by decide), newP_hi T k g s (show 3 ≤ 7 by decide), eP]
    exact ⟨by omega, hc.2.1, hc.2.2.1, hc.2.2.2.1, hc.2.2.2.2⟩
  · rw [newP_hi T k g s (show 3 ≤ 8 by decide), eP]
    have ho := o i hi
    exact ⟨ho.1, fun q => ho.2 (by omega)⟩
  · rw [newP_hi T k g s (show 3 ≤ 9 by decide), newP_hi T k g s (show 3 ≤ 10 by decide), newP_hi T k g s (show 3 ≤ 11 by decide), newP_hi T k g s (show 3 ≤ 12 by decide)]
    exact r i hi
theorem pl_0c (a b c d : Int32) (σ : SS) (δ : DS) (μ : MS) (H : Rel σ δ μ) : pLaw Rel 0 a b c d σ δ μ := by
  obtain ⟨T, RS, h⟩ := H.1
  have hC := h.1.1
  have hM := h.M
  have hI := h.2.1.1
  have hp6 : tP T ≤ 6 := hI.1.1
  rcases kind_both a with ⟨k, hk1, hk2, rfl, e1, e2⟩ | ⟨e1, e2⟩
  · rcases part_both b with ⟨g, hg1, hg2, rfl, e3, e4⟩ | ⟨e3, e4⟩
    · rcases part_both c with ⟨s, hs1, hs2, rfl, e5, e6⟩ | ⟨e5, e6⟩
      · have hc0 : σ.1 0 = nI (tP T) := hC.1.1
        by_cases hfull : tP T = 6
        · refine pl_0 (r := -2) (σ' := σ) (μ' := μ) ?_ ?_ H
          · rw [cc0]
            unfold f0_person
            rw [e1]
            simp only [Option.bind_some, if_true]
            rw [e3]
            simp only [Option.bind_some, if_true]
            rw [e5]
            simp only [Option.bind_some, if_true]
            rw [hc0, if_pos (show nI (tP T) = (6 : Int32) by rw [hfull]; rfl)]
          · rw [mc0]
            unfold m_person
            rw [e2]
            simp only [Option.bind_some, if_true]
            rw [e4]
            simp only [Option.bind_some, if_true]
            rw [e6]
            simp only [Option.bind_some, if_true]
            rw [mF_people hM]
            simp only [Option.bind_some]
            rw [if_pos (show nI (tP T) = (6 : Int32) by rw [hfull]; rfl)]
        · have hnf : ¬ nI (tP T) = (6 : Int32) := fun q => hfull ((nN_eq (b := 6) (by omega) (by decide)).mp q)
          -- the model's row
          have hm : ∃ f, m_person μ (nI k) (nI g) (nI s) = some (nI (tP T), setA μ 0 f) ∧ simM (newP T k g s) f ∧ ∀ i, (i = 1 ∨ 136 ≤ i) → f i = μ.2 0 i := by
            have s1 := simM_person hM (j := 0) (p := tP T) (by decide) (by omega) k
            have s2 := simM_person s1 (j := 1) (p := tP T) (by decide) (by omega) g
            have s3 := simM_person s2 (j := 2) (p := tP T) (by decide) (by omega) s
            have s4 := simM_num s3 (k := 0) (m := 0) (by omega) (tP T + 1)
            refine ⟨_, ?_, s4, fun i hi => by rw [upd_ne (by omega), upd_ne (by omega), upd_ne (by omega), upd_ne (by omega)]⟩
            unfold m_person
            rw [e2]
            simp only [Option.bind_some, if_true]
            rw [e4]
            simp only [Option.bind_some, if_true]
            rw [e6]
            simp only [Option.bind_some, if_true]
            rw [mF_people hM]
            simp only [Option.bind_some]
            rw [if_neg hnf, show (0 : Int32) = nI 0 from rfl, show (1 : Int32) = nI 1 from rfl, show (2 : Int32) = nI 2 from rfl]
            simp only [m_at_eq, Option.bind_some]
            rw [mS_at (by omega)]
            simp only [Option.bind_some]
            rw [mS_at (by omega), setA_at]
            simp only [Option.bind_some]
            rw [mS_at (by omega), setA_at]
            simp only [Option.bind_some]
            rw [mF_at (by omega), setA_at]
            simp only [Option.bind_some]
            rw [mS_at (by omega), setA_at, upd_ne (by omega), upd_ne (by omega), upd_ne (by omega), hM.1.1, nN_add]
            simp only [Option.bind_some]
            have e : ∀ (f1 f2 : Nat → Int32), setA (setA μ 0 f1) 0 f2 = setA μ 0 f2 := fun f1 f2 => by
              unfold setA
              refine congrArg (fun z => (μ.1, z)) (funext fun j => ?_)
              dsimp only
              split <;> rfl
            rw [e, e, e]
          obtain ⟨f, m1, m2, m3⟩ := hm
          have c1 := simC_eA hC (j := 0) (by decide) (tP T) k
          have c2 := simC_eA c1 (j := 1) (by decide) (tP T) g
          have c3 := simC_eA c2 (j := 2) (by decide) (tP T) s
          have c4 := simC_wN c3 0 (tP T + 1) (by decide)
          refine pl_renew (T := newP T k g s) (RS := RS) (μ1 := setA μ 0 f) (r := nI (tP T)) (p := tP T) H c4 (by rw [setA_at]; exact m2) (Inv_newP hI (by omega) ⟨hk1, hk2⟩ ⟨hg1, hg2⟩ ⟨hs1, hs2⟩) h.2.1.2 h.2.2.1.2 (by rw [setA_at]; exact rulM_cg h.2.2.2 h.2.1.2 (fun i _ hi => m3 i hi)) (by show tP T < (newP T k g s).1 0; rw [show (newP T k g s).1 0 = tP T + 1 from wN_at _ 0 _]; omega) (hH_of h.2.2.1.1 (Or.inr ⟨wN_at _ 0 _, rfl⟩) (fun q hq => ?_)) ((((FC_sA (by decide)).tr (FC_sA (by decide))).tr (FC_sA (by decide))).tr (FC_sI (by decide))) (FM_sA (by decide)) (fun σ' δ' gg => ?_) (by rw [mc0, m1])
          · rw [newP_row, newP_row, if_neg (fun x => hq x.1), if_neg (fun x => hq x.1), if_neg (fun x => hq x.1), if_neg (fun x => hq x.1), if_neg (fun x => hq x.1), if_neg (fun x => hq x.1)]
            exact ⟨rfl, rfl⟩
          · rw [cc0]
            unfold f0_person
            rw [e1]
            simp only [Option.bind_some, if_true]
            rw [e3]
            simp only [Option.bind_some, if_true]
            rw [e5]
            simp only [Option.bind_some, if_true]
            rw [hc0, if_neg hnf, cS_at (by show tP T < 6; omega) (by omega)]
            simp only [Option.bind_some]
            rw [cS_at (by show tP T < 6; omega) (by omega)]
            simp only [Option.bind_some]
            rw [cS_at (by show tP T < 6; omega) (by omega)]
            simp only [Option.bind_some]
            rw [show ∀ x y z : Nat → Int32, (sA (sA (sA σ 0 x) 1 y) 2 z).1 0 = nI (tP T) from fun _ _ _ => hc0, show nI (tP T) + (1 : Int32) = nI (tP T + 1) from nI_1 _, gg]
            rfl
      · exact pl_0 (r := -1) (σ' := σ) (μ' := μ) (by rw [cc0]; unfold f0_person; rw [e1]; simp only [Option.bind_some, if_true]; rw [e3]; simp only [Option.bind_some, if_true]; rw [e5]; rfl) (by rw [mc0]; unfold m_person; rw [e2]; simp only [Option.bind_some, if_true]; rw [e4]; simp only [Option.bind_some, if_true]; rw [e6]; rfl) H
    · exact pl_0 (r := -1) (σ' := σ) (μ' := μ) (by rw [cc0]; unfold f0_person; rw [e1]; simp only [Option.bind_some, if_true]; rw [e3]; rfl) (by rw [mc0]; unfold m_person; rw [e2]; simp only [Option.bind_some, if_true]; rw [e4]; rfl) H
  · exact pl_0 (r := -1) (σ' := σ) (μ' := μ) (by rw [cc0]; unfold f0_person; rw [e1]; rfl) (by rw [mc0]; unfold m_person; rw [e2]; rfl) H
