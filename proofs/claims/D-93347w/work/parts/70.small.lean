/-! PLAIN LAW: small calls -/
set_option maxRecDepth 100000
def inB (a lo hi : Int32) (lo' hi' : Int64) (l h : Nat) : Prop := (∃ n : Nat, l ≤ n ∧ n ≤ h ∧ a = nI n ∧ f0_isIn a lo hi = some true ∧ m_in a.toInt64 lo' hi' = some true) ∨ (f0_isIn a lo hi = some false ∧ m_in a.toInt64 lo' hi' = some false)
theorem in_0_15 (a : Int32) : inB a 0 15 0 15 0 15 := in_both a 0 15 (by decide) (by decide)
theorem in_0_31 (a : Int32) : inB a 0 31 0 31 0 31 := in_both a 0 31 (by decide) (by decide)
theorem in_0_1 (a : Int32) : inB a 0 1 0 1 0 1 := in_both a 0 1 (by decide) (by decide)
theorem in_0_2 (a : Int32) : inB a 0 2 0 2 0 2 := in_both a 0 2 (by decide) (by decide)
theorem in_0_3 (a : Int32) : inB a 0 3 0 3 0 3 := in_both a 0 3 (by decide) (by decide)
theorem in_0_4 (a : Int32) : inB a 0 4 0 4 0 4 := in_both a 0 4 (by decide) (by decide)
theorem in_0_20 (a : Int32) : inB a 0 20 0 20 0 20 := in_both a 0 20 (by decide) (by decide)
theorem in_0_99 (a : Int32) : inB a 0 99 0 99 0 99 := in_both a 0 99 (by decide) (by decide)
theorem in_0_999 (a : Int32) : inB a 0 999 0 999 0 999 := in_both a 0 999 (by decide) (by decide)
theorem in_1_40 (a : Int32) : inB a 1 40 1 40 1 40 := in_both a 1 40 (by decide) (by decide)
theorem in_1_16 (a : Int32) : inB a 1 16 1 16 1 16 := in_both a 1 16 (by decide) (by decide)
theorem in_1_9 (a : Int32) : inB a 1 9 1 9 1 9 := in_both a 1 9 (by decide) (by decide)
theorem in_1_8 (a : Int32) : inB a 1 8 1 8 1 8 := in_both a 1 8 (by decide) (by decide)
theorem in_1_5 (a : Int32) : inB a 1 5 1 5 1 5 := in_both a 1 5 (by decide) (by decide)
theorem in_1_4 (a : Int32) : inB a 1 4 1 4 1 4 := in_both a 1 4 (by decide) (by decide)
theorem in_1_2 (a : Int32) : inB a 1 2 1 2 1 2 := in_both a 1 2 (by decide) (by decide)
theorem part_both (a : Int32) : (∃ n : Nat, 1 ≤ n ∧ n ≤ 9 ∧ a = nI n ∧ f0_isPart a = some true ∧ m_in a.toInt64 (1 : Int64) (9 : Int64) = some true) ∨ (f0_isPart a = some false ∧ m_in a.toInt64 (1 : Int64) (9 : Int64) = some false) := by
  unfold f0_isPart
  rcases in_1_9 a with ⟨n, h1, h2, h3, h4, h5⟩ | ⟨h4, h5⟩
  · exact Or.inl ⟨n, h1, h2, h3, by rw [h4]; rfl, h5⟩
  · exact Or.inr ⟨by rw [h4]; rfl, h5⟩
theorem kind_both (a : Int32) : (∃ n : Nat, 1 ≤ n ∧ n ≤ 5 ∧ a = nI n ∧ f0_isKind a = some true ∧ m_isKind a = some true) ∨ (f0_isKind a = some false ∧ m_isKind a = some false) := by
  unfold f0_isKind m_isKind
  rcases in_1_5 a with ⟨n, h1, h2, h3, h4, h5⟩ | ⟨h4, h5⟩
  · exact Or.inl ⟨n, h1, h2, h3, by rw [h4]; rfl, by rw [h5]; rfl⟩
  · exact Or.inr ⟨by rw [h4]; rfl, by rw [h5]; rfl⟩
theorem FC_sI {σ : SS} {k : Nat} {x : Int32} (h : ¬ ((7 ≤ k ∧ k < 14) ∨ k = 36 ∨ k = 41 ∨ k = 58 ∨ k = 70)) : FC σ (sI σ k x) := ⟨fun j hj => upd_ne (fun q => h (q ▸ hj)), fun _ _ => rfl, fun _ _ _ => rfl, rfl⟩
theorem sA_ne {σ : SS} {j k : Nat} {f : Nat → Int32} (h : k ≠ j) : (sA σ j f).2.1 k = σ.2.1 k := if_neg h
theorem sA_at {σ : SS} {j : Nat} {f : Nat → Int32} : (sA σ j f).2.1 j = f := if_pos rfl
theorem FC_sA {σ : SS} {j : Nat} {f : Nat → Int32} (h : ¬ ((13 ≤ j ∧ j < 26) ∨ j = 41 ∨ (44 ≤ j ∧ j ≤ 46))) : FC σ (sA σ j f) := ⟨fun _ _ => rfl, fun k hk => sA_ne (fun q => h (q ▸ hk)), fun _ _ _ => rfl, rfl⟩
theorem F2_sI {σ : SS} {k : Nat} {x : Int32} (h : ¬ (14 ≤ k ∧ k < 21)) : F2 σ (sI σ k x) := ⟨fun j hj => upd_ne (fun q => h (q ▸ hj)), fun _ _ => rfl, rfl⟩
theorem F2_sA {σ : SS} {j : Nat} {f : Nat → Int32} (h : ¬ (26 ≤ j ∧ j < 39)) : F2 σ (sA σ j f) := ⟨fun _ _ => rfl, fun k hk => sA_ne (fun q => h (q ▸ hk)), rfl⟩
theorem FM_sA {μ : MS} {j : Nat} {f : Nat → Int32} (h : j ≠ 1 ∧ j < 9) : FM μ (setA μ j f) := ⟨fun _ _ => rfl, fun k hk => setA_o μ j f (by omega)⟩
theorem stF_ne {μ : MS} {k j : Nat} {x : Int32} (h : j ≠ k) : (stF μ k x).1 j = μ.1 j := upd_ne h
theorem FM_sF {μ : MS} {k : Nat} {x : Int32} (h : ¬ (k = 3 ∨ k = 21 ∨ k = 23 ∨ k = 37)) : FM μ (stF μ k x) := ⟨fun j hj => upd_ne (fun q => h (q ▸ hj)), fun _ _ => rfl⟩
/-- a town changed, rules and people as they were -/
theorem cor_up {T U : Tw} {RS : Rls} {δ : DS} {σ σ' : SS} {μ μ' : MS} (h : cor T (tS T) RS δ σ μ) (hC : simC U 0 σ') (hM : simM U (μ'.2 0)) (hI : Inv U) (e1 : tP U = tP T) (e2 : tA U 0 = tA T 0) (e3 : tA U 1 = tA T 1) (e4 : σ'.2.2 = σ.2.2) (e5 : ∀ i, i < 368 → (i = 1 ∨ 136 ≤ i) → μ'.2 0 i = μ.2 0 i) : cor U (tS U) RS δ σ' μ' :=
  cor_id hC hM hI h.2.1.2 (by rw [e4]; exact hnd_cg e1 e2 e3 h.2.2.1.1) (by rw [e4]; exact h.2.2.1.2) (rulM_cg h.2.2.2 h.2.1.2 e5)
theorem mF_at {μ : MS} {i : Nat} (hi : i < 368) : ldM μ 0 (nI i) = some (μ.2 0 i) := ldM_n hi (by omega)
theorem mS_at {μ : MS} {i : Nat} {x : Int32} (hi : i < 368) : stM μ 0 (nI i) x = some (setA μ 0 (upd (μ.2 0) i x)) := stM_n hi (by omega)
theorem m_bec {μ : MS} {i : Nat} {x : Int32} (hi : i < 368) : m_becomes μ (nI i) x = some (μ.2 0 i, setA μ 0 (upd (μ.2 0) i x)) := by
  unfold m_becomes
  rw [mF_at hi]
  simp only [Option.bind_some]
  rw [mS_at hi]
  rfl
theorem pl_5 (a b c dd : Int32) (σ : SS) (δ : DS) (μ : MS) (H : Rel σ δ μ) : pLaw Rel 5 a b c dd σ δ μ := by
  obtain ⟨T, RS, h⟩ := H.1
  have hC := h.1.1
  have hM := h.M
  have hI := h.2.1.1
  rcases isD_both hC hM hI a with ⟨d, hd, rfl, e1, e2⟩ | ⟨e1, e2⟩
  · have hd10 : d < 10 := Nat.lt_of_lt_of_le hd hI.1.2.1
    have hdue := f_due_eq hC hI h.2.2.1.1 hd
    have hdue2 := m_due_eq hM hI hd
    have key : ∀ x, f0_deedOf δ σ (nI d) b = some x → m_deedOf μ (nI d) b = some x → pLaw Rel 5 (nI d) b c dd σ δ μ := fun x g1 g2 => pl_0 (r := x) (σ' := σ) (μ' := μ) (by show (f0_deedOf δ σ (nI d) b).map _ = _; rw [g1]; rfl) (by show (m_deedOf μ (nI d) b).map _ = _; rw [g2]; rfl) H
    have hm : ∀ n : Nat, n ≤ 5 → m_in (nI n).toInt64 (0 : Int64) (5 : Int64) = some true := fun n hn => by
      rcases in_both (nI n) 0 5 (by decide) (by decide) with ⟨_, _, _, _, _, g⟩ | ⟨g, _⟩
      · exact g
      · rw [f_in_eq] at g
        simp only [Option.some.injEq, decide_eq_false_iff_not] at g
        exact absurd ⟨nN_neg (by omega), fun q => by have := (nN_lt (a := 5) (b := n) (by decide) (by omega)).mp q; omega⟩ g
    have hf : ∀ x : Nat, x ≤ 5 → m_deedOf μ (nI d) (nI x) = if nI x = (5 : Int32) then some (nI (due T d)) else m_deedIs μ (nI d) (nI x) := fun x hx => by
      unfold m_deedOf
      rw [e2]
      simp only [Option.bind_some, if_true]
      rw [hm x hx]
      simp only [Option.bind_some, if_true]
      rw [hdue2]
      simp only [Option.bind_some]
      split
      · rfl
      · cases m_deedIs μ (nI d) (nI x) <;> rfl
    by_cases b0 : b = 0
    · refine key _ (by unfold f0_deedOf; rw [e1]; simp only [Option.bind_some, if_true]; rw [if_pos b0, cD_whose hC hd10]; rfl) (by rw [b0]; refine (hf 0 (by decide)).trans ?_; rw [if_neg (by decide)]; exact mD_whose hM hd10)
    by_cases b1 : b = 1
    · refine key _ (by unfold f0_deedOf; rw [e1]; simp only [Option.bind_some, if_true]; rw [if_neg b0, if_pos b1, cD_when hC hd10]; rfl) (by rw [b1]; refine (hf 1 (by decide)).trans ?_; rw [if_neg (by decide)]; exact mD_when hM hd10)
    by_cases b2 : b = 2
    · refine key _ (by unfold f0_deedOf; rw [e1]; simp only [Option.bind_some, if_true]; rw [if_neg b0, if_neg b1, if_pos b2, cD_weight hC hd10]; rfl) (by rw [b2]; refine (hf 2 (by decide)).trans ?_; rw [if_neg (by decide)]; exact mD_weight hM hd10)
    by_cases b3 : b = 3
    · refine key _ (by unfold f0_deedOf; rw [e1]; simp only [Option.bind_some, if_true]; rw [if_neg b0, if_neg b1, if_neg b2, if_pos b3, cD_need hC hd10]; rfl) (by rw [b3]; refine (hf 3 (by decide)).trans ?_; rw [if_neg (by decide)]; exact mD_need hM hd10)
    by_cases b4 : b = 4
    · refine key _ (by unfold f0_deedOf; rw [e1]; simp only [Option.bind_some, if_true]; rw [if_neg b0, if_neg b1, if_neg b2, if_neg b3, if_pos b4, cD_so hC hd10]; rfl) (by rw [b4]; refine (hf 4 (by decide)).trans ?_; rw [if_neg (by decide)]; exact mD_so hM hd10)
    by_cases b5 : b = 5
    · refine key _ (by unfold f0_deedOf; rw [e1]; simp only [Option.bind_some, if_true]; rw [if_neg b0, if_neg b1, if_neg b2, if_neg b3, if_neg b4, if_pos b5, hdue]; rfl) (by rw [b5]; refine (hf 5 (by decide)).trans ?_; exact if_pos rfl)
    refine key (-1) (by unfold f0_deedOf; rw [e1]; simp only [Option.bind_some, if_true]; rw [if_neg b0, if_neg b1, if_neg b2, if_neg b3, if_neg b4, if_neg b5]) ?_
    unfold m_deedOf
    rw [e2]
    simp only [Option.bind_some, if_true]
    rcases in_both b 0 5 (by decide) (by decide) with ⟨n, _, hn, rfl, _, _⟩ | ⟨_, g⟩
    · exfalso
      rcases (show n = 0 ∨ n = 1 ∨ n = 2 ∨ n = 3 ∨ n = 4 ∨ n = 5 by omega) with rfl | rfl | rfl | rfl | rfl | rfl
      · exact b0 rfl
      · exact b1 rfl
      · exact b2 rfl
      · exact b3 rfl
      · exact b4 rfl
      · exact b5 rfl
    · have g' : m_in b.toInt64 (0 : Int64) (5 : Int64) = some false := g
      rw [g']
      rfl
  · exact pl_0 (r := -1) (σ' := σ) (μ' := μ) (by show (f0_deedOf δ σ a b).map _ = _; unfold f0_deedOf; rw [e1]; rfl) (by show (m_deedOf μ a b).map _ = _; unfold m_deedOf; rw [e2]; rfl) H
theorem pl_6 (a b c d : Int32) (σ : SS) (δ : DS) (μ : MS) (H : Rel σ δ μ) : pLaw Rel 6 a b c d σ δ μ := by
  obtain ⟨T, RS, h⟩ := H.1
  have hC := h.1.1
  have hM := h.M
  have hI := h.2.1.1
  have hy : tY T ≤ 16 := Nat.le_trans hI.1.2.2.2.2.1 hI.1.2.2.2.1
  rcases in_1_16 a with ⟨n, h1, h2, rfl, e1, e2⟩ | ⟨e1, e2⟩
  · by_cases hl : tY T ≤ n
    · refine pl_0 (r := nI (tE T)) (σ' := sI σ 2 (nI n)) (μ' := setA μ 0 (upd (μ.2 0) 2 (nI n))) ?_ ?_ (Rel_cor H (T := wN T 2 n) (RS := RS) (FC_sI (by omega)) (FM_sA (by decide)) (cor_up h (simC_wN hC 2 n (by decide)) (by rw [setA_at]; exact simM_num hM (by omega) n) ?_ rfl rfl rfl rfl (fun i _ hi => by rw [setA_at]; exact upd_ne (by omega))))
      · show (f0_ends σ (nI n)).map _ = _
        unfold f0_ends
        rw [e1]
        simp only [Option.bind_some, if_true]
        rw [show σ.1 3 = nI (tY T) from hC.1.2.2.2.1, if_pos ((nN_le (by omega) (by omega)).mpr hl), show σ.1 2 = nI (tE T) from hC.1.2.2.1]
        rfl
      · show m_ends μ (nI n) = _
        unfold m_ends
        rw [e2]
        simp only [Option.bind_some, if_true]
        rw [mF_year hM]
        simp only [Option.bind_some]
        rw [if_pos ((nN_le (by omega) (by omega)).mpr hl), show (2 : Int32) = nI 2 from rfl, m_bec (by decide), hM.1.2.1]
        rfl
      · obtain ⟨⟨a1, a2, a3, a4, a5, a6⟩, b⟩ := hI
        exact ⟨⟨a1, a2, h1, h2, hl, a6⟩, b⟩
    · refine pl_0 (r := -4) (σ' := σ) (μ' := μ) ?_ ?_ H
      · show (f0_ends σ (nI n)).map _ = _
        unfold f0_ends
        rw [e1]
        simp only [Option.bind_some, if_true]
        rw [show σ.1 3 = nI (tY T) from hC.1.2.2.2.1, if_neg (fun q => hl ((nN_le (by omega) (by omega)).mp q))]
        rfl
      · show m_ends μ (nI n) = _
        unfold m_ends
        rw [e2]
        simp only [Option.bind_some, if_true]
        rw [mF_year hM]
        simp only [Option.bind_some]
        rw [if_neg (fun q => hl ((nN_le (by omega) (by omega)).mp q))]
  · exact pl_0 (r := -1) (σ' := σ) (μ' := μ) (by show (f0_ends σ a).map _ = _; unfold f0_ends; rw [e1]; rfl) (by show m_ends μ a = _; unfold m_ends; rw [e2]; rfl) H
theorem pl_8 (a b c d : Int32) (σ : SS) (δ : DS) (μ : MS) (H : Rel σ δ μ) : pLaw Rel 8 a b c d σ δ μ := by
  obtain ⟨T, RS, h⟩ := H.1
  have hC := h.1.1
  have hM := h.M
  obtain ⟨o1, o2⟩ := cor_over h
  have key : ∀ x, f0_state σ a = some x → m_state μ a = some x → pLaw Rel 8 a b c d σ δ μ := fun x g1 g2 => pl_0 (r := x) (σ' := σ) (μ' := μ) (by show (f0_state σ a).map _ = _; rw [g1]; rfl) (by show (m_state μ a).map _ = _; rw [g2]; rfl) H
  unfold f0_state m_state at key
  rw [o1, o2, mF_year hM, mF_end hM, mF_score hM] at key
  simp only [Option.bind_some] at key
  by_cases a0 : a = 0
  · exact key (nI (tY T)) (by rw [if_pos a0, show σ.1 3 = nI (tY T) from hC.1.2.2.2.1]) (by rw [if_pos a0])
  by_cases a1 : a = 1
  · exact key (nI (tE T)) (by rw [if_neg a0, if_pos a1, show σ.1 2 = nI (tE T) from hC.1.2.2.1]) (by rw [if_neg a0, if_pos a1])
  by_cases a2 : a = 2
  · exact key (tS T) (by rw [if_neg a0, if_neg a1, if_pos a2, show σ.1 4 = tS T from hC.1.2.2.2.2.1]) (by rw [if_neg a0, if_neg a1, if_pos a2])
  by_cases a3 : a = 3
  · exact key (if decide (tE T ≤ tY T) = true then 1 else 0) (by rw [if_neg a0, if_neg a1, if_neg a2, if_pos a3]; split <;> rfl) (by rw [if_neg a0, if_neg a1, if_neg a2, if_pos a3]; split <;> rfl)
  exact key (-1) (by rw [if_neg a0, if_neg a1, if_neg a2, if_neg a3]) (by rw [if_neg a0, if_neg a1, if_neg a2, if_neg a3])
theorem pl_12 (a b c d : Int32) (σ : SS) (δ : DS) (μ : MS) (H : Rel σ δ μ) : pLaw Rel 12 a b c d σ δ μ := by
  obtain ⟨T, RS, h⟩ := H.1
  have hd6 : tD T ≤ 10 := h.2.1.1.1.2.1
  rcases in_0_4 a with ⟨n, -, h2, rfl, e1, e2⟩ | ⟨e1, e2⟩
  · refine pl_0 (r := setS T (nI n) (tD T)) (σ' := σ) (μ' := μ) ?_ ?_ H
    · show (f0_standing 1000 σ (nI n)).map _ = _
      unfold f0_standing
      rw [e1]
      simp only [Option.bind_some, if_true]
      rw [f_set_eq h.1.1 hd6 (by decide)]
      rfl
    · show (m_standing 1000 μ (nI n)).map _ = _
      unfold m_standing
      rw [e2]
      simp only [Option.bind_some, if_true]
      rw [m_set_eq h.M hd6 (by decide)]
      rfl
  · exact pl_0 (r := -1) (σ' := σ) (μ' := μ) (by show (f0_standing 1000 σ a).map _ = _; unfold f0_standing; rw [e1]; rfl) (by show (m_standing 1000 μ a).map _ = _; unfold m_standing; rw [e2]; rfl) H
theorem pl_33 (a b c d : Int32) (σ : SS) (δ : DS) (μ : MS) (H : Rel σ δ μ) : pLaw Rel 33 a b c d σ δ μ := by
  obtain ⟨T, RS, h⟩ := H.1
  have hC := h.1.1
  have hM := h.M
  obtain ⟨⟨a1, a2, a3, a4, a5, a6⟩, b1, b2, b3, b4⟩ := h.2.1.1
  refine pl_0 (r := nI (tR T)) (σ' := sI σ 5 (nI 0)) (μ' := setA μ 0 (upd (μ.2 0) 6 (nI 0))) ?_ ?_ (Rel_cor H (T := wN T 5 0) (RS := RS) (FC_sI (by omega)) (FM_sA (by decide)) (cor_up h (simC_wN hC 5 0 (by decide)) (by rw [setA_at]; exact simM_num hM (by omega) 0) ⟨⟨a1, a2, a3, a4, a5, Nat.zero_le _⟩, b1, b2, b3, fun r hr => absurd hr (Nat.not_lt_zero r)⟩ rfl rfl rfl rfl (fun i _ hi => by rw [setA_at]; exact upd_ne (by omega))))
  · rw [cc33]
    unfold f0_forget
    rw [show σ.1 5 = nI (tR T) from hC.1.2.2.2.2.2.1]
    rfl
  · show m_forget μ = _
    unfold m_forget
    rw [show (6 : Int32) = nI 6 from rfl, m_bec (by decide), hM.1.2.2.2.2.2.1]
    rfl
theorem pl_36 (a b c d : Int32) (σ : SS) (δ : DS) (μ : MS) (H : Rel σ δ μ) : pLaw Rel 36 a b c d σ δ μ := by
  obtain ⟨T, RS, h⟩ := H.1
  have hC := h.1.1
  have hM := h.M
  refine pl_0 (r := tZ T) (σ' := sI σ 6 a) (μ' := setA μ 0 (upd (μ.2 0) 7 a)) ?_ ?_ (Rel_cor H (T := wI T 1 a) (RS := RS) (FC_sI (by omega)) (FM_sA (by decide)) (cor_up h (simC_z hC a) (by rw [setA_at]; exact simM_z hM a) h.2.1.1 rfl rfl rfl rfl (fun i _ hi => by rw [setA_at]; exact upd_ne (by omega))))
  · rw [cc36]
    unfold f0_seed
    rw [show σ.1 6 = tZ T from hC.1.2.2.2.2.2.2]
    rfl
  · show m_seed μ a = _
    unfold m_seed
    rw [show (7 : Int32) = nI 7 from rfl, m_bec (by decide), hM.1.2.2.2.2.2.2]
    rfl
/-- a year of both, the score too -/
theorem cor_goes {T : Tw} {RS : Rls} {δ : DS} {σ : SS} {μ : MS} (h : cor T (tS T) RS δ σ μ) (hy : tY T < tE T) {a : Nat} (ha : a ≤ 7) : ∃ σ' μ', f0_goes 1000 δ σ (nI a - (1 : Int32)) = some (nI (passW T RS a), σ') ∧ m_goes 1000 μ (nI a) = some (nI (passW T RS a), μ') ∧ cor (goneT T RS a) (tS (goneT T RS a)) RS δ σ' μ' ∧ FC σ σ' ∧ F2 σ σ' ∧ σ'.2.2 = σ.2.2 ∧ frM μ μ' := by
  obtain ⟨σ1, μ1, g1, g2, g3, g4, g5⟩ := cor_pass h hy (N := 1000) (by decide) ha
  have e4 : σ1.1 4 = tS T := by rw [g4.2.2 4 (by decide)]; exact h.1.1.1.2.2.2.2.1
  refine ⟨sI σ1 4 (tS T + nI (passW T RS a)), μ1, ?_, g2, ?_, g4.FC.tr (FC_sI (by omega)), g4.F2.tr (F2_sI (by omega)), g4.1, g5⟩
  · unfold f0_goes
    rw [g1]
    simp only [Option.bind_some]
    rw [e4]
  · exact cor_id (simC_sc g3.1.1 _) g3.1.2 g3.2.1.1 g3.2.1.2 g3.2.2.1.1 g3.2.2.1.2 g3.2.2.2
theorem pl_11 (a b c d : Int32) (σ : SS) (δ : DS) (μ : MS) (H : Rel σ δ μ) : pLaw Rel 11 a b c d σ δ μ := by
  obtain ⟨T, RS, h⟩ := H.1
  obtain ⟨o1, o2⟩ := cor_over h
  by_cases ho : tE T ≤ tY T
  · refine pl_0 (r := -4) (σ' := σ) (μ' := μ) ?_ ?_ H
    · show (f0_year 1000 δ σ).map _ = _
      unfold f0_year
      rw [o1, decide_eq_true ho]
      rfl
    · show m_year 1000 μ = _
      unfold m_year
      rw [o2, decide_eq_true ho]
      rfl
  · obtain ⟨σ1, μ1, g1, g2, g3, g4, -, -, g5⟩ := cor_goes h (by omega) (a := 0) (by decide)
    refine pl_0 (r := nI (passW T RS 0)) (σ' := σ1) (μ' := μ1) ?_ ?_ (Rel_cor H g4 g5.FM g3)
    · show (f0_year 1000 δ σ).map _ = _
      unfold f0_year
      rw [o1, decide_eq_false ho]
      simp only [Option.bind_some, Bool.false_eq_true, if_false]
      rw [neg1, g1]
      rfl
    · show m_year 1000 μ = _
      unfold m_year
      rw [o2, decide_eq_false ho]
      simp only [Option.bind_some, Bool.false_eq_true, if_false]
      rw [show (0 : Int32) = nI 0 from rfl, g2]
      rfl
