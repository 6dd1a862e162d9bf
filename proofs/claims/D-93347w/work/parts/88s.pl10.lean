/-! PLAIN LAW: rules read from the tape: the call -/
set_option maxRecDepth 100000
def eF (μ μ' : MS) : Prop := (∀ k, k = 3 ∨ k = 21 ∨ k = 37 → μ'.1 k = μ.1 k) ∧ ∀ j, j = 1 ∨ 9 ≤ j → μ'.2 j = μ.2 j
theorem eM.F {μ μ' : MS} (h : eM μ μ') : eF μ μ' := ⟨fun k hk => h.1 k (by omega), fun j hj => h.2 j (by omega)⟩
theorem eF.tr {a b c : MS} (h : eF a b) (g : eF b c) : eF a c := ⟨fun k hk => (g.1 k hk).trans (h.1 k hk), fun j hj => (g.2 j hj).trans (h.2 j hj)⟩
theorem back_w {n s e : Nat} {μ : MS} {f0 : Nat → Int32} (h : wr n s e μ) (hp : put2 f0 μ) (fuel : Nat) : ∃ μ', m_rules_L35 1000 (fuel + 1) μ = some ((-100 : Int32) - nI s, μ') ∧ μ'.1 23 = 0 ∧ eF μ μ' ∧ ∀ i, i < 368 → μ'.2 0 i = f0 i := by
  obtain ⟨μ1, a1, a2, a3, a4⟩ := m_back_L (N := 1000) 368 0 1000 (stF μ 23 0) (by decide) (by decide) (fun k hk => absurd hk (by omega))
  refine ⟨μ1, ?_, by rw [a2]; exact stF_at _ _ _, ⟨fun k hk => by rw [a2]; exact stF_ne (by omega), fun j hj => a3 j (by omega)⟩, fun i hi => (a4 i hi).trans (hp i hi)⟩
  show (if (μ.1 29) = 0 then _ else _) = _
  rw [if_neg (by rw [h.2.2.2.2.2.2]; decide), Option.bind_some, if_neg (by rw [show (stF μ 23 0).1 29 = 1 from (stF_ne (by decide)).trans h.2.2.2.2.2.2]; decide), show m_putsBack 1000 (stF μ 23 0) = some μ1 from a1, Option.bind_some, a2, show (stF μ 23 0).1 24 = nI s from (stF_ne (by decide)).trans h.2.2.2.2.1]
def rsOk (n : Nat) (d0 : DS) (f0 : Nat → Int32) (σ : SS) (μ : MS) (FC : Option (XR (Nat × SS × DS))) (FM : Option (Int32 × MS)) : Prop := ∃ σ' d' μ' RS' q, FC = some (.inr (q, σ', d')) ∧ FM = some (nI RS'.length, μ') ∧ rulI RS' ∧ (rulC d' (some q) RS' ∧ dlnR d' q = some (nI RS'.length)) ∧ rulM (μ'.2 0) RS' ∧ μ'.1 23 = 0 ∧ (eC σ σ' ∧ eF μ μ') ∧ (∀ i, i < 136 → i ≠ 1 → μ'.2 0 i = f0 i) ∧ grw d0 d' ∧ d'.2 ≤ d0.2 + 2 + 4 * n
def rsBad (n : Nat) (d0 : DS) (f0 : Nat → Int32) (σ : SS) (μ : MS) (FC : Option (XR (Nat × SS × DS))) (FM : Option (Int32 × MS)) : Prop := ∃ σ' d' μ' p, FC = some (.inl (2, σ', d')) ∧ σ'.1 72 = nI p ∧ FM = some ((-100 : Int32) - nI p, μ') ∧ μ'.1 23 = 0 ∧ (eC σ σ' ∧ eF μ μ') ∧ (∀ i, i < 368 → μ'.2 0 i = f0 i) ∧ grw d0 d' ∧ d'.2 ≤ d0.2 + 10 + 4 * n
theorem rules_L {n : Nat} {t : Nat → Nat} {d0 : DS} {f0 : Nat → Int32} (hf0 : fresh d0) : ∀ (m fuel fuel' s e cd : Nat) (σ : SS) (μ : MS) (d : DS) (RS : Rls), pst n t s e 0 cd σ μ → cd ≤ s → rulI RS → cInv d d0.2 RS → mInv (μ.2 0) RS cd → grw d0 d → d.2 ≤ d0.2 + 1 + 4 * s → n - s ≤ m → m + 1 < fuel → m + 1 < fuel' → put2 f0 μ → (∀ i, i < 136 → i ≠ 1 → μ.2 0 i = f0 i) → rsOk n d0 f0 σ μ (f0_allRules_L17 1000 fuel σ d d0.2 (nI RS.length)) (m_rules_L35 1000 fuel' μ) ∨ rsBad n d0 f0 σ μ (f0_allRules_L17 1000 fuel σ d d0.2 (nI RS.length)) (m_rules_L35 1000 fuel' μ) := by
  intro m
  induction m using Nat.strongRecOn with
  | _ m ih =>
    intro fuel fuel' s e cd σ μ d RS h hcd hRI hcI hmI hgr hd hm hfu hfu' hput hlow
    obtain ⟨N, rfl⟩ : ∃ n, fuel = n + 1 := ⟨fuel - 1, by omega⟩
    obtain ⟨N', rfl⟩ : ∃ n, fuel' = n + 1 := ⟨fuel' - 1, by omega⟩
    have hn := h.1.1.1
    have hse := h.1.2.1.1
    have hen := h.1.2.1.2.1
    have h8 := hRI.1
    have h41 : σ.1 41 = nI n := h.1.1.2.1
    have h23 : μ.1 23 = nI n := h.1.1.2.2.1
    by_cases hend : n ≤ s
    · -- the end
      have hl : nI n ≤ nI s := (nN_le (by omega) (by omega)).mpr hend
      obtain ⟨d1, d2, c1, c2, c3, c4, c5, c6⟩ := cInv_copy hcI hgr.2.1 h8
      refine Or.inl ⟨σ, d2, stF μ 23 0, RS, d.2, ?_, ?_, hRI, ⟨c3, c6⟩, mInv_M hmI, stF_at _ _ _, ⟨eC.rf σ, ⟨fun k hk => stF_ne (by omega), fun _ _ => rfl⟩⟩, hlow, hgr.tr c4, by omega⟩
      · show (if (σ.1 41) ≤ (σ.1 42) then _ else _) = _
        rw [h41, h.1.2.2.1.1, if_pos hl, c1, Option.bind_some, c2]
        rfl
      · show (if (μ.1 29) = 0 then _ else _) = _
        rw [if_pos h.1.2.2.2.2.2, h23, h.1.2.2.2.1, if_pos hl, Option.bind_some, if_pos (show (stF μ 23 0).1 29 = 0 from (stF_ne (by decide)).trans h.1.2.2.2.2.2), show (1 : Int32) = nI 1 from rfl, ldM_n (by decide) (by decide), show (stF μ 23 0).2 0 1 = nI RS.length from hmI.1]
        rfl
    · have hl : ¬ nI n ≤ nI s := fun z => hend ((nN_le (by omega) (by omega)).mp z)
      have eM0 : m_rules_L35 1000 (N' + 1) μ = (m_rule 1000 μ).bind fun r7 => m_rules_L35 1000 N' r7 := by
        show (if (μ.1 29) = 0 then _ else _) = _
        rw [if_pos h.1.2.2.2.2.2, h23, h.1.2.2.2.1, if_neg hl]
      have eC0 : f0_allRules_L17 1000 (N + 1) σ d d0.2 (nI RS.length) = if nI RS.length = (8 : Int32) then some (Sum.inl (2, sI σ 72 (nI s), d)) else xb xnA d (f0_rule 1000 σ d) fun r3 => (dStR r3.2.2 d0.2 (nI RS.length) r3.1).bind fun d4 => f0_allRules_L17 1000 N r3.2.1 d4 d0.2 (nI RS.length + 1) := by
        show (if (σ.1 41) ≤ (σ.1 42) then _ else _) = _
        rw [h41, h.1.2.2.1.1, if_neg hl]
        rfl
      obtain ⟨N'', rfl⟩ : ∃ n, N' = n + 1 := ⟨N' - 1, by omega⟩
      rw [eM0, eC0]
      by_cases e8 : RS.length = 8
      · -- too many rules
        have hl1 : ldM μ 0 (1 : Int32) = some (nI 8) := by
          rw [show (1 : Int32) = nI 1 from rfl, ldM_n (by decide) (by decide), hmI.1, e8]
        rw [if_pos (by rw [e8]; rfl)]
        obtain ⟨μ2, y1, y2, y3, y4⟩ := wants_f h.1
        have e2 : eM μ μ2 := ⟨fun k hk => y3 k (by omega), fun j hj => by rw [y4]⟩
        have hB : ∃ x μ3, m_rule 1000 μ = some μ3 ∧ wr n s e μ3 ∧ eM μ2 μ3 ∧ x = (0 : Nat) := by
          rcases kind_M h.1 with ⟨i, hi, g1, g2⟩ | ⟨-, g2⟩
          · obtain ⟨μ3, z1, z2, z3⟩ := B49_w y2 (nI i)
            refine ⟨0, μ3, ?_, z2, z3, rfl⟩
            unfold m_rule
            rw [g2, Option.bind_some, if_neg (nN_neg (by omega) : ¬ nI i < 0), hl1, Option.bind_some, if_pos (show (8 : Int32) ≤ nI 8 by decide), y1, Option.bind_some, word_w y2, Option.bind_some, if_neg (by decide), z1]
          · obtain ⟨μ3, z1, z2, z3⟩ := B49_w y2 (-1)
            refine ⟨0, μ3, ?_, z2, z3, rfl⟩
            unfold m_rule
            rw [g2, Option.bind_some, if_pos (by decide), y1, Option.bind_some, word_w y2, Option.bind_some, if_neg (by decide), z1]
        obtain ⟨-, μ3, z1, z2, z3, -⟩ := hB
        obtain ⟨μ4, v1, v2, v3, v4⟩ := back_w z2 (f0 := f0) (fun k hk => by rw [(e2.tr z3).2 2 (by decide)]; exact hput k hk) N''
        rw [z1, Option.bind_some, v1]
        exact Or.inr ⟨sI σ 72 (nI s), d, μ4, s, rfl, sI_at _ _ _, rfl, v2, ⟨eC72 _ _, (e2.tr z3).F.tr v3⟩, v4, hgr, by omega⟩
      · rw [if_neg (show ¬ nI RS.length = (8 : Int32) from fun z => e8 ((nN_eq (b := 8) (by omega) (by decide)).mp z))]
        rcases rule_both h hcd hgr.2.1 (by omega) hmI.1 with ⟨s', e', ro, d', σ', μ', k, w, num, ev, cv, cd', a1, a2, a3, ⟨a4, a5, a6⟩, ⟨a7, a8, a9⟩, a10, a11, a12, ⟨a13, a14, a15, a16⟩, a17, a18⟩ | ⟨s', e', d', σ', μ', a1, a2, a3, a4, ⟨a5, a6⟩, a7, a8⟩
        · have hs'n : s' ≤ n := by have := a3.1.2.1.1; have := a3.1.2.1.2.1; omega
          obtain ⟨d4, ee, b1, b2, b3⟩ := cInv_push (x := (k, ev, w, num)) (ro := ro) (cv := cv) hcI a17 (by omega) a11 (by
            rcases a12 with ⟨g1, g2, g3⟩ | ⟨q, g1, g2, g3⟩
            · exact Or.inl ⟨g1, g2⟩
            · exact Or.inr ⟨q, g1, g2⟩)
          have hm' : mInv (μ'.2 0) (RS ++ [(k, ev, w, num)]) cd' := mInv_push hmI (by omega) ⟨a5, by omega⟩ a9 a10 (by
            rcases a12 with ⟨g1, g2, g3⟩ | ⟨q, g1, g2, g3⟩
            · exact Or.inl ⟨g2, g3⟩
            · exact Or.inr g3)
          have hg4 : grw d0 d4 := grw_bui hf0 (hgr.tr a17) b2
          have hlen : (RS ++ [(k, ev, w, num)]).length = RS.length + 1 := by simp
          have hRI' : rulI (RS ++ [(k, ev, w, num)]) := by
            refine ⟨by rw [hlen]; omega, fun x hx => ?_⟩
            rcases List.mem_append.mp hx with g | g
            · exact hRI.2 x g
            · rw [List.mem_singleton] at g
              subst g
              exact ⟨a13, a14, a15, a16⟩
          have q4 : d4.2 = d'.2 := b2.2.2.1
          rw [xb_inr a1 a17.2.2, a2, Option.bind_some]
          dsimp only
          rw [b1, Option.bind_some, nI_1, ← hlen]
          rcases ih (n - s') (by omega) N (N'' + 1) s' e' cd' σ' μ' d4 _ a3 a6 hRI' b3 hm' hg4 (by omega) (Nat.le_refl _) (by omega) (by omega) (fun k hk => by rw [a8.2 2 (by decide)]; exact hput k hk) (fun i hi h1 => by
            rw [a9 i h1 (by omega) (by omega)]
            exact hlow i hi h1) with ⟨σ2, d2, μ2, RS2, q2, p1, p2, p3, p4, p5, p6, ⟨p7, p8⟩, p9⟩ | ⟨σ2, d2, μ2, p, p1, p2, p3, p4, ⟨p5, p6⟩, p7⟩
          · exact Or.inl ⟨σ2, d2, μ2, RS2, q2, p1, p2, p3, p4, p5, p6, ⟨a7.tr p7, a8.F.tr p8⟩, p9⟩
          · exact Or.inr ⟨σ2, d2, μ2, p, p1, p2, p3, p4, ⟨a7.tr p5, a8.F.tr p6⟩, p7⟩
        · obtain ⟨μ4, v1, v2, v3, v4⟩ := back_w a3 (f0 := f0) (fun k hk => by rw [a6.2 2 (by decide)]; exact hput k hk) N''
          rw [xb_inl a1 a7.2.2, a2, Option.bind_some, v1]
          exact Or.inr ⟨σ', d', μ4, s', rfl, a4, rfl, v2, ⟨a5, a6.F.tr v3⟩, v4, hgr.tr a7, by omega⟩
theorem Rel_rules {σ σ' : SS} {δ δ' : DS} {μ μ' : MS} {RS' : Rls} (H : Rel σ δ μ) (hi : ∀ k, k ≠ 41 → k ≠ 42 → k ≠ 43 → k ≠ 72 → σ'.1 k = σ.1 k) (h41 : σ'.1 41 = 0) (ha : σ'.2.1 = σ.2.1) (hr : ∀ k, k ≠ 0 → σ'.2.2.1 k = σ.2.2.1 k) (hs : σ'.2.2.2 = σ.2.2.2) (hE : exA δ δ') (hf : fresh δ') (mi : ∀ k, k = 3 ∨ k = 21 ∨ k = 37 → μ'.1 k = μ.1 k) (h23 : μ'.1 23 = 0) (ma : ∀ j, j = 1 ∨ 9 ≤ j → μ'.2 j = μ.2 j) (m0 : ∀ i, i < 136 → i ≠ 1 → μ'.2 0 i = μ.2 0 i) (h1 : rulI RS') (h2 : rulC δ' (σ'.2.2.1 0) RS') (h3 : rulM (μ'.2 0) RS') : Rel σ' δ' μ' := by
  obtain ⟨⟨T, RS, h⟩, ⟨a, b⟩, ⟨-, d, e⟩, ⟨f, g⟩, hp, -⟩ := H
  refine ⟨⟨T, RS', cor_id (simC_cg h.1.1 (fun k hk => hi _ (by omega) (by omega) (by omega) (by omega)) (fun j hj n hn => by rw [ha])) (simM_cg h.M m0) h.2.1.1 h1 (by rw [hs]; exact hnd_ex hE h.2.2.1.1) h2 h3⟩, ⟨?_, ?_⟩, ⟨⟨0, by decide, h41, h23, fun i hi => absurd hi (by omega)⟩, ?_, ?_⟩, ⟨?_, ?_⟩, by unfold rPart; rw [ha]; exact hp, hf⟩
  · exact rKept_k a ⟨fun k hk => hi k (by omega) (by omega) (by omega) (by omega), fun j hj => by rw [ha], hr 1 (by decide)⟩ ⟨mi 3 (by decide), ma 1 (by decide)⟩ hE
  · intro k hk
    rw [hs]
    rcases b k hk with h | ⟨q, h1, h2⟩
    · exact Or.inl h
    · exact Or.inr ⟨q, h1, isHand_ex hE h2⟩
  · obtain ⟨n, g1, g2, g3, g4⟩ := d
    exact ⟨n, g1, by rw [hi 58 (by decide) (by decide) (by decide) (by decide)]; exact g2, by rw [mi 21 (by decide)]; exact g3, by rw [ha, ma 9 (by decide)]; exact g4⟩
  · obtain ⟨n, g1, g2, g3, g4⟩ := e
    exact ⟨n, g1, by rw [hi 70 (by decide) (by decide) (by decide) (by decide)]; exact g2, by rw [mi 37 (by decide)]; exact g3, by rw [ha, ma 17 (by decide)]; exact g4⟩
  · obtain ⟨h1, h2⟩ := f
    refine ⟨fun s hs => ?_, fun s s' q a b c d => h2 s s' q a b (by rw [← hr _ (by omega)]; exact c) (by rw [← hr _ (by omega)]; exact d)⟩
    rw [hr _ (by omega), ma 11 (by decide), ma 12 (by decide), ma 13 (by decide)]
    rcases h1 s hs with h | ⟨q, t, n, a, b, c, d, f, ee, i, j⟩
    · exact Or.inl h
    · exact Or.inr ⟨q, t, n, a, b, c, d, f, ee, hE _ _ i, j⟩
  · intro s hs
    rw [hr _ (by omega), ma 14 (by decide), ma 15 (by decide), ma 16 (by decide)]
    rcases g s hs with h | ⟨q, n, a, b, c, d⟩ | ⟨q, t, n, a, b, c, ⟨ee, f, i, j⟩, d⟩
    · exact Or.inl h
    · exact Or.inr (Or.inl ⟨q, n, a, b, hE _ _ c, d⟩)
    · exact Or.inr (Or.inr ⟨q, t, n, a, b, c, ⟨ee, f, hE _ _ i, j⟩, d⟩)

theorem pl_10 (a b c d : Int32) (σ : SS) (δ : DS) (μ : MS) (H : Rel σ δ μ) : pLaw Rel 10 a b c d σ δ μ := by
  obtain ⟨T, RS, h⟩ := H.1
  have hf := H.2.2.2.2.2
  obtain ⟨n, hn, e1, e2, e3⟩ := H.2.2.1.1
  -- the tape
  have ⟨t, ht⟩ : ∃ t : Nat → Nat, ∀ i, i < n → t i < 256 ∧ σ.2.1 46 i = sgB (t i) ∧ μ.2 10 i = nI (t i) := by
    refine ⟨fun i => if hi : i < n then (e3 i hi).choose else 0, fun i hi => ?_⟩
    have ee : (fun i => if hi : i < n then (e3 i hi).choose else 0) i = (e3 i hi).choose := dif_pos hi
    rw [ee]
    exact (e3 i hi).choose_spec
  -- the model saves its row
  obtain ⟨μ1, p1, p2, p3, p4⟩ := m_puts_L (N := 1000) 368 0 1000 μ (by decide) (by decide) (fun k hk => absurd hk (by omega))
  have hst : stM μ1 0 (1 : Int32) (0 : Int32) = some (setA μ1 0 (upd (μ1.2 0) 1 0)) := stM_n (i := 1) (by decide) (by decide)
  generalize hμ2 : setA μ1 0 (upd (μ1.2 0) 1 0) = μ2 at hst
  have q1 : μ2.1 = μ.1 := by rw [← hμ2]; exact p2
  have q2 : ∀ j, j ≠ 0 → μ2.2 j = μ1.2 j := fun j hj => by rw [← hμ2]; exact setA_o _ _ _ hj
  have q3 : μ2.2 0 = upd (μ.2 0) 1 0 := by rw [← hμ2, setA_0, p3 0 (by decide)]
  generalize hμ6 : stF (stF (stF (stF μ2 28 0) 27 0) 25 0) 29 (bI false) = μ6
  have r1 : ∀ k, k < 24 ∨ 29 < k → μ6.1 k = μ.1 k := fun k hk => by
    rw [← hμ6, ← q1]
    exact (stF_ne (by omega)).trans ((stF_ne (by omega)).trans ((stF_ne (by omega)).trans (stF_ne (by omega))))
  have r2 : μ6.2 = μ2.2 := by rw [← hμ6]; rfl
  have r25 : μ6.1 25 = nI 0 := by rw [← hμ6]; exact (stF_ne (by decide)).trans (stF_at _ _ _)
  have r27 : μ6.1 27 = nI 0 := by rw [← hμ6]; exact (stF_ne (by decide)).trans ((stF_ne (by decide)).trans (stF_at _ _ _))
  have r28 : μ6.1 28 = nI 0 := by rw [← hμ6]; exact (stF_ne (by decide)).trans ((stF_ne (by decide)).trans ((stF_ne (by decide)).trans (stF_at _ _ _)))
  have r29 : μ6.1 29 = 0 := by rw [← hμ6]; exact stF_at _ _ _
  have hT : tape n t (sI σ 43 0) μ6 := by
    refine ⟨hn, (sI_ne (by decide)).trans e1, (r1 23 (by decide)).trans e2, fun i hi => ?_⟩
    rw [r2, q2 10 (by decide), p3 10 (by decide)]
    exact ht i hi
  obtain ⟨s, e, σ3, μ7, z1, z2, z3, z4, z5, z6, z7, z8⟩ := token_both (e := 0) hT (Nat.zero_le _) (sI_at _ _ _) r25
  have hp : pst n t s e 0 0 σ3 μ7 := ⟨⟨tape_cg hT (z7.1 41 (by decide) (by decide)) (by rw [z7.2]) (z8.1 23 (by decide) (by decide)) (by rw [z8.2]), z2, z5, z6.1, z6.2, (z8.1 29 (by decide) (by decide)).trans r29⟩, (z8.1 27 (by decide) (by decide)).trans r27, (z8.1 28 (by decide) (by decide)).trans r28⟩
  have m70 : μ7.2 0 = upd (μ.2 0) 1 0 := by rw [z8.2, r2, q3]
  -- the component's array
  have eA : dNewA δ (8 : Int32) = some (δ.1 ++ [(δ.2, .inl (8, 8, .inr (.inr (.inr (.inr (fun _ => none))))))], δ.2 + 1) := by
    unfold dNewA
    exact if_neg (by decide)
  generalize hd1 : (δ.1 ++ [(δ.2, (.inl (8, 8, .inr (.inr (.inr (.inr (fun _ => none))))) : dE))], δ.2 + 1) = d1 at eA
  have g1 : grw δ d1 := by
    rw [← hd1]
    exact ⟨exA_app, fresh_app hf (Nat.lt_succ_self _), Nat.le_succ _⟩
  have g2 : dl d1 δ.2 = some (.inl (8, 8, .inr (.inr (.inr (.inr (fun _ => none)))))) := by rw [← hd1]; exact dl_last hf
  have g3 : d1.2 = δ.2 + 1 := by rw [← hd1]
  have hL := rules_L hf (n := n) (t := t) (d0 := δ) (f0 := μ.2 0) n 1000 1000 s e 0 σ3 μ7 d1 [] hp (Nat.zero_le _) ⟨by decide, fun x hx => by cases hx⟩ ⟨_, g2, fun k x hx => by simp at hx⟩ ⟨by rw [m70]; exact upd_at _ _ _, fun _ => 0, rfl, rfl, fun _ _ => Nat.le_refl _, fun k x hx => by simp at hx⟩ g1 (by omega) (by omega) (by omega) (by omega) (fun k hk => by rw [z8.2, r2, q2 2 (by decide)]; exact p4 k hk) (fun i hi h1 => by rw [m70, upd_ne h1])
  have eC0 : f0_allRules 1000 σ δ = f0_allRules_L17 1000 1000 σ3 d1 δ.2 (nI 0) := by
    unfold f0_allRules
    rw [eA, Option.bind_some, Option.bind_some, z3]
    rfl
  have eM0 : m_rules 1000 μ = m_rules_L35 1000 1000 μ7 := by
    unfold m_rules
    rw [show m_puts 1000 μ = some μ1 from p1, Option.bind_some, hst, Option.bind_some, Option.bind_some, Option.bind_some, Option.bind_some, Option.bind_some, hμ6, z4]
    rfl
  have fr : ∀ σ' : SS, eC σ3 σ' → (∀ k, k ≠ 41 → k ≠ 42 → k ≠ 43 → k ≠ 72 → σ'.1 k = σ.1 k) ∧ σ'.2 = σ.2 := fun σ' hE => ⟨fun k k1 k2 k3 k4 => (hE.1 k k2 k3 k4).trans ((z7.1 k k2 k3).trans (sI_ne k3)), by rw [hE.2, z7.2]; rfl⟩
  have fm : ∀ μ' : MS, eF μ7 μ' → (∀ k, k = 3 ∨ k = 21 ∨ k = 37 → μ'.1 k = μ.1 k) ∧ ∀ j, j = 1 ∨ 9 ≤ j → μ'.2 j = μ.2 j := fun μ' hE => ⟨fun k hk => (hE.1 k hk).trans ((z8.1 k (by omega) (by omega)).trans (r1 k (by omega))), fun j hj => by rw [hE.2 j hj, z8.2, r2, q2 j (by omega), p3 j (by omega)]⟩
  rcases hL with ⟨σ', d', μ', RS', q, a1, a2, a3, ⟨a4, a5⟩, a6, a7, ⟨a8, a9⟩, a10, a11, a12⟩ | ⟨σ', d', μ', p, a1, a2, a3, a4, ⟨a5, a6⟩, a7, a8, a9⟩
  · obtain ⟨f1, f2⟩ := fr σ' a8
    obtain ⟨f3, f4⟩ := fm μ' a9
    refine pl_d (r := nI RS'.length) (σ' := sI (sF σ' 0 (some q)) 41 0) (δ' := d') (μ' := μ') ?_ ?_ (Rel_rules (RS' := RS') H (fun k k1 k2 k3 k4 => (sI_ne k1).trans (f1 k k1 k2 k3 k4)) (sI_at _ _ _) (by show σ'.2.1 = _; rw [f2]) (fun k hk => by show (sF σ' 0 (some q)).2.2.1 k = _; rw [sF_ne hk, f2]) (by show σ'.2.2.2 = _; rw [f2]) a11.1 a11.2.1 f3 a7 f4 a10 a3 (by show rulC d' ((sF σ' 0 (some q)).2.2.1 0) RS'; rw [sF_at]; exact a4) a6) a11.2.2 (by omega)
    · rw [cc10]
      unfold f0_rules
      rw [eC0, show f0_allRules_L17 1000 1000 σ3 d1 δ.2 (nI 0) = some (Sum.inr (q, σ', d')) from a1, Option.bind_some, if_pos (show δ.2 ≤ xnx xnA (.inr (q, σ', d')) from a11.2.2)]
      show (dlnR d' q).bind _ = _
      rw [a5]
      rfl
    · rw [mc10, eM0]
      exact a2
  · obtain ⟨f1, f2⟩ := fr σ' a5
    obtain ⟨f3, f4⟩ := fm μ' a6
    refine pl_d (r := (-100 : Int32) - nI p) (σ' := sI σ' 41 0) (δ' := d') (μ' := μ') ?_ ?_ (Rel_rules (RS' := RS) H (fun k k1 k2 k3 k4 => (sI_ne k1).trans (f1 k k1 k2 k3 k4)) (sI_at _ _ _) (by show σ'.2.1 = _; rw [f2]) (fun k hk => by show σ'.2.2.1 k = _; rw [f2]) (by show σ'.2.2.2 = _; rw [f2]) a8.1 a8.2.1 f3 a4 f4 (fun i hi h1 => a7 i (by omega)) h.2.1.2 (by show rulC d' (σ'.2.2.1 0) RS; rw [f2]; exact rulC_ext a8.1.ext h.2.2.1.2) (rulM_cg h.2.2.2 h.2.1.2 (fun i hi _ => a7 i hi))) a8.2.2 (by omega)
    · rw [cc10]
      unfold f0_rules
      rw [eC0, show f0_allRules_L17 1000 1000 σ3 d1 δ.2 (nI 0) = some (Sum.inl (2, σ', d')) from a1, Option.bind_some, if_pos (show δ.2 ≤ xnx xnA (.inl (2, σ', d')) from a8.2.2)]
      show (if (2 : Nat) = 2 then some ((-100 : Int32) - σ'.1 72, sI σ' 41 0, d') else none) = _
      rw [if_pos rfl, a2]
    · rw [mc10, eM0]
      exact a3
