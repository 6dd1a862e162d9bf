/-! PLAIN LAW: rules read from the tape: one of a condition -/
set_option maxRecDepth 100000
theorem oneOf_step (D : Nat) (σ : SS) (d : DS) (a0 : Int32) : f0_oneOf 1000 (D + 1) σ d a0 = (f0_goesOn 1000 σ 14).bind fun r1 => (if r1.1 = true then (some (dNew d 12 [.null])).bind fun d9 => xb xnA d9 (f0_oneOf 1000 D r1.2 d9 a0) fun r10 => (dMonV r10.2.2 (f14_init r10.2.1 r10.2.2 d.2 r10.1)).bind fun r11 => some (Sum.inr (d.2, r11.1, r11.2)) else (if (3 : Int32) ≤ a0 then cmpC r1.2 d (f0_oneOf 1000 D) else (f0_goesOn 1000 r1.2 15).bind fun r4 => (if r4.1 = true then xb xnA d (f0_cond 1000 (f0_oneOf 1000 D) r4.2 d (a0 + (1 : Int32))) fun r7 => xb xnV r7.2.2 (f0_want 1000 r7.2.1 r7.2.2 16) fun r8 => some (Sum.inr (r7.1, r8.1, r8.2)) else cmpC r4.2 d (f0_oneOf 1000 D)))) := rfl
theorem one_step (kM : MS → Option MS) (f : Nat) (μ : MS) (x : Bool) : m_one_L2 1000 kM (f + 1) μ x = (m_word 1000 μ).bind fun r1 => (if (lg_cmp r1 (14836 : Int64)) = 0 then (if x = true then (m_wants 1000 μ true).bind fun r7 => m_one_L2 1000 kM f r7 false else (m_wants 1000 μ true).bind fun r8 => m_one_L2 1000 kM f r8 true) else (if (μ.1 29) = 0 then (m_byteAt μ (μ.1 24)).bind fun r4 => (if r4 = (40 : Int32) then (if (3 : Int32) ≤ (μ.1 27) then m_one_B65 1000 kM μ x false else m_one_B65 1000 kM μ x true) else (m_comparison 1000 μ).bind fun r5 => (if x = true then (m_writes r5 (-20 : Int32)).bind fun r6 => some r6 else some r5)) else (m_comparison 1000 μ).bind fun r2 => (if x = true then (m_writes r2 (-20 : Int32)).bind fun r3 => some r3 else some r2))) := rfl
def W20 (x : Bool) (r : MS) : Option MS := (if x = true then (m_writes r (-20 : Int32)).bind fun r6 => some r6 else some r)
theorem B65_step (kM : MS → Option MS) (μ : MS) (x y0 : Bool) : m_one_B65 1000 kM μ x y0 = (m_wants 1000 μ y0).bind fun r1 => (kM (stF r1 27 ((r1.1 27) + (1 : Int32)))).bind fun r3 => (if ((stF r3 27 ((r3.1 27) - (1 : Int32))).1 29) = 0 then (m_byteAt (stF r3 27 ((r3.1 27) - (1 : Int32))) ((stF r3 27 ((r3.1 27) - (1 : Int32))).1 24)).bind fun r7 => (if r7 = (41 : Int32) then (m_wants 1000 (stF r3 27 ((r3.1 27) - (1 : Int32))) true).bind fun r10 => W20 x r10 else (m_wants 1000 (stF r3 27 ((r3.1 27) - (1 : Int32))) false).bind fun r8 => W20 x r8) else (m_wants 1000 (stF r3 27 ((r3.1 27) - (1 : Int32))) false).bind fun r5 => W20 x r5) := rfl
theorem want_eq {n : Nat} {t : Nat → Nat} {s e : Nat} {σ : SS} {μ : MS} (h : st n t s e σ μ) (d : DS) {k : Nat} (hk : k < 21) : f0_want 1000 σ d k = if wl t s e = nm k then (f0_next 1000 σ).bind fun r2 => some (Sum.inr (r2, d)) else some (Sum.inl (2, sI σ 72 (nI s), d)) := by
  unfold f0_want
  rw [goesOn_eq h hk]
  by_cases c : wl t s e = nm k
  · rw [if_pos c, if_pos c]
    cases f0_next 1000 σ with
    | none => rfl
    | some x => rfl
  · rw [if_neg c, if_neg c, Option.bind_some, if_neg (show ¬ (false, σ).1 = true from Bool.false_ne_true), show (false, σ).2.1 42 = nI s from h.2.2.1.1]
    rfl
theorem pst_27 {n : Nat} {t : Nat → Nat} {s e op cd : Nat} {σ : SS} {μ : MS} (h : pst n t s e op cd σ μ) (op' : Nat) : pst n t s e op' cd σ (stF μ 27 (nI op')) := ⟨⟨tape_cg h.1.1 rfl rfl (stF_ne (by decide)) rfl, h.1.2.1, h.1.2.2.1, (stF_ne (by decide)).trans h.1.2.2.2.1, (stF_ne (by decide)).trans h.1.2.2.2.2.1, (stF_ne (by decide)).trans h.1.2.2.2.2.2⟩, stF_at _ _ _, (stF_ne (by decide)).trans h.2.2⟩
theorem wr_27 {n s e : Nat} {μ : MS} (h : wr n s e μ) (x : Int32) : wr n s e (stF μ 27 x) := wr_cg h (stF_ne (by decide)) (stF_ne (by decide)) (stF_ne (by decide)) ((stF_ne (by decide)).trans h.2.2.2.2.2.2)
theorem W20_w {n s e : Nat} {μ : MS} (h : wr n s e μ) (x : Bool) : W20 x μ = some μ := by
  unfold W20
  rw [writes_w h]
  cases x <;> rfl
/-- the component faults at a bracket -/
theorem val_par {n : Nat} {t : Nat → Nat} {s e : Nat} {σ : SS} {μ : MS} (h : st n t s e σ μ) (hw : wl t s e = nm 15) (d : DS) : f0_value 1000 σ d = some (.inl (2, sI σ 72 (nI s), dNew d 16 [.int 0, .int 0])) := by
  have hn := h.1.1
  have hen := h.2.1.2.1
  have hN : f0_nameOf 1000 σ 2 = some (-1, σ) := by
    rcases nameOf_eq h (j := 2) (by decide) with ⟨i, hi, hw', -⟩ | ⟨-, hN⟩
    · have hi5 : i < 5 := hi
      have : 9 + i = 15 := nm_in (by omega) (by decide) (hw'.symm.trans hw)
      omega
    · exact hN
  obtain ⟨l1, l2⟩ := (wl_eq _ _ _ _).mp hw
  have l1' : e - s = 1 := l1
  have l2' : t s = 40 := l2 0 (by decide)
  obtain ⟨b1, b2, b3⟩ := h.1.2.2.2 s (by omega)
  have hF : f0_figure 1000 σ (dNew d 16 [.int 0, .int 0]) = some (.inl (2, sI σ 72 (nI s), dNew d 16 [.int 0, .int 0])) := by
    unfold f0_figure
    rw [h.2.2.1.1, h.2.2.1.2, nN_sub h.2.1.1, l1', if_neg (by decide), if_neg (by decide), ldC_n (by show s < 200; omega) (by omega), b2, l2']
    rfl
  unfold f0_value
  rw [hN, Option.bind_some]
  show xb xnA (dNew d 16 [.int 0, .int 0]) (f0_figure 1000 σ (dNew d 16 [.int 0, .int 0])) _ = _
  exact xb_inl hF (Nat.le_refl _)
theorem one_ok {n : Nat} {t : Nat → Nat} : ∀ (D op s e cd : Nat) (x : Bool) (fuel : Nat) (σ : SS) (μ : MS) (d : DS), op ≤ 3 → pst n t s e op cd σ μ → cd + bN x ≤ s → fresh d → n - s + 3 * (3 - op) < 3 * D → n - s < fuel → eRes n t op x s cd σ μ d (f0_oneOf 1000 D σ d (nI op)) (m_one_L2 1000 (m_condition 1000 (5 - op)) fuel μ x) := by
  intro D
  induction D with
  | zero => intro op s e cd x fuel σ μ d _ _ _ _ h; omega
  | succ D ih =>
    intro op s e cd x fuel σ μ d hop hp hc hf hD hfu
    obtain ⟨F, rfl⟩ : ∃ n, fuel = n + 1 := ⟨fuel - 1, by omega⟩
    have hn := hp.1.1.1
    have hen := hp.1.2.1.2.1
    have hse := hp.1.2.1.1
    obtain ⟨r, w1, w2⟩ := word_both hp.1
    have w3 := w2 14 (by decide) (by decide) (by decide) (by decide)
    rw [show lI (hsW (nm 14) 0) = (14836 : Int64) from rfl] at w3
    rw [oneOf_step, one_step, goesOn_eq hp.1 (by decide), w1, Option.bind_some]
    by_cases cn : wl t s e = nm 14
    · -- not
      have hlen : e - s = 3 := name_len (n := n) cn
      obtain ⟨s2, e2, σ2, μ2, c1, c2, c3, c4, c5, c6, c7⟩ := next_st hp.1
      have hs2n : s2 ≤ n := by have := c4.2.1.1; have := c4.2.1.2.1; omega
      rw [if_pos cn, if_pos (w3.mpr cn), c2, c3, Option.bind_some, Option.bind_some, if_pos rfl, Option.bind_some]
      have hp2 : pst n t s2 e2 op cd σ2 μ2 := pst_n hp c4 (fun k hk => c6 k (by omega) (by omega) (by omega))
      have c6' : eM μ μ2 := ⟨fun k hk => c6 k (by omega) (by omega) (by omega), fun j hj => by rw [c7]⟩
      obtain ⟨g1, g2, g3⟩ := grw_new hf 12 [.null]
      have hx : (if x = true then (some μ2).bind (fun r7 => m_one_L2 1000 (m_condition 1000 (5 - op)) F r7 false) else (some μ2).bind (fun r8 => m_one_L2 1000 (m_condition 1000 (5 - op)) F r8 true)) = m_one_L2 1000 (m_condition 1000 (5 - op)) F μ2 (!x) := by
        cases x <;> rfl
      rw [hx]
      have hbx : bN x ≤ 1 ∧ bN (!x) ≤ 1 := by cases x <;> decide
      dsimp only
      rcases ih op s2 e2 cd (!x) F σ2 μ2 (dNew d 12 [.null]) hop hp2 (by omega) g1.2.1 (by omega) (by omega) with ⟨s3, e3, cd3, q3, d3, σ3, μ3, ev3, dep3, p1, p2, p3, ⟨p4, p5, p6, p7⟩, ⟨p8, p9, p10⟩, p11, p12, p13, p14, p15⟩ | ⟨s3, e3, d3, σ3, μ3, p1, p2, p3, p4, ⟨p5, p6⟩, p7, p8⟩
      · obtain ⟨d4, i1, i2⟩ := i14 p14.2.1 (p14.1 _ _ g2) σ3 q3
        have hgr : grw d d4 := grw_bui hf (g1.tr p14) i2
        have hag3 : ∀ c, agL d.2 d4 c → agL (dNew d 12 [.null]).2 d3 c := fun c hc q e hq he => hc q e (by rw [g3] at hq; omega) (by rw [i2.2.1 q (by rw [g3] at hq; omega)]; exact he)
        have q1 : d4.2 = d3.2 := i2.2.2.1
        rw [g3] at p15
        rw [xb_inr p1 p14.2.2, p2]
        dsimp only
        rw [i1, Option.bind_some]
        refine Or.inl ⟨s3, e3, cd3, d.2, d4, σ3, μ3, fun fv => !ev3 fv, dep3 + 1, rfl, rfl, p3, ⟨by omega, by omega, p6, by omega⟩, ⟨c5.E.tr p8, c6'.tr p9, fun i hi => by rw [p10 i hi, c7]⟩, tells_ev p11 (fun fv => ?_), cnd_not i2.1 (Nat.le_refl _) (p12.mono hag3 (Nat.le_refl _)), fun fv fw hh => ?_, hgr, by omega⟩
        · show (if (x ^^ (!ev3 fv)) = true then (1 : Int32) else 0) = (if ((!x) ^^ ev3 fv) = true then 1 else 0)
          cases x <;> cases ev3 fv <;> rfl
        · show (!ev3 fv) = (!ev3 fw)
          rw [p13 fv fw hh]
      · rw [g3] at p8
        exact Or.inr ⟨s3, e3, d3, σ3, μ3, xb_inl p1 p7.2.2, p2, p3, p4, ⟨c5.E.tr p5, c6'.tr p6⟩, g1.tr p7, by omega⟩
    · rw [if_neg cn, if_neg (fun z => cn (w3.mp z)), Option.bind_some, if_neg (show ¬ (false, σ).1 = true from Bool.false_ne_true), if_pos hp.1.2.2.2.2.2]
      dsimp only
      obtain ⟨w, b1, b2⟩ := par_both hp.1 (k := 15) (c := 40) rfl rfl rfl (by decide)
      rw [b1, Option.bind_some, hp.2.1, goesOn_eq hp.1 (show 15 < 21 by decide)]
      have h3op : (3 : Int32) ≤ nI op ↔ 3 ≤ op := nN_le (a := 3) (by decide) (by omega)
      by_cases cp : wl t s e = nm 15
      · rw [if_pos (show w = 40 from b2.mpr cp)]
        have hlen : e - s = 1 := name_len (n := n) cp
        by_cases h3 : 3 ≤ op
        · have ho3 : op = 3 := by omega
          subst ho3
          rw [if_pos (h3op.mpr h3), if_pos (h3op.mpr h3), B65_step]
          obtain ⟨μ2, v1, v2, v3, v4⟩ := wants_f hp.1
          have v2' := wr_27 v2 (μ2.1 27 + 1)
          have v5 := wr_27 v2' ((stF μ2 27 (μ2.1 27 + 1)).1 27 - 1)
          obtain ⟨μ5, y1, y2, y3, y4⟩ := wants_w v5 false
          obtain ⟨g1, g2, g3⟩ := grw_new hf 16 [.int 0, .int 0]
          have e2 : eM μ μ2 := ⟨fun k hk => v3 k (by omega), fun j hj => by rw [v4]⟩
          refine Or.inr ⟨s, e, dNew d 16 [.int 0, .int 0], sI σ 72 (nI s), μ5, ?_, ?_, y2, sI_at _ _ _, ⟨eC72 _ _, (e2.tr ((eMs μ2 (k := 27) _ (by decide)).tr (eMs _ (k := 27) _ (by decide)))).tr ⟨fun k hk => y3 k (by omega), fun j hj => by rw [y4]⟩⟩, g1, by rw [g3]; omega⟩
          · unfold cmpC
            exact xb_inl (val_par hp.1 cp d) (by show d.2 ≤ _; rw [g3]; omega)
          · rw [v1, Option.bind_some, show m_condition 1000 (5 - 3) (stF μ2 27 (μ2.1 27 + 1)) = some (stF μ2 27 (μ2.1 27 + 1)) from cond_w v2', Option.bind_some, if_neg (by rw [v5.2.2.2.2.2.2]; decide), y1, Option.bind_some]
            exact W20_w y2 x
        · rw [if_neg (fun z => h3 (h3op.mp z)), if_neg (fun z => h3 (h3op.mp z)), if_pos cp, B65_step]
          obtain ⟨s2, e2, σ2, μ2, c1, c2, c3, c4, c5, c6, c7⟩ := next_st hp.1
          have hs2n : s2 ≤ n := by have := c4.2.1.1; have := c4.2.1.2.1; omega
          have hp2 : pst n t s2 e2 op cd σ2 μ2 := pst_n hp c4 (fun k hk => c6 k (by omega) (by omega) (by omega))
          have c6' : eM μ μ2 := ⟨fun k hk => c6 k (by omega) (by omega) (by omega), fun j hj => by rw [c7]⟩
          have hp2' := pst_27 hp2 (op + 1)
          rw [c2, c3, Option.bind_some, Option.bind_some, Option.bind_some, if_pos rfl, hp2.2.1, nI_1]
          dsimp only
          have hcond := cond_eq (n := n) (t := t) (op := op + 1) (s0 := s2) (dm := 5 - (op + 1)) (kC := f0_oneOf 1000 D) (fun s' e' cd' σ' μ' d' h1 h2 h3 h4 => ih (op + 1) s' e' cd' false 1000 σ' μ' d' (by omega) h2 h3 h4 (by omega) (by omega)) s2 e2 cd σ2 (stF μ2 27 (nI (op + 1))) d (Nat.le_refl _) hp2' (by omega) hf
          rw [show 5 - (op + 1) + 1 = 5 - op by omega] at hcond
          rcases hcond with ⟨s3, e3, cd3, q3, d3, σ3, μ3, ev3, dep3, p1, p2, p3, ⟨p4, p5, p6, p7⟩, ⟨p8, p9, p10⟩, p11, p12, p13, p14, p15⟩ | ⟨s3, e3, d3, σ3, μ3, p1, p2, p3, p4, ⟨p5, p6⟩, p7, p8⟩
          · have p7' : cd3 + s2 ≤ cd + s3 := p7
            have hp3 := pst_27 p3 op
            have hs3n : s3 ≤ n := by have := p3.1.2.1.1; have := p3.1.2.1.2.1; omega
            have hsub : nI (op + 1) - (1 : Int32) = nI op := nN_sub (a := op + 1) (b := 1) (by omega)
            rw [xb_inr p1 p14.2.2, p2, Option.bind_some, p3.2.1, hsub, if_pos hp3.1.2.2.2.2.2]
            dsimp only
            obtain ⟨w', q1, q2⟩ := par_both hp3.1 (k := 16) (c := 41) rfl rfl rfl (by decide)
            rw [q1, Option.bind_some, want_eq hp3.1 d3 (show 16 < 21 by decide)]
            have ec0 : eM μ (stF μ3 27 (nI op)) := ((c6'.tr (eMs μ2 (k := 27) _ (by decide))).tr p9).tr (eMs μ3 (k := 27) _ (by decide))
            by_cases cq : wl t s3 e3 = nm 16
            · have hlen3 : e3 - s3 = 1 := name_len (n := n) cq
              obtain ⟨s4, e4, σ4, μ4, y1, y2, y3, y4, y5, y6, y7⟩ := next_st hp3.1
              have hp4 : pst n t s4 e4 op cd3 σ4 μ4 := pst_n hp3 y4 (fun k hk => y6 k (by omega) (by omega) (by omega))
              rw [if_pos (show w' = 41 from q2.mpr cq), if_pos cq, y2, y3]
              have hres : eRes n t op false s cd σ μ d (xb xnV d3 ((some σ4).bind fun r2 => some (Sum.inr (r2, d3))) fun r8 => some (Sum.inr (q3, r8.1, r8.2))) (some μ4) := by
                refine Or.inl ⟨s4, e4, cd3, q3, d3, σ4, μ4, ev3, dep3, xb_inr rfl (Nat.le_refl _), rfl, hp4, ⟨by omega, p5, p6, by show cd3 + s ≤ cd + s4 + 0; omega⟩, ⟨(c5.E.tr p8).tr y5.E, ec0.tr ⟨fun k hk => y6 k (by omega) (by omega) (by omega), fun j hj => by rw [y7]⟩, fun i hi => ?_⟩, tells_cg p11 (fun i h1 h2 => by show μ4.2 0 (168 + i) = μ3.2 0 (168 + i); rw [y7]; rfl), p12, p13, p14, by omega⟩
                rw [y7]
                show μ3.2 0 i = _
                rw [p10 i hi]
                show μ2.2 0 i = _
                rw [c7]
              exact not_back hres x hc
            · obtain ⟨μ4, y1, y2, y3, y4⟩ := wants_f hp3.1
              rw [if_neg (show ¬ w' = 41 from fun z => cq (q2.mp z)), if_neg cq, y1, Option.bind_some, W20_w y2]
              exact Or.inr ⟨s3, e3, d3, sI σ3 72 (nI s3), μ4, xb_inl rfl (Nat.le_refl _), rfl, y2, sI_at _ _ _, ⟨(c5.E.tr p8).tr (eC72 _ _), ec0.tr ⟨fun k hk => y3 k (by omega), fun j hj => by rw [y4]⟩⟩, p14, by omega⟩
          · have p3' := wr_27 p3 (μ3.1 27 - 1)
            obtain ⟨μ4, y1, y2, y3, y4⟩ := wants_w p3' false
            rw [xb_inl p1 p7.2.2, p2, Option.bind_some, if_neg (by rw [p3'.2.2.2.2.2.2]; decide), y1, Option.bind_some, W20_w y2]
            exact Or.inr ⟨s3, e3, d3, σ3, μ4, rfl, rfl, y2, p4, ⟨c5.E.tr p5, (((c6'.tr (eMs μ2 (k := 27) _ (by decide))).tr p6).tr (eMs μ3 (k := 27) _ (by decide))).tr ⟨fun k hk => y3 k (by omega), fun j hj => by rw [y4]⟩⟩, p7, by omega⟩
      · rw [if_neg (show ¬ w = 40 from fun z => cp (b2.mp z)), if_neg cp, Option.bind_some, if_neg (show ¬ (false, σ).1 = true from Bool.false_ne_true)]
        have hcm := not_back (cmp_both hp (by omega) hf (f0_oneOf 1000 D)) x hc
        split
        · exact hcm
        · exact hcm
