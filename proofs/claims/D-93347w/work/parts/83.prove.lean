/-! PLAIN LAW: prove -/
set_option maxRecDepth 100000
/-- the kept town's frame -/
def FK (σ σ' : SS) : Prop := (∀ k, (7 ≤ k ∧ k < 14) ∨ k = 36 → σ'.1 k = σ.1 k) ∧ (∀ j, 13 ≤ j ∧ j < 26 → σ'.2.1 j = σ.2.1 j) ∧ σ'.2.2.1 1 = σ.2.2.1 1
def FKM (μ μ' : MS) : Prop := μ'.1 3 = μ.1 3 ∧ μ'.2 1 = μ.2 1
theorem FK.tr {a b c : SS} (h : FK a b) (g : FK b c) : FK a c := ⟨fun k hk => (g.1 k hk).trans (h.1 k hk), fun k hk => (g.2.1 k hk).trans (h.2.1 k hk), g.2.2.trans h.2.2⟩
theorem FX.tr {a b c : SS} (h : FX a b) (g : FX b c) : FX a c := ⟨fun k hk => (g.1 k hk).trans (h.1 k hk), fun k hk => (g.2.1 k hk).trans (h.2.1 k hk), fun k hk => (g.2.2.1 k hk).trans (h.2.2.1 k hk), g.2.2.2.trans h.2.2.2⟩
theorem FKM.tr {a b c : MS} (h : FKM a b) (g : FKM b c) : FKM a c := ⟨g.1.trans h.1, g.2.trans h.2⟩
theorem FXM.tr {a b c : MS} (h : FXM a b) (g : FXM b c) : FXM a c := ⟨fun k hk => (g.1 k hk).trans (h.1 k hk), fun k hk => (g.2 k hk).trans (h.2 k hk)⟩
theorem FC.K {σ σ' : SS} (h : FC σ σ') : FK σ σ' := ⟨fun k hk => h.1 k (by omega), fun j hj => h.2.1 j (by omega), h.2.2.1 1 (by decide) (by decide)⟩
theorem FM.K {μ μ' : MS} (h : FM μ μ') : FKM μ μ' := ⟨h.1 3 (by decide), h.2 1 (by decide)⟩
theorem rKept_k {σ σ' : SS} {δ δ' : DS} {μ μ' : MS} (H : rKept σ δ μ) (hF : FK σ σ') (hM : FKM μ μ') (hE : exA δ δ') : rKept σ' δ' μ' := by
  obtain ⟨⟨h1, h2⟩, h3⟩ := H
  refine ⟨⟨by rw [hF.1 36 (by decide), hM.1]; exact h1, by rw [hM.1]; exact h2⟩, fun hk => ?_⟩
  obtain ⟨K, RK, ⟨a, b⟩, c, d, e⟩ := h3 (by rw [← hM.1]; exact hk)
  refine ⟨K, RK, ⟨simC_cg a (fun k hk => hF.1 _ (by omega)) (fun j hj n hn => by rw [hF.2.1 _ (by omega)]), by rw [hM.2]; exact b⟩, c, ?_, by rw [hM.2]; exact e⟩
  rw [hF.2.2]
  exact rulC_ext hE.ext d
theorem fx44 (σ : SS) (f : Nat → Int32) : FX σ (sA σ 44 f) ∧ FK σ (sA σ 44 f) ∧ F2 σ (sA σ 44 f) := ⟨⟨fun _ _ => rfl, fun j hj => sA_ne (by omega), fun _ _ => rfl, rfl⟩, ⟨fun _ _ => rfl, fun j hj => sA_ne (by omega), rfl⟩, F2_sA (by decide)⟩
theorem fx9 (μ : MS) (f : Nat → Int32) : FXM μ (setA μ 9 f) ∧ FKM μ (setA μ 9 f) := ⟨⟨fun _ _ => rfl, fun j hj => setA_o _ _ _ (by omega)⟩, ⟨rfl, setA_o _ _ _ (by decide)⟩⟩
theorem cor_44 {T : Tw} {S : Int32} {RS : Rls} {δ : DS} {σ : SS} {μ : MS} (h : cor T S RS δ σ μ) (f g : Nat → Int32) : cor T S RS δ (sA σ 44 f) (setA μ 9 g) := ⟨⟨simC_40 h.1.1 (by decide) f, by rw [setA_o _ _ _ (by decide)]; exact h.1.2⟩, h.2.1, h.2.2.1, by rw [setA_o _ _ _ (by decide)]; exact h.2.2.2⟩
theorem prove_L {T0 : Tw} {RS : Rls} {δ : DS} {σ0 σ1 : SS} {μ0 μ1 : MS} (H : Rel σ0 δ μ0) (h0 : cor T0 (tS T0) RS δ σ1 μ1) {R : Nat} (hR4 : R ≤ 4) {pl : Nat → Nat} (hpl : ∀ i, i < R → pl i ≤ tP T0) : ∀ (r k fuel : Nat) (T : Tw) (S : Int32) (σ : SS) (μ : MS), cor T S RS δ σ μ → tP T = tP T0 → k + r = R → r ≤ tE T - tY T → r < fuel → sav T0 (σ1.2.2.1 0) (μ1.2 0) σ μ → σ.2.2.2 = σ1.2.2.2 → FX σ0 σ ∧ FK σ0 σ → FXM μ0 μ ∧ FKM μ0 μ → σ.1 58 = nI R → μ.1 21 = nI R → (∀ i, i < R → σ.2.1 43 i = nI (pl i) ∧ μ.2 8 i = nI (pl i)) → (∀ i, i < 3 * k → σ.2.1 44 i = μ.2 9 i) → ansB δ (f0_prove_L37 1000 δ fuel σ (nI k)) (m_prove_L25 1000 fuel μ (nI k)) := by
  intro r
  have hp6 : tP T0 ≤ 6 := h0.2.1.1.1.1
  induction r with
  | zero =>
    intro k fuel T S σ μ h hP h1 hr h2 s e fC fM n1 n2 hp hw
    obtain ⟨N, rfl⟩ : ∃ n, fuel = n + 1 := ⟨fuel - 1, by omega⟩
    obtain ⟨σ3, μ3, g1, g2, g3, g4, g5, g6, g7⟩ := trial_out (RS := RS) (δ := δ) s h0.M h0.2.1.1 h0.2.1.2 (by rw [e]; exact h0.2.2.1.1) h0.2.2.1.2 h0.2.2.2
    have n3 : σ3.1 58 = nI R := by rw [g6.1 58 (by decide)]; exact n1
    have n4 : μ3.1 21 = nI R := by rw [g7.1 21 (by decide)]; exact n2
    refine ⟨nI R, σ3, μ3, ?_, ?_, ⟨⟨T0, RS, g3⟩, RelX_x H.2 (fC.1.tr g6.X) (fM.1.tr g7.X) (exA.rf δ) H.2.2.2.2.2 (rKept_k H.2.1.1 (fC.2.tr g6.K) (fM.2.tr g7.K) (exA.rf δ)) ⟨R, hR4, n3, n4, fun i hi => by rw [g6.2.1 44 (by decide), g7.2 9 (by decide)]; exact hw i (by omega)⟩⟩⟩
    · show (if σ.1 58 ≤ nI k then _ else _) = _
      rw [n1, if_pos ((nN_le (by omega) (by omega)).mpr (by omega)), g1, Option.bind_some, n3]
    · show (if μ.1 21 ≤ nI k then _ else _) = _
      rw [n2, if_pos ((nN_le (by omega) (by omega)).mpr (by omega)), g2, Option.bind_some, n4]
  | succ r ih =>
    intro k fuel T S σ μ h hP h1 hr h2 s e fC fM n1 n2 hp hw
    obtain ⟨N, rfl⟩ : ∃ n, fuel = n + 1 := ⟨fuel - 1, by omega⟩
    have hd10 : tD T ≤ 10 := h.2.1.1.1.2.1
    have hk : ¬ nI R ≤ nI k := fun q => by have := (nN_le (by omega) (by omega)).mp q; omega
    obtain ⟨p1, p2⟩ := hp k (by omega)
    have hplk := hpl k (by omega)
    have c1 := cor_44 h (upd (σ.2.1 44) (3 * k) (nI (pl k))) (upd (μ.2 9) (3 * k) (nI (pl k)))
    obtain ⟨σ2, μ2, g1, g2, g3, g4, g5⟩ := cor_pass c1 (by omega) (N := 1000) (by decide) (a := pl k) (by omega)
    obtain ⟨e1, e2, e3, e4, e5, e6⟩ := pass_ali h.2.1.1 RS (pl k)
    have a44 : σ2.2.1 44 = upd (σ.2.1 44) (3 * k) (nI (pl k)) := by rw [g4.2.1 44 (by decide) (by decide), sA_at]
    have a9 : μ2.2 9 = upd (μ.2 9) (3 * k) (nI (pl k)) := by rw [g5.2.1 9 (by decide) (by decide), setA_at]
    have c3 := cor_44 g3 (upd (upd (σ2.2.1 44) (3 * k + 1) (nI (passW T RS (pl k)))) (3 * k + 2) (setS (passT T RS (pl k)) (1 : Int32) (tD (passT T RS (pl k))))) (upd (upd (μ2.2 9) (3 * k + 1) (nI (passW T RS (pl k)))) (3 * k + 2) (setS (passT T RS (pl k)) (1 : Int32) (tD (passT T RS (pl k)))))
    have sAA : ∀ f1 f2 : Nat → Int32, sA (sA σ2 44 f1) 44 f2 = sA σ2 44 f2 := fun f1 f2 => by
      unfold sA
      refine congrArg (fun z => (σ2.1, z, σ2.2.2)) (funext fun j => ?_)
      dsimp only
      split <;> rfl
    have t1 : f0_setOf 1000 (sA σ2 44 (upd (σ2.2.1 44) (3 * k + 1) (nI (passW T RS (pl k))))) (1 : Int32) = some (setS (passT T RS (pl k)) (1 : Int32) (tD (passT T RS (pl k)))) := f_set_eq (simC_40 g3.1.1 (by decide) _) (by rw [e2]; exact hd10) (by decide) _
    have t2 : m_those 1000 (setA μ2 9 (upd (μ2.2 9) (3 * k + 1) (nI (passW T RS (pl k))))) (1 : Int32) = some (setS (passT T RS (pl k)) (1 : Int32) (tD (passT T RS (pl k)))) := m_those_sc (S := S + nI (passW T RS (pl k))) (by rw [setA_o _ _ _ (by decide)]; exact g3.1.2) (by rw [e2]; exact hd10) _
    have s3 : sav T0 (σ1.2.2.1 0) (μ1.2 0) (sA σ2 44 (upd (upd (σ2.2.1 44) (3 * k + 1) (nI (passW T RS (pl k)))) (3 * k + 2) (setS (passT T RS (pl k)) (1 : Int32) (tD (passT T RS (pl k)))))) (setA μ2 9 (upd (upd (μ2.2 9) (3 * k + 1) (nI (passW T RS (pl k)))) (3 * k + 2) (setS (passT T RS (pl k)) (1 : Int32) (tD (passT T RS (pl k)))))) := sav_cg (sav_fr (sav_cg s (fx44 σ _).2.2 (setA_o μ 9 _ (by decide))) g4 g5) (fx44 σ2 _).2.2 (setA_o μ2 9 _ (by decide))
    obtain ⟨x, σ', μ', z1, z2, z3⟩ := ih (k + 1) N (passT T RS (pl k)) _ _ _ c3 (by rw [e1]; exact hP) (by omega) (by rw [e3, e4]; omega) (by omega) s3 (by show σ2.2.2.2 = _; rw [g4.1]; exact e) ⟨((fC.1.tr (fx44 σ _).1).tr g4.FC.X).tr (fx44 σ2 _).1, ((fC.2.tr (fx44 σ _).2.1).tr g4.FC.K).tr (fx44 σ2 _).2.1⟩ ⟨((fM.1.tr (fx9 μ _).1).tr g5.FM.X).tr (fx9 μ2 _).1, ((fM.2.tr (fx9 μ _).2).tr g5.FM.K).tr (fx9 μ2 _).2⟩ (by show σ2.1 58 = _; rw [g4.2.2 58 (by decide)]; exact n1) (by show μ2.1 21 = _; rw [g5.1]; exact n2) (fun i hi => by
      rw [sA_ne (by decide), setA_o _ _ _ (by decide), g4.2.1 43 (by decide) (by decide), g5.2.1 8 (by decide) (by decide), sA_ne (by decide), setA_o _ _ _ (by decide)]
      exact hp i hi) (fun i hi => by
      rw [sA_at, setA_at, a44, a9]
      unfold upd
      by_cases q2 : i = 3 * k + 2
      · rw [if_pos q2, if_pos q2]
      · rw [if_neg q2, if_neg q2]
        by_cases q1 : i = 3 * k + 1
        · rw [if_pos q1, if_pos q1]
        · rw [if_neg q1, if_neg q1]
          by_cases q0 : i = 3 * k
          · rw [if_pos q0, if_pos q0]
          · rw [if_neg q0, if_neg q0]
            exact hw i (by omega))
    have hix : (3 : Int32) * nI k = nI (3 * k) := nN_mul 3 k
    have hix1 : nI (3 * k) + (1 : Int32) = nI (3 * k + 1) := nN_add (3 * k) 1
    have hix2 : nI (3 * k) + (2 : Int32) = nI (3 * k + 2) := nN_add (3 * k) 2
    refine ⟨x, σ', μ', ?_, ?_, z3⟩
    · show (if σ.1 58 ≤ nI k then _ else _) = _
      rw [n1, if_neg hk, ldC_n (by show k < 4; omega) (by omega), p1, Option.bind_some, hix, cS_at (by show 3 * k < 12; omega) (by omega), Option.bind_some, ldC_n (by show k < 4; omega) (by omega), sA_ne (by decide), p1, Option.bind_some, g1, Option.bind_some, hix1, hix2]
      dsimp only
      rw [cS_at (by show 3 * k + 1 < 12; omega) (by omega), Option.bind_some, t1, Option.bind_some, cS_at (by show 3 * k + 2 < 12; omega) (by omega), sA_at, sAA, Option.bind_some, nI_1]
      exact z1
    · show (if μ.1 21 ≤ nI k then _ else _) = _
      rw [n2, if_neg hk, ldM_n (by show k < 4; omega) (by omega), p2, Option.bind_some, hix, stM_n (by show 3 * k < 12; omega) (by omega), Option.bind_some, ldM_n (by show k < 4; omega) (by omega), setA_o _ _ _ (by decide), p2, Option.bind_some, g2, Option.bind_some, hix1, hix2]
      dsimp only
      rw [stM_n (by show 3 * k + 1 < 12; omega) (by omega), Option.bind_some, t2, Option.bind_some, stM_n (by show 3 * k + 2 < 12; omega) (by omega), setA_at, setA_setA, Option.bind_some, nI_1]
      exact z2
theorem pl_39 (a b c d : Int32) (σ : SS) (δ : DS) (μ : MS) (H : Rel σ δ μ) : pLaw Rel 39 a b c d σ δ μ := by
  obtain ⟨T, RS, h⟩ := H.1
  rcases long_both a with ⟨n, hn, rfl, e1, e2⟩ | ⟨e1, e2⟩
  · obtain ⟨σ1, g1, g2, g3, g4⟩ := findPlans_C h.C hn
    obtain ⟨μ1, q1, q2, q3, q4, q5⟩ := plansOf_M h.Mo hn 0
    have hinv := bestP_inv h.2.1.1 RS hn
    have hR : Rel σ1 δ μ1 := Rel_cor H g4.FC q5.FM (cor_CM g2 q2)
    have hy : yrs T n ≤ n := Nat.min_le_left _ _
    have c1 : cor T (tS T) RS δ σ1 (stF μ1 21 (nI (yrs T n))) := cor_CM g2 q2
    obtain ⟨σ2, μ2, a1, a2, a3, a4, a5, a6, a7, a8⟩ := trial_in c1
    have p51 : σ2.1 51 = nI (yrs T n) := by
      obtain ⟨σ2', b1, b2⟩ := become_eq σ1 (t0 := 2) (t1 := 0) (by decide) (by decide) (by decide)
      rw [b1] at a1
      injection a1 with a1
      subst a1
      rw [b2.2.1 51 (by omega), g3.2.2.1, hinv.1]
    have i58 : ∀ k, k ≠ 58 → (sI σ2 58 (nI (yrs T n))).1 k = σ2.1 k := fun k hk => upd_ne hk
    have c2 : cor T (tS T) RS δ (sI σ2 58 (nI (yrs T n))) μ2 := ⟨⟨simC_own a3.1.1 (by decide) _, a3.1.2⟩, a3.2.1, a3.2.2.1, a3.2.2.2⟩
    have p43 : σ2.2.1 43 = σ1.2.1 43 := by
      obtain ⟨σ2', b1, b2⟩ := become_eq σ1 (t0 := 2) (t1 := 0) (by decide) (by decide) (by decide)
      rw [b1] at a1
      injection a1 with a1
      subst a1
      exact b2.2.2.2.1 43 (by omega)
    have p8 : μ2.2 8 = μ1.2 8 := by
      obtain ⟨μ2', b1, b2, b3, b4⟩ := m_puts_L (N := 1000) 368 0 1000 (stF μ1 21 (nI (yrs T n))) (by omega) (by omega) (fun k hk => absurd hk (by omega))
      have b1' : m_puts 1000 (stF μ1 21 (nI (yrs T n))) = some μ2' := b1
      rw [b1'] at a2
      injection a2 with a2
      subst a2
      exact b3 8 (by decide)
    obtain ⟨x, σ', μ', z1, z2, z3⟩ := prove_L (σ0 := σ1) (μ0 := μ1) hR c1 (R := yrs T n) (by omega) (pl := (bestP T RS n).2.2.2) hinv.2 (yrs T n) 0 1000 T (tS T) (sI σ2 58 (nI (yrs T n))) μ2 c2 rfl (by omega) (Nat.min_le_right _ _) (by omega) (sav_cg a4 (F2_sI (by decide)) rfl) a5 ⟨a6.X.tr ⟨fun k hk => i58 k (by omega), fun _ _ => rfl, fun _ _ => rfl, rfl⟩, a6.K.tr ⟨fun k hk => i58 k (by omega), fun _ _ => rfl, rfl⟩⟩ ⟨FXM.tr ⟨fun k hk => stF_ne (by omega), fun _ _ => rfl⟩ a7.X, FKM.tr ⟨stF_ne (by decide), rfl⟩ a7.K⟩ rfl (by rw [a7.1 21 (by decide), stF_at]) (fun i hi => by
      show σ2.2.1 43 i = _ ∧ _
      rw [p43, p8]
      exact ⟨g3.2.2.2.2 i (by rw [hinv.1]; exact hi), q3.2.2.2 i (by rw [hinv.1]; exact hi)⟩) (fun i hi => absurd hi (by omega))
    refine pl_0 (r := x) (σ' := σ') (μ' := μ') ?_ ?_ z3
    · rw [cc39]
      unfold f0_prove
      rw [e1, Option.bind_some, if_pos rfl, g1, Option.bind_some, a1, Option.bind_some, p51, Option.bind_some, show f0_prove_L37 1000 δ 1000 (sI σ2 58 (nI (yrs T n))) (0 : Int32) = some (x, σ') from z1]
      rfl
    · rw [mc39]
      unfold m_prove
      rw [e2, Option.bind_some, if_pos rfl, q1, Option.bind_some, Option.bind_some]
      dsimp only
      rw [a2, Option.bind_some]
      exact z2
  · exact pl_0 (r := -1) (σ' := σ) (μ' := μ) (by rw [cc39]; unfold f0_prove; rw [e1]; rfl) (by rw [mc39]; unfold m_prove; rw [e2]; rfl) H
