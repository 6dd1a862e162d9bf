/-! PLAIN LAW: the host: goAll, wouldBe -/
set_option maxRecDepth 100000
theorem sub_lt {a b c : Nat} (ha : a < 2 ^ 20) (hb : b < 2 ^ 20) (hc : c < 2 ^ 20) : (nI a - nI b < nI c) ↔ a < b + c := by
  rw [Int32.lt_iff_toInt_lt, Int32.toInt_sub, nI_toInt (by omega), nI_toInt (by omega), nI_toInt (by omega), Int.bmod_eq_of_le (by omega) (by omega)]
  omega
theorem i64_add {i k : Nat} (hi : i < 2 ^ 20) (hk : k < 2 ^ 20) : (nI i).toInt64 + (nI k).toInt64 = (nI (i + k)).toInt64 := by
  apply Int64.toInt_inj.mp
  rw [Int64.toInt_add, Int32.toInt_toInt64, Int32.toInt_toInt64, Int32.toInt_toInt64, nI_toInt (by omega), nI_toInt (by omega), nI_toInt (by omega), Int.bmod_eq_of_le (by omega) (by omega)]
  omega
theorem m_isItem_eq {μ : MS} {s n i k : Nat} (hs : s < 4) (h12 : μ.2 12 s = nI n) (hn : n ≤ 40) (hi : i < 40) (hk : k ≤ 20) : m_isItem μ (nI s) ((nI i).toInt64 + (nI k).toInt64) = some (decide (i + k < n)) := by
  unfold m_isItem
  rw [ldM_n (by show s < 4; exact hs) (by omega), h12, Option.bind_some, i64_add (by omega) (by omega)]
  rcases in_below (nI (i + k)) n (by omega) with ⟨j, hj, hjk, -, g2⟩ | ⟨g1, g2⟩
  · have := (nN_eq (a := i + k) (b := j) (by omega) (by omega)).mp hjk
    rw [g2, decide_eq_true (by omega)]
    rfl
  · rw [g2, decide_eq_false]
    · rfl
    · intro h
      rw [f_in_eq] at g1
      injection g1 with g1
      rw [decide_eq_false_iff_not] at g1
      apply g1
      refine ⟨nN_neg (by omega), ?_⟩
      rw [show (1 : Int32) = nI 1 from rfl, nN_sub (by omega), nN_lt (by omega) (by omega)]
      omega
theorem m_isItem_far {μ : MS} {s n : Nat} (hs : s < 4) (h12 : μ.2 12 s = nI n) (hn : n ≤ 40) {b : Int32} (hb : ∀ i, i < n → b ≠ nI i) : m_isItem μ (nI s) (b.toInt64 + (0 : Int32).toInt64) = some false := by
  unfold m_isItem
  rw [ldM_n (by show s < 4; exact hs) (by omega), h12, Option.bind_some, show (0 : Int32).toInt64 = 0 from rfl, Int64.add_zero]
  rcases in_below b n (by omega) with ⟨j, hj, hjk, -, g2⟩ | ⟨g1, g2⟩
  · exact absurd hjk (hb j hj)
  · rw [g2]
    rfl
/-- whether a row's item lies in it, the component asking -/
theorem spanC {n i k : Nat} (hn : 1 ≤ n ∧ n ≤ 40) (hi : i < 40) (hk : k ≤ 20) : ((nI n - (1 : Int32)) - nI k < nI i) ↔ n ≤ i + k := by
  rw [show nI n - (1 : Int32) = nI (n - 1) from nN_sub (b := 1) hn.1, sub_lt (by omega) (by omega) (by omega)]
  omega
theorem farC {n : Nat} (hn : n ≤ 40) {b : Int32} (hb : ∀ i, i < n → b ≠ nI i) : b < 0 ∨ ((nI n - (1 : Int32)) - (0 : Int32) < b) := by
  by_cases h0 : b < 0
  · exact Or.inl h0
  · right
    rw [Int32.sub_zero]
    by_cases h : nI n - (1 : Int32) < b
    · exact h
    · exfalso
      rcases in_below b n (by omega) with ⟨j, hj, hjk, -, -⟩ | ⟨g1, -⟩
      · exact hb j hj hjk
      · rw [f_in_eq] at g1
        injection g1 with g1
        rw [decide_eq_false_iff_not] at g1
        exact g1 ⟨h0, h⟩
/-- a byte row on a sheet -/
def byteRow (s q n : Nat) (f : Nat → Int32) (σ : SS) (δ : DS) (μ : MS) : Prop := σ.2.2.1 (7 + s) = some q ∧ (∃ e, dl δ q = some e ∧ rowE 0 n f e) ∧ μ.2 12 s = nI n ∧ ∀ i, i < n → f i = μ.2 13 (40 * s + i)
theorem byteRow_go {s q n : Nat} {f : Nat → Int32} {σ σ' : SS} {δ : DS} {μ μ' : MS} (h : byteRow s q n f σ δ μ) (h1 : σ'.2.2.1 (7 + s) = σ.2.2.1 (7 + s)) (h2 : FM μ μ') : byteRow s q n f σ' δ μ' := ⟨by rw [h1]; exact h.1, h.2.1, by rw [h2.2 12 (by decide)]; exact h.2.2.1, by rw [h2.2 13 (by decide)]; exact h.2.2.2⟩
theorem f_in_t {j n : Nat} (hj : j < n) (hn : n ≤ 40) : f0_isIn (nI j) (0 : Int32) (nI n - (1 : Int32)) = some true := by
  rcases in_below (nI j) n (by omega) with ⟨k, hk, hkj, g1, -⟩ | ⟨g1, -⟩
  · exact g1
  · rw [f_in_eq] at g1
    injection g1 with g1
    rw [decide_eq_false_iff_not] at g1
    exfalso
    apply g1
    refine ⟨nN_neg (by omega), ?_⟩
    rw [show (1 : Int32) = nI 1 from rfl, nN_sub (by omega), nN_lt (by omega) (by omega)]
    omega
theorem goAll_L {RS : Rls} {δ : DS} {s q n i c : Nat} {f : Nat → Int32} (hs : s < 4) (hn : 1 ≤ n ∧ n ≤ 40) (hi : i < n) (hc : c ≤ 20) : ∀ (m k fuel : Nat) (x : Int32) (T : Tw) (σ : SS) (μ : MS), Rel σ δ μ → cor T (tS T) RS δ σ μ → byteRow s q n f σ δ μ → k + m = c → m < fuel → ∃ y σ' μ', f0_goAll_L44 1000 fuel σ δ (nI i) (nI c) (some q) (nI n) x (nI k) = some (y, σ', δ) ∧ m_goAll_L33 1000 fuel μ (nI s) (nI i) (nI c) x (nI k) = some (y, μ') ∧ Rel σ' δ μ' := by
  intro m
  induction m with
  | zero =>
    intro k fuel x T σ μ H h hb h1 h2
    obtain ⟨N, rfl⟩ : ∃ n, fuel = n + 1 := ⟨fuel - 1, by omega⟩
    have hl : nI c ≤ nI k := (nN_le (by omega) (by omega)).mpr (by omega)
    refine ⟨x, σ, μ, ?_, ?_, H⟩
    · show (if nI c ≤ nI k then _ else _) = _
      rw [if_pos hl]
    · show (if nI c ≤ nI k then _ else _) = _
      rw [if_pos hl]
  | succ m ih =>
    intro k fuel x T σ μ H h hb h1 h2
    obtain ⟨N, rfl⟩ : ∃ n, fuel = n + 1 := ⟨fuel - 1, by omega⟩
    have hl : ¬ nI c ≤ nI k := fun z => by have := (nN_le (by omega) (by omega)).mp z; omega
    obtain ⟨b1, ⟨e, b2, b3⟩, b4, b5⟩ := hb
    have hit := m_isItem_eq (k := k) hs b4 hn.2 (by omega : i < 40) (by omega)
    have hsp := spanC (k := k) hn (by omega : i < 40) (by omega)
    have hni : ¬ nI i < 0 := nN_neg (by omega)
    have hM0 : m_goAll_L33 1000 (N + 1) μ (nI s) (nI i) (nI c) x (nI k) = (if decide (i + k < n) = true then (ldM μ 13 ((((40 : Int32) * nI s) + nI i) + nI k)).bind fun v2 => (m_isAct μ v2).bind fun r3 => (if r3 = true then (m_goes 1000 μ v2).bind fun r4 => m_goAll_L33 1000 N r4.2 (nI s) (nI i) (nI c) (x + r4.1) (nI k + 1) else m_goAll_L33 1000 N μ (nI s) (nI i) (nI c) (x + (0 : Int32)) (nI k + 1)) else some ((-12 : Int32), μ)) := by
      show (if nI c ≤ nI k then _ else _) = _
      rw [if_neg hl, hit, Option.bind_some]
    rw [hM0]
    by_cases hin : i + k < n
    · rw [if_pos (decide_eq_true hin), ix40, nN_add, ldM_n (by show 40 * s + i + k < 160; omega) (by omega), show 40 * s + i + k = 40 * s + (i + k) by omega, ← b5 (i + k) hin, Option.bind_some, nI_1]
      have hio : f0_itemOf σ δ (some q) (0 : Int32) (nI (i + k)) = some (.inr (f (i + k), σ, δ)) := itemOf_in (σ := σ) b2 b3 (by decide) hin hn.2 (f_in_t hin hn.2)
      have hC0 : f0_goAll_L44 1000 (N + 1) σ δ (nI i) (nI c) (some q) (nI n) x (nI k) = ((f0_isAct σ (f (i + k))).bind fun r3 => (if r3 = true then (f3_isOver σ 0).bind fun r4 => (if r4 = true then f0_goAll_L44 1000 N σ δ (nI i) (nI c) (some q) (nI n) x (nI (k + 1)) else (f0_goes 1000 δ σ (f (i + k) - (1 : Int32))).bind fun r5 => f0_goAll_L44 1000 N r5.2 δ (nI i) (nI c) (some q) (nI n) (x + r5.1) (nI (k + 1))) else f0_goAll_L44 1000 N σ δ (nI i) (nI c) (some q) (nI n) x (nI (k + 1)))) := by
        show (if nI c ≤ nI k then _ else _) = _
        rw [if_neg hl, if_neg hni, if_neg (fun z => by have := hsp.mp z; omega)]
        unfold f0_goAll_B71
        rw [yh_inr (must_t σ δ _) (Nat.le_refl _)]
        dsimp only
        rw [nN_add, yh_inr hio (Nat.le_refl _)]
        dsimp only
        rw [nI_1]
      rw [hC0]
      obtain ⟨o1, o2⟩ := cor_over h
      rcases act_both h (f (i + k)) with ⟨a, ha, hv, p1, p2⟩ | ⟨p1, p2⟩
      · by_cases ho : tE T ≤ tY T
        · obtain ⟨y, σ', μ', z1, z2, z3⟩ := ih (k + 1) N x T σ μ H h ⟨b1, ⟨e, b2, b3⟩, b4, b5⟩ (by omega) (by omega)
          refine ⟨y, σ', μ', ?_, ?_, z3⟩
          · rw [p1, Option.bind_some, if_pos rfl, o1, decide_eq_true ho, Option.bind_some, if_pos rfl]
            exact z1
          · rw [p2, Option.bind_some, if_neg (by rw [decide_eq_true_eq]; exact not_not_intro ho), Int32.add_zero]
            exact z2
        · have hp6 : tP T ≤ 6 := h.2.1.1.1.1
          obtain ⟨σ1, μ1, g1, g2, g3, g4, -, g6, g7⟩ := cor_goes h (by omega) (a := a) (by omega)
          have H1 : Rel σ1 δ μ1 := Rel_cor H g4 g7.FM g3
          obtain ⟨y, σ', μ', z1, z2, z3⟩ := ih (k + 1) N (x + nI (passW T RS a)) _ σ1 μ1 H1 g3 (byteRow_go ⟨b1, ⟨e, b2, b3⟩, b4, b5⟩ (by rw [g6]) g7.FM) (by omega) (by omega)
          refine ⟨y, σ', μ', ?_, ?_, z3⟩
          · rw [p1, Option.bind_some, if_pos rfl, o1, decide_eq_false ho, Option.bind_some, if_neg (by decide), hv, g1, Option.bind_some]
            exact z1
          · rw [p2, Option.bind_some, if_pos (decide_eq_true ho), hv, g2, Option.bind_some]
            exact z2
      · obtain ⟨y, σ', μ', z1, z2, z3⟩ := ih (k + 1) N x T σ μ H h ⟨b1, ⟨e, b2, b3⟩, b4, b5⟩ (by omega) (by omega)
        refine ⟨y, σ', μ', ?_, ?_, z3⟩
        · rw [p1, Option.bind_some, if_neg (by decide)]
          exact z1
        · rw [p2, Option.bind_some, if_neg (by decide), Int32.add_zero]
          exact z2
    · rw [if_neg (by rw [decide_eq_true_eq]; exact hin)]
      refine ⟨-12, sI σ 71 (-12), μ, ?_, rfl, Rel_71 H _⟩
      show (if nI c ≤ nI k then _ else _) = _
      rw [if_neg hl, if_neg hni, if_pos (hsp.mpr (by omega))]
      unfold f0_goAll_B71
      exact yh_inl (y := (1, sI σ 71 (-12), δ)) (must_f σ δ _) (Nat.le_add_right _ _) rfl
theorem span_both (a c : Int32) : (∃ s c' : Nat, s < 4 ∧ c' ≤ 20 ∧ a = nI s ∧ c = nI c' ∧ f0_isShelf a = some true ∧ f0_isIn c 0 20 = some true ∧ m_isSpan a c = some true ∧ ldS a = some s) ∨ ((f0_isShelf a = some false ∨ (f0_isShelf a = some true ∧ f0_isIn c 0 20 = some false)) ∧ m_isSpan a c = some false) := by
  unfold m_isSpan
  rcases shelf_both a with ⟨s, hs, rfl, e1, e2, e3⟩ | ⟨e1, e2⟩
  · rcases in_0_20 c with ⟨c', -, hc, rfl, e4, e5⟩ | ⟨e4, e5⟩
    · exact Or.inl ⟨s, c', hs, hc, rfl, rfl, e1, e4, by rw [e2, Option.bind_some, if_pos rfl, e5]; rfl, e3⟩
    · exact Or.inr ⟨Or.inr ⟨e1, e4⟩, by rw [e2, Option.bind_some, if_pos rfl, e5]; rfl⟩
  · exact Or.inr ⟨Or.inl e1, by rw [e2]; rfl⟩
theorem pl_46 (a b c d : Int32) (σ : SS) (δ : DS) (μ : MS) (H : Rel σ δ μ) : pLaw Rel 46 a b c d σ δ μ := by
  obtain ⟨T, RS, h⟩ := H.1
  have hSh := H.2.2.2.1.1
  rcases span_both a c with ⟨s, c', hs, hc, rfl, rfl, e1, e4, e2, e3⟩ | ⟨e1, e2⟩
  · have l11 : ldM μ 11 (nI s) = some (μ.2 11 s) := ldM_n (by show s < 4; exact hs) (by omega)
    have fC : f0_goAll 1000 σ δ (nI s) b (nI c') = yh xnA δ (f0_manyOf σ δ (σ.2.2.1 (7 + s)) (0 : Int32)) (fun y => (if y.1 = 4 then some ((-13 : Int32), y.2.1) else (if y.1 = 5 then some ((-11 : Int32), y.2.1) else none))) fun r4 => f0_goAll_L44 1000 1000 r4.2.1 r4.2.2 b (nI c') (σ.2.2.1 (7 + s)) r4.1 (0 : Int32) (0 : Int32) := by
      unfold f0_goAll
      rw [e1, Option.bind_some, if_pos rfl, e4, Option.bind_some, if_pos rfl, e3, Option.bind_some]
    have fM : m_goAll 1000 μ (nI s) b (nI c') = ((m_whyNot μ (nI s) (0 : Int32)).bind fun r2 => (if r2 = 0 then m_goAll_L33 1000 1000 μ (nI s) b (nI c') (0 : Int32) (0 : Int32) else some (r2, μ))) := by
      unfold m_goAll
      rw [e2, Option.bind_some, if_pos rfl]
    unfold m_whyNot at fM
    rw [l11] at fM
    rcases hSh.1 s hs with ⟨x1, x2, x3⟩ | ⟨q, t, n, x1, x2, x3, x4, x5, e, x6, f, x7, x8⟩
    · refine pl_0 (r := -11) (σ' := σ) (μ' := μ) ?_ ?_ H
      · rw [cc46, fC, x1]
        exact yh_inl (y := (5, σ, δ)) (manyOf_none σ δ (s := 0) (by decide)) (Nat.le_add_right _ _) rfl
      · rw [mc46, fM, x2]
        rfl
    · have npos : (0 : Int32) ≤ nI t := by rw [← Int32.not_lt]; exact nN_neg (by omega)
      obtain ⟨ar, har⟩ := rowE_form x7
      have x6' : dl δ q = some (.inl (tIx t, n, ar)) := by rw [x6, har]
      have hm : f0_manyOf σ δ (some q) (0 : Int32) = if 0 = t then some (.inr (nI n, σ, δ)) else some (.inl (4, σ, δ)) := manyOf_eq (σ := σ) x6' x2 (s := 0) (by decide)
      rw [x4] at fM
      simp only [Option.bind_some, if_pos npos] at fM
      by_cases ht0 : 0 = t
      · subst ht0
        rw [if_pos rfl] at hm
        rw [if_pos (show nI 0 = (0 : Int32) from rfl), Option.bind_some, if_pos rfl] at fM
        rw [x1, yh_inr hm (Nat.le_refl _)] at fC
        dsimp only at fC
        by_cases hex : ∃ i, i < n ∧ b = nI i
        · obtain ⟨i, hi, rfl⟩ := hex
          obtain ⟨y, σ', μ', z1, z2, z3⟩ := goAll_L (RS := RS) (f := f) hs ⟨by omega, x3⟩ hi hc c' 0 1000 (0 : Int32) T σ μ H h ⟨x1, ⟨e, x6, x7⟩, x5, x8⟩ (by omega) (by omega)
          refine pl_0 (r := y) (σ' := σ') (μ' := μ') ?_ ?_ z3
          · rw [cc46, fC]; exact z1
          · rw [mc46, fM]; exact z2
        · have hfar : ∀ i, i < n → b ≠ nI i := fun i hi hb => hex ⟨i, hi, hb⟩
          by_cases h0 : c' = 0
          · subst h0
            refine pl_0 (r := 0) (σ' := σ) (μ' := μ) ?_ ?_ H
            · rw [cc46, fC]
              show (if nI 0 ≤ 0 then _ else _) = _
              rw [if_pos (by decide)]
            · rw [mc46, fM]
              show (if nI 0 ≤ 0 then _ else _) = _
              rw [if_pos (by decide)]
          · have hc0 : ¬ nI c' ≤ 0 := fun z => by have := (nN_le (a := c') (b := 0) (by omega) (by decide)).mp z; omega
            refine pl_0 (r := -12) (σ' := sI σ 71 (-12)) (μ' := μ) ?_ ?_ (Rel_71 H _)
            · rw [cc46, fC]
              show (if nI c' ≤ 0 then _ else _) = _
              rw [if_neg hc0]
              unfold f0_goAll_B71
              have hB := yh_inl (Hh := fun y : Nat × SS × DS => (if y.1 = 1 then some (y.2.1.1 71, y.2.1) else none)) (K := fun r1 : SS × DS => yh xnA r1.2 (f0_itemOf r1.1 r1.2 (some q) (0 : Int32) (b + 0)) (fun y => (if y.1 = 4 then some ((-13 : Int32), y.2.1) else (if y.1 = 5 then some ((-11 : Int32), y.2.1) else (if y.1 = 1 then some (y.2.1.1 71, y.2.1) else none)))) fun r2 => (f0_isAct r2.2.1 r2.1).bind fun r3 => (if r3 = true then (f3_isOver r2.2.1 0).bind fun r4 => (if r4 = true then f0_goAll_L44 1000 999 r2.2.1 r2.2.2 b (nI c') (some q) (nI n) 0 (0 + 1) else (f0_goes 1000 r2.2.2 r2.2.1 (r2.1 - (1 : Int32))).bind fun r5 => f0_goAll_L44 1000 999 r5.2 r2.2.2 b (nI c') (some q) (nI n) (0 + r5.1) (0 + 1)) else f0_goAll_L44 1000 999 r2.2.1 r2.2.2 b (nI c') (some q) (nI n) 0 (0 + 1))) (nf1 := xnV) (d := δ) (must_f σ δ (-12)) (Nat.le_add_right _ _) (v := -12) (σ := sI σ 71 (-12)) rfl
              rcases farC x3 hfar with g | g
              · rw [if_pos g]
                exact hB
              · by_cases g0 : b < 0
                · rw [if_pos g0]
                  exact hB
                · rw [if_neg g0, if_pos g]
                  exact hB
            · rw [mc46, fM]
              show (if nI c' ≤ 0 then _ else _) = _
              rw [if_neg hc0, m_isItem_far hs x5 x3 hfar, Option.bind_some, if_neg (by decide)]
      · rw [if_neg ht0] at hm
        have hne : ¬ nI t = (0 : Int32) := fun z => ht0 ((n0 (by omega)).mp z).symm
        rw [if_neg hne, Option.bind_some, if_neg (by decide)] at fM
        refine pl_0 (r := -13) (σ' := σ) (μ' := μ) ?_ ?_ H
        · rw [cc46, fC, x1]
          exact yh_inl (y := (4, σ, δ)) hm (Nat.le_add_right _ _) rfl
        · rw [mc46, fM]
  · refine pl_0 (r := -1) (σ' := σ) (μ' := μ) ?_ (by rw [mc46]; unfold m_goAll; rw [e2]; rfl) H
    rw [cc46]
    unfold f0_goAll
    rcases e1 with e1 | ⟨e1, e4⟩
    · rw [e1]; rfl
    · rw [e1, Option.bind_some, if_pos rfl, e4]; rfl
