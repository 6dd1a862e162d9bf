/-! PLAIN LAW: the host: write, item, goAll, wouldBe -/
set_option maxRecDepth 100000
/-! a row written -/
theorem dl_dSet {δ : DS} {q : Nat} {e e' : dE} (h : dl δ q = some e) (q' : Nat) : dl (dSet δ q e') q' = if q' = q then some e' else dl δ q' := by
  unfold dl dSet
  dsimp only
  rw [List.find?_map]
  have hp : ((fun x : Nat × dE => x.1 == q') ∘ fun x : Nat × dE => if x.1 == q then (q, e') else x) = fun x : Nat × dE => x.1 == q' := by
    funext x
    show ((if x.1 == q then (q, e') else x).1 == q') = (x.1 == q')
    by_cases hx : (x.1 == q) = true
    · rw [if_pos hx]
      have : x.1 = q := by simpa using hx
      rw [this]
    · rw [if_neg hx]
  rw [hp]
  unfold dl at h
  by_cases hq : q' = q
  · subst hq
    rw [if_pos rfl]
    cases hf : List.find? (fun x => x.1 == q') δ.1 with
    | none => rw [hf] at h; cases h
    | some x =>
      have h2 := List.find?_some hf
      show some (if x.1 == q' then (q', e') else x).2 = some e'
      rw [if_pos h2]
  · rw [if_neg hq]
    cases hf : List.find? (fun x => x.1 == q') δ.1 with
    | none => rfl
    | some x =>
      have h2 := List.find?_some hf
      have h3 : x.1 = q' := by simpa using h2
      show some (if x.1 == q then (q, e') else x).2 = some x.2
      rw [if_neg (by rw [h3]; simpa using hq)]
theorem fresh_dSet {δ : DS} (hf : fresh δ) {q : Nat} {e e' : dE} (h : dl δ q = some e) : fresh (dSet δ q e') := by
  have hq := dl_mem h hf
  intro x hx
  obtain ⟨y, hy, rfl⟩ := List.mem_map.mp hx
  show (if y.1 == q then (q, e') else y).1 < δ.2
  split
  · exact hq
  · exact hf y hy
theorem ext_dSet {δ : DS} {q i n : Nat} {a : (Nat → Int32) ⊕ (Nat → Int64) ⊕ (Nat → UInt32) ⊕ (Nat → UInt64) ⊕ (Nat → Option Nat)} {e' : dE} (h : dl δ q = some (.inl (i, n, a))) (hi : i < 5) : ext δ (dSet δ q e') := by
  intro q' e he ht
  rw [dl_dSet h]
  by_cases hq : q' = q
  · subst hq
    rw [h] at he
    cases he
    have := ht i n a rfl
    omega
  · rw [if_neg hq]
    exact he
/-- what a row of a sort keeps of an int -/
def nr (t : Nat) (v : Int32) : Int32 := if t = 0 then v.toInt8.toInt32 else if t = 1 then v.toInt16.toInt32 else if t = 4 then (if v = 0 then 0 else 1) else v
theorem m_narrowed_eq {t : Nat} (ht : t ≤ 4) (v : Int32) : m_narrowed (nI t) v = some (nr t v) := by
  unfold m_narrowed nr
  rcases (show t = 0 ∨ t = 1 ∨ t = 2 ∨ t = 3 ∨ t = 4 by omega) with rfl | rfl | rfl | rfl | rfl
  · rfl
  · rfl
  · rfl
  · rfl
  · rw [if_neg (by decide), if_neg (by decide), if_pos (by decide)]
    by_cases hv : v = 0
    · rw [if_pos hv, if_neg (by decide), if_neg (by decide), if_pos rfl, if_pos hv]
    · rw [if_neg hv, if_neg (by decide), if_neg (by decide), if_pos rfl, if_neg hv]
theorem length_eq {δ : DS} {σ : SS} {q t n : Nat} {a : (Nat → Int32) ⊕ (Nat → Int64) ⊕ (Nat → UInt32) ⊕ (Nat → UInt64) ⊕ (Nat → Option Nat)} (h : dl δ q = some (.inl (tIx t, n, a))) (ht : t ≤ 4) : f0_length σ δ (some q) = some (.inr (nI n, σ, δ)) := by
  have i0 : dIs δ "[B" (some q) = some (decide (0 = t)) := row_is h ht (s := 0) (by decide)
  have i1 : dIs δ "[S" (some q) = some (decide (1 = t)) := row_is h ht (s := 1) (by decide)
  have i2 : dIs δ "[I" (some q) = some (decide (2 = t)) := row_is h ht (s := 2) (by decide)
  have i3 : dIs δ "[J" (some q) = some (decide (3 = t)) := row_is h ht (s := 3) (by decide)
  have i4 : dIs δ "[Z" (some q) = some (decide (4 = t)) := row_is h ht (s := 4) (by decide)
  have hlen := row_len h (tIx_lt t)
  have hn : ¬ (some q).isNone = true := fun h => by cases h
  have k0 : dCk δ "[B" (some q) = some (decide (0 = t)) := i0
  have k1 : dCk δ "[S" (some q) = some (decide (1 = t)) := i1
  have k2 : dCk δ "[I" (some q) = some (decide (2 = t)) := i2
  have k3 : dCk δ "[J" (some q) = some (decide (3 = t)) := i3
  have k4 : dCk δ "[Z" (some q) = some (decide (4 = t)) := i4
  unfold f0_length
  rcases (show t = 0 ∨ t = 1 ∨ t = 2 ∨ t = 3 ∨ t = 4 by omega) with rfl | rfl | rfl | rfl | rfl
  · rw [i0, Option.bind_some, if_pos (by decide), k0, Option.bind_some, if_pos (by decide), if_neg hn, show ((some q).bind (dLen δ 1)) = some (nI n) from hlen]; rfl
  · rw [i0, Option.bind_some, if_neg (by decide), i1, Option.bind_some, if_pos (by decide), k1, Option.bind_some, if_pos (by decide), if_neg hn, show ((some q).bind (dLen δ 2)) = some (nI n) from hlen]; rfl
  · rw [i0, Option.bind_some, if_neg (by decide), i1, Option.bind_some, if_neg (by decide), i2, Option.bind_some, if_pos (by decide), k2, Option.bind_some, if_pos (by decide), if_neg hn, show ((some q).bind (dLen δ 0)) = some (nI n) from hlen]; rfl
  · rw [i0, Option.bind_some, if_neg (by decide), i1, Option.bind_some, if_neg (by decide), i2, Option.bind_some, if_neg (by decide), i3, Option.bind_some, if_pos (by decide), k3, Option.bind_some, if_pos (by decide), if_neg hn, show ((some q).bind (dLen δ 3)) = some (nI n) from hlen]; rfl
  · rw [i0, Option.bind_some, if_neg (by decide), i1, Option.bind_some, if_neg (by decide), i2, Option.bind_some, if_neg (by decide), i3, Option.bind_some, if_neg (by decide), k4, Option.bind_some, if_pos (by decide), if_neg hn, show ((some q).bind (dLen δ 4)) = some (nI n) from hlen]; rfl
theorem dSt_eq {δ : DS} {q i n j : Nat} {g : Nat → Int32} (h : dl δ q = some (.inl (i, n, .inl g))) (hj : j < n) (hn : n ≤ 40) (x : Int32) : dSt δ i q (nI j) x = some (dSet δ q (.inl (i, n, .inl (upd g j (nT i x))))) := by
  unfold dSt dI
  rw [h]
  show ((if i = i then some (n, g) else none).bind _) = _
  rw [if_pos rfl, Option.bind_some, nI_clamp (by omega), if_neg (by rintro (z | z); exact nN_neg (by omega) z; omega)]
theorem dStJ_eq {δ : DS} {q n j : Nat} {g : Nat → Int64} (h : dl δ q = some (.inl (3, n, .inr (.inl g)))) (hj : j < n) (hn : n ≤ 40) (x : Int64) : dStJ δ q (nI j) x = some (dSet δ q (.inl (3, n, .inr (.inl (vp_updL g j x))))) := by
  unfold dStJ dJ
  rw [h]
  show ((if 3 = 3 then some (n, g) else none).bind _) = _
  rw [if_pos rfl, Option.bind_some, nI_clamp (by omega), if_neg (by rintro (z | z); exact nN_neg (by omega) z; omega)]
theorem nT_nr {t : Nat} (ht : t ≤ 4) (h3 : t ≠ 3) (v : Int32) : nT (tIx t) (nr t v) = nr t v := by
  unfold nT nr
  rcases (show t = 0 ∨ t = 1 ∨ t = 2 ∨ t = 4 by omega) with rfl | rfl | rfl | rfl
  · show vp_nar .byte (v.toInt8.toInt32) = v.toInt8.toInt32
    rw [vp_nar_byte]
    simp
  · show vp_nar .short (v.toInt16.toInt32) = v.toInt16.toInt32
    rw [vp_nar_short]
    simp
  · rfl
  · show vp_nar .boolean (if v = 0 then 0 else 1) = if v = 0 then 0 else 1
    split <;> decide
theorem set_eq {δ : DS} {σ : SS} {q t n j : Nat} {e : dE} {f : Nat → Int32} (h : dl δ q = some e) (hr : rowE t n f e) (ht : t ≤ 4) (hj : j < n) (hn : n ≤ 40) (v : Int32) : ∃ e', f0_set σ δ (some q) (nI j) v = some (.inr (σ, dSet δ q e')) ∧ rowE t n (upd f j (nr t v)) e' := by
  obtain ⟨a, ha⟩ := rowE_form hr
  have h' : dl δ q = some (.inl (tIx t, n, a)) := by rw [h, ha]
  have i0 : dIs δ "[B" (some q) = some (decide (0 = t)) := row_is h' ht (s := 0) (by decide)
  have i1 : dIs δ "[S" (some q) = some (decide (1 = t)) := row_is h' ht (s := 1) (by decide)
  have i2 : dIs δ "[I" (some q) = some (decide (2 = t)) := row_is h' ht (s := 2) (by decide)
  have i3 : dIs δ "[J" (some q) = some (decide (3 = t)) := row_is h' ht (s := 3) (by decide)
  have i4 : dIs δ "[Z" (some q) = some (decide (4 = t)) := row_is h' ht (s := 4) (by decide)
  have k0 : dCk δ "[B" (some q) = some (decide (0 = t)) := i0
  have k1 : dCk δ "[S" (some q) = some (decide (1 = t)) := i1
  have k2 : dCk δ "[I" (some q) = some (decide (2 = t)) := i2
  have k3 : dCk δ "[J" (some q) = some (decide (3 = t)) := i3
  have k4 : dCk δ "[Z" (some q) = some (decide (4 = t)) := i4
  unfold f0_set
  by_cases h3 : t = 3
  · subst h3
    unfold rowE at hr
    rw [if_pos rfl] at hr
    obtain ⟨g, g1, g2⟩ := hr
    have hl := dStJ_eq (by rw [h, g1]) hj hn v.toInt64
    refine ⟨.inl (3, n, .inr (.inl (vp_updL g j v.toInt64))), ?_, ?_⟩
    · rw [i0, Option.bind_some, if_neg (by decide), i1, Option.bind_some, if_neg (by decide), i2, Option.bind_some, if_neg (by decide), i3, Option.bind_some, if_pos (by decide), k3, Option.bind_some, if_pos (by decide), show ((some q).bind fun q => dStJ δ q (nI j) v.toInt64) = _ from hl]
      rfl
    · unfold rowE
      rw [if_pos rfl]
      refine ⟨_, rfl, fun i hi => ?_⟩
      show ((if i = j then v.toInt64 else g i).toInt32 = (if i = j then nr 3 v else f i)) ∧ (if i = j then v.toInt64 else g i) = (if i = j then nr 3 v else f i).toInt64
      by_cases e : i = j
      · rw [if_pos e, if_pos e]
        show v.toInt64.toInt32 = v ∧ v.toInt64 = v.toInt64
        exact ⟨by simp, rfl⟩
      · rw [if_neg e, if_neg e]
        exact g2 i hi
  · unfold rowE at hr
    rw [if_neg h3] at hr
    obtain ⟨g, g1, g2⟩ := hr
    have hl := dSt_eq (i := tIx t) (by rw [h, g1]; rfl) hj hn (nr t v)
    rw [nT_nr ht h3] at hl
    refine ⟨.inl (tIx t, n, .inl (upd g j (nr t v))), ?_, ?_⟩
    · rcases (show t = 0 ∨ t = 1 ∨ t = 2 ∨ t = 4 by omega) with rfl | rfl | rfl | rfl
      · rw [i0, Option.bind_some, if_pos (by decide), k0, Option.bind_some, if_pos (by decide), show ((some q).bind fun q => dSt δ 1 q (nI j) v.toInt8.toInt32) = _ from hl]; rfl
      · rw [i0, Option.bind_some, if_neg (by decide), i1, Option.bind_some, if_pos (by decide), k1, Option.bind_some, if_pos (by decide), show ((some q).bind fun q => dSt δ 2 q (nI j) v.toInt16.toInt32) = _ from hl]; rfl
      · rw [i0, Option.bind_some, if_neg (by decide), i1, Option.bind_some, if_neg (by decide), i2, Option.bind_some, if_pos (by decide), k2, Option.bind_some, if_pos (by decide), show ((some q).bind fun q => dSt δ 0 q (nI j) v) = _ from hl]; rfl
      · rw [i0, Option.bind_some, if_neg (by decide), i1, Option.bind_some, if_neg (by decide), i2, Option.bind_some, if_neg (by decide), i3, Option.bind_some, if_neg (by decide), k4, Option.bind_some, if_pos (by decide)]
        by_cases hv : v = 0
        · have e4 : nr 4 v = 0 := by
            show (if v = 0 then (0 : Int32) else 1) = 0
            rw [if_pos hv]
          rw [e4] at hl ⊢
          rw [if_pos hv, show ((some q).bind fun q => dSt δ 4 q (nI j) (0 : Int32)) = _ from hl]; rfl
        · have e4 : nr 4 v = 1 := by
            show (if v = 0 then (0 : Int32) else 1) = 1
            rw [if_neg hv]
          rw [e4] at hl ⊢
          rw [if_neg hv, show ((some q).bind fun q => dSt δ 4 q (nI j) (1 : Int32)) = _ from hl]; rfl
    · unfold rowE
      rw [if_neg h3]
      refine ⟨_, rfl, fun i hi => ?_⟩
      show ((if i = j then nr t v else g i) = (if i = j then nr t v else f i)) ∧ (t = 4 → (if i = j then nr t v else f i) = 0 ∨ (if i = j then nr t v else f i) = 1)
      by_cases e : i = j
      · rw [if_pos e, if_pos e]
        refine ⟨rfl, fun h4 => ?_⟩
        subst h4
        show (if v = 0 then (0 : Int32) else 1) = 0 ∨ (if v = 0 then (0 : Int32) else 1) = 1
        split
        · exact Or.inl rfl
        · exact Or.inr rfl
      · rw [if_neg e, if_neg e]
        exact g2 i hi
theorem ix40 (i k : Nat) : (40 : Int32) * nI i + nI k = nI (40 * i + k) := by rw [show (40 : Int32) = nI 40 from rfl, nN_mul, nN_add]
theorem pl_44 (a b c d : Int32) (σ : SS) (δ : DS) (μ : MS) (H : Rel σ δ μ) : pLaw Rel 44 a b c d σ δ μ := by
  have hSh := H.2.2.2.1.1
  have hSf := H.2.2.2.1.2
  have hf := H.2.2.2.2.2
  rcases shelf_both a with ⟨s, hs, rfl, e1, e2, e3⟩ | ⟨e1, e2⟩
  · have l11 : ldM μ 11 (nI s) = some (μ.2 11 s) := ldM_n (by show s < 4; exact hs) (by omega)
    have l12 : ldM μ 12 (nI s) = some (μ.2 12 s) := ldM_n (by show s < 4; exact hs) (by omega)
    rcases hSh.1 s hs with ⟨x1, x2, x3⟩ | ⟨q, t, n, x1, x2, x3, x4, x5, e, x6, f, x7, x8⟩
    · refine pl_0 (r := -11) (σ' := sI σ 71 (-11)) (μ' := μ) ?_ ?_ (Rel_71 H _)
      · rw [cc44]
        unfold f0_write
        rw [e1, Option.bind_some, if_pos rfl, e3, Option.bind_some, x1, if_pos (show (none : Option Nat).isNone = true from rfl)]
        exact yh_inl (y := (1, sI σ 71 (-11), δ)) (must_f σ δ _) (Nat.le_add_right _ _) rfl
      · rw [mc44]
        unfold m_write
        rw [e2, Option.bind_some, if_pos rfl, l11, x2, Option.bind_some, if_neg (by decide)]
    · have npos : (0 : Int32) ≤ nI t := by rw [← Int32.not_lt]; exact nN_neg (by omega)
      have hisn : ¬ (some q).isNone = true := fun h => by cases h
      obtain ⟨ar, har⟩ := rowE_form x7
      have x6' : dl δ q = some (.inl (tIx t, n, ar)) := by rw [x6, har]
      have hlen := length_eq (σ := σ) x6' x2
      rcases in_below b n (by omega) with ⟨j, hj, rfl, g1, g2⟩ | ⟨g1, g2⟩
      · obtain ⟨e', s1, s2⟩ := set_eq (σ := σ) x6 x7 x2 hj x3 c
        refine pl_d (r := 1) (σ' := σ) (δ' := dSet δ q e') (μ' := setA μ 13 (upd (μ.2 13) (40 * s + j) (nr t c))) ?_ ?_ ?_ (Nat.le_refl _) (Nat.le_add_right _ _)
        · rw [cc44]
          unfold f0_write
          rw [e1, Option.bind_some, if_pos rfl, e3, Option.bind_some, x1, if_neg hisn]
          rw [yh_inr (must_t σ δ _) (Nat.le_refl _)]
          dsimp only
          rw [yh_inr hlen (Nat.le_refl _)]
          dsimp only
          rw [g1, Option.bind_some, yh_inr (must_t σ δ _) (Nat.le_refl _)]
          dsimp only
          rw [yh_inr s1 (Nat.le_refl _)]
        · rw [mc44]
          unfold m_write
          rw [e2, Option.bind_some, if_pos rfl, l11, x4, Option.bind_some, if_pos npos, l12, x5, Option.bind_some, g2, Option.bind_some, if_pos rfl, Option.bind_some, m_narrowed_eq x2, Option.bind_some, ix40, stM_n (by show 40 * s + j < 160; omega) (by omega)]
          rfl
        · refine Rel_host H (fun _ _ => rfl) rfl (fun _ _ => rfl) rfl (ext_dSet x6' (tIx_lt t)) (fresh_dSet hf x6) rfl (fun k hk => setA_o _ _ _ (by omega)) ⟨fun s' hs' => ?_, hSh.2⟩ (fun s' hs' => ?_)
          · rw [setA_o _ _ _ (by decide), setA_o _ _ _ (by decide), setA_at]
            by_cases es : s' = s
            · subst es
              refine Or.inr ⟨q, t, n, x1, x2, x3, x4, x5, e', by rw [dl_dSet x6, if_pos rfl], upd f j (nr t c), s2, fun i hi => ?_⟩
              show (if i = j then nr t c else f i) = (if 40 * s' + i = 40 * s' + j then nr t c else μ.2 13 (40 * s' + i))
              by_cases ei : i = j
              · rw [if_pos ei, if_pos (by omega)]
              · rw [if_neg ei, if_neg (by omega)]; exact x8 i hi
            · rcases hSh.1 s' hs' with h | ⟨q', t', n', y1, y2, y3, y4, y5, ee, y6, f', y7, y8⟩
              · exact Or.inl h
              · refine Or.inr ⟨q', t', n', y1, y2, y3, y4, y5, ee, ?_, f', y7, fun i hi => ?_⟩
                · rw [dl_dSet x6, if_neg (fun h => es (hSh.2 s' s q' hs' hs y1 (by rw [x1, h])))]
                  exact y6
                · rw [upd_ne (by omega)]; exact y8 i hi
          · rw [setA_o _ _ _ (by decide), setA_o _ _ _ (by decide), setA_o _ _ _ (by decide)]
            rcases hSf s' hs' with h | ⟨q', n', y1, y2, y3, y4⟩ | ⟨q', t', n', y1, y2, y3, ⟨ee, f', y4, y5⟩, y6⟩
            · exact Or.inl h
            · refine Or.inr (Or.inl ⟨q', n', y1, y2, ?_, y4⟩)
              rw [dl_dSet x6, if_neg]
              · exact y3
              · intro h
                rw [h, x6'] at y3
                cases y3
            · by_cases hq : q' = q
              · subst hq
                rw [x6] at y4
                cases y4
                obtain ⟨a2, ha2⟩ := rowE_form y5
                rw [har] at ha2
                have hti : tIx t = tIx t' ∧ n = n' := by
                  injection ha2 with ha2
                  injection ha2 with h1 h2
                  injection h2 with h2 h3
                  exact ⟨h1, h2⟩
                have htt : t' = t := by
                  have := hti.1
                  rcases (show t = 0 ∨ t = 1 ∨ t = 2 ∨ t = 3 ∨ t = 4 by omega) with rfl | rfl | rfl | rfl | rfl <;> rcases (show t' = 0 ∨ t' = 1 ∨ t' = 2 ∨ t' = 3 ∨ t' = 4 by omega) with rfl | rfl | rfl | rfl | rfl <;> first | rfl | (exact absurd this (by decide))
                subst htt
                obtain ⟨-, rfl⟩ := hti
                exact Or.inr (Or.inr ⟨q', t', n, y1, y2, y3, ⟨e', upd f j (nr t' c), by rw [dl_dSet x6, if_pos rfl], s2⟩, y6⟩)
              · exact Or.inr (Or.inr ⟨q', t', n', y1, y2, y3, ⟨ee, f', by rw [dl_dSet x6, if_neg hq]; exact y4, y5⟩, y6⟩)
      · refine pl_0 (r := -12) (σ' := sI σ 71 (-12)) (μ' := μ) ?_ ?_ (Rel_71 H _)
        · rw [cc44]
          unfold f0_write
          rw [e1, Option.bind_some, if_pos rfl, e3, Option.bind_some, x1, if_neg hisn]
          rw [yh_inr (must_t σ δ _) (Nat.le_refl _)]
          dsimp only
          rw [yh_inr hlen (Nat.le_refl _)]
          dsimp only
          rw [g1, Option.bind_some]
          exact yh_inl (y := (1, sI σ 71 (-12), δ)) (must_f σ δ _) (Nat.le_add_right _ _) rfl
        · rw [mc44]
          unfold m_write
          rw [e2, Option.bind_some, if_pos rfl, l11, x4, Option.bind_some, if_pos npos, l12, x5, Option.bind_some, g2, Option.bind_some, if_neg (by decide)]
  · exact pl_0 (r := -1) (σ' := σ) (μ' := μ) (by rw [cc44]; unfold f0_write; rw [e1]; rfl) (by rw [mc44]; unfold m_write; rw [e2]; rfl) H
/-! an item -/
theorem itemOf_out {δ : DS} {σ : SS} {q t n : Nat} {ar : (Nat → Int32) ⊕ (Nat → Int64) ⊕ (Nat → UInt32) ⊕ (Nat → UInt64) ⊕ (Nat → Option Nat)} (h : dl δ q = some (.inl (tIx t, n, ar))) (ht : t ≤ 4) {a : Int32} (hb : f0_isIn a (0 : Int32) (nI n - (1 : Int32)) = some false) : f0_itemOf σ δ (some q) (nI t) a = some (.inl (1, sI σ 71 (-12), δ)) := by
  unfold f0_itemOf
  have hm := manyOf_eq (σ := σ) h ht ht
  rw [if_pos rfl] at hm
  rw [yb_inr hm (Nat.le_refl _)]
  dsimp only
  rw [hb, Option.bind_some]
  exact yb_inl (y := (1, sI σ 71 (-12), δ)) (must_f σ δ _) (Nat.le_add_right _ _)
theorem itemOf_in {δ : DS} {σ : SS} {q t n j : Nat} {e : dE} {f : Nat → Int32} (h : dl δ q = some e) (hr : rowE t n f e) (ht : t ≤ 4) (hj : j < n) (hn : n ≤ 40) (hb : f0_isIn (nI j) (0 : Int32) (nI n - (1 : Int32)) = some true) : f0_itemOf σ δ (some q) (nI t) (nI j) = some (.inr (f j, σ, δ)) := by
  obtain ⟨a, ha⟩ := rowE_form hr
  have h' : dl δ q = some (.inl (tIx t, n, a)) := by rw [h, ha]
  have hck := row_ck h' ht ht
  rw [decide_eq_true rfl] at hck
  have hm := manyOf_eq (σ := σ) h' ht ht
  rw [if_pos rfl] at hm
  unfold f0_itemOf
  rw [yb_inr hm (Nat.le_refl _)]
  dsimp only
  rw [hb, Option.bind_some, yb_inr (must_t σ δ _) (Nat.le_refl _)]
  dsimp only
  unfold rowE at hr
  by_cases h3 : t = 3
  · subst h3
    rw [if_pos rfl] at hr
    obtain ⟨g, g1, g2⟩ := hr
    have hl : dLdJ δ q (nI j) = some (g j) := by
      unfold dLdJ dJ
      rw [h, g1]
      show ((if 3 = 3 then some (n, g) else none).bind _) = _
      rw [if_pos rfl, Option.bind_some, nI_clamp (by omega), if_neg (by rintro (z | z); exact nN_neg (by omega) z; omega)]
    rw [if_neg (show ¬ nI 3 = (0 : Int32) by decide), if_neg (show ¬ nI 3 = (1 : Int32) by decide), if_neg (show ¬ nI 3 = (2 : Int32) by decide), if_pos (show nI 3 = (3 : Int32) from rfl), show dCk δ "[J" (some q) = _ from hck, Option.bind_some, if_pos rfl, show ((some q).bind fun q => dLdJ δ q (nI j)) = _ from hl, Option.bind_some, (g2 j hj).1]
  · rw [if_neg h3] at hr
    obtain ⟨g, g1, g2⟩ := hr
    have hl : dLd δ (tIx t) q (nI j) = some (f j) := by
      unfold dLd dI
      rw [h, g1]
      show ((if tIx t = tIx t then some (n, g) else none).bind _) = _
      rw [if_pos rfl, Option.bind_some, nI_clamp (by omega), if_neg (by rintro (z | z); exact nN_neg (by omega) z; omega)]
      exact congrArg some (g2 j hj).1
    rcases (show t = 0 ∨ t = 1 ∨ t = 2 ∨ t = 4 by omega) with rfl | rfl | rfl | rfl
    · rw [if_pos (show nI 0 = (0 : Int32) from rfl), show dCk δ "[B" (some q) = _ from hck, Option.bind_some, if_pos rfl, show ((some q).bind fun q => dLd δ 1 q (nI j)) = _ from hl]; rfl
    · rw [if_neg (show ¬ nI 1 = (0 : Int32) by decide), if_pos (show nI 1 = (1 : Int32) from rfl), show dCk δ "[S" (some q) = _ from hck, Option.bind_some, if_pos rfl, show ((some q).bind fun q => dLd δ 2 q (nI j)) = _ from hl]; rfl
    · rw [if_neg (show ¬ nI 2 = (0 : Int32) by decide), if_neg (show ¬ nI 2 = (1 : Int32) by decide), if_pos (show nI 2 = (2 : Int32) from rfl), show dCk δ "[I" (some q) = _ from hck, Option.bind_some, if_pos rfl, show ((some q).bind fun q => dLd δ 0 q (nI j)) = _ from hl]; rfl
    · rw [if_neg (show ¬ nI 4 = (0 : Int32) by decide), if_neg (show ¬ nI 4 = (1 : Int32) by decide), if_neg (show ¬ nI 4 = (2 : Int32) by decide), if_neg (show ¬ nI 4 = (3 : Int32) by decide), show dCk δ "[Z" (some q) = _ from hck, Option.bind_some, if_pos rfl, show ((some q).bind fun q => dLd δ 4 q (nI j)) = _ from hl, Option.bind_some]
      rcases (g2 j hj).2 rfl with z | z
      · rw [z, if_pos rfl]
      · rw [z, if_neg (by decide)]
theorem pl_45 (a b c d : Int32) (σ : SS) (δ : DS) (μ : MS) (H : Rel σ δ μ) : pLaw Rel 45 a b c d σ δ μ := by
  have hSh := H.2.2.2.1.1
  rcases shelf_both a with ⟨s, hs, rfl, e1, e2, e3⟩ | ⟨e1, e2⟩
  · rcases in_0_4 b with ⟨u, -, hu, rfl, e4, e5⟩ | ⟨e4, e5⟩
    · have l11 : ldM μ 11 (nI s) = some (μ.2 11 s) := ldM_n (by show s < 4; exact hs) (by omega)
      have l12 : ldM μ 12 (nI s) = some (μ.2 12 s) := ldM_n (by show s < 4; exact hs) (by omega)
      have fC : f0_item σ δ (nI s) (nI u) c = yh xnA δ (f0_itemOf σ δ (σ.2.2.1 (7 + s)) (nI u) c) (fun y => (if y.1 = 4 then some ((-13 : Int32), y.2.1) else (if y.1 = 5 then some ((-11 : Int32), y.2.1) else (if y.1 = 1 then some (y.2.1.1 71, y.2.1) else none)))) fun r4 => some (r4.1, r4.2.1, r4.2.2) := by
        unfold f0_item
        rw [e1, Option.bind_some, if_pos rfl, e4, Option.bind_some, if_pos rfl, e3, Option.bind_some]
      have fM : m_item μ (nI s) (nI u) c = ((m_whyNot μ (nI s) (nI u)).bind fun r3 => (if r3 = 0 then (ldM μ 12 (nI s)).bind fun v4 => (m_in c.toInt64 (0 : Int64) ((v4 - (1 : Int32)).toInt64)).bind fun r5 => (if r5 = true then (ldM μ 13 (((40 : Int32) * nI s) + c)).bind fun v6 => some v6 else some (-12 : Int32)) else some r3)) := by
        unfold m_item
        rw [e2, Option.bind_some, if_pos rfl, e5, Option.bind_some, if_pos rfl]
      unfold m_whyNot at fM
      rw [l11, l12] at fM
      rcases hSh.1 s hs with ⟨x1, x2, x3⟩ | ⟨q, t, n, x1, x2, x3, x4, x5, e, x6, f, x7, x8⟩
      · refine pl_0 (r := -11) (σ' := σ) (μ' := μ) ?_ ?_ H
        · rw [cc45, fC, x1]
          refine yh_inl (y := (5, σ, δ)) ?_ (Nat.le_add_right _ _) rfl
          unfold f0_itemOf
          exact yb_inl (y := (5, σ, δ)) (manyOf_none σ δ hu) (Nat.le_add_right _ _)
        · rw [mc45, fM, x2]
          rfl
      · have npos : (0 : Int32) ≤ nI t := by rw [← Int32.not_lt]; exact nN_neg (by omega)
        obtain ⟨ar, har⟩ := rowE_form x7
        have x6' : dl δ q = some (.inl (tIx t, n, ar)) := by rw [x6, har]
        rw [x4, x5] at fM
        simp only [Option.bind_some, if_pos npos] at fM
        by_cases hut : u = t
        · subst hut
          rw [if_pos rfl, Option.bind_some, if_pos rfl] at fM
          rcases in_below c n (by omega) with ⟨j, hj, rfl, g1, g2⟩ | ⟨g1, g2⟩
          · refine pl_0 (r := f j) (σ' := σ) (μ' := μ) ?_ ?_ H
            · rw [cc45, fC, x1, yh_inr (itemOf_in x6 x7 x2 hj x3 g1) (Nat.le_refl _)]
            · rw [mc45, fM, g2, Option.bind_some, if_pos rfl, ix40, ldM_n (by show 40 * s + j < 160; omega) (by omega), x8 j hj]
              rfl
          · refine pl_0 (r := -12) (σ' := sI σ 71 (-12)) (μ' := μ) ?_ ?_ (Rel_71 H _)
            · rw [cc45, fC, x1]
              exact yh_inl (y := (1, sI σ 71 (-12), δ)) (itemOf_out x6' x2 g1) (Nat.le_add_right _ _) rfl
            · rw [mc45, fM, g2, Option.bind_some, if_neg (by decide)]
              rfl
        · have hne : ¬ nI t = nI u := fun z => hut ((nN_eq (by omega) (by omega)).mp z).symm
          rw [if_neg hne, Option.bind_some, if_neg (by decide)] at fM
          refine pl_0 (r := -13) (σ' := σ) (μ' := μ) ?_ ?_ H
          · rw [cc45, fC, x1]
            refine yh_inl (y := (4, σ, δ)) ?_ (Nat.le_add_right _ _) rfl
            unfold f0_itemOf
            have hm := manyOf_eq (σ := σ) x6' x2 hu
            rw [if_neg hut] at hm
            exact yb_inl (y := (4, σ, δ)) hm (Nat.le_add_right _ _)
          · rw [mc45, fM]
            rfl
    · exact pl_0 (r := -1) (σ' := σ) (μ' := μ) (by rw [cc45]; unfold f0_item; rw [e1, Option.bind_some, if_pos rfl, e4]; rfl) (by rw [mc45]; unfold m_item; rw [e2, Option.bind_some, if_pos rfl, e5]; rfl) H
  · exact pl_0 (r := -1) (σ' := σ) (μ' := μ) (by rw [cc45]; unfold f0_item; rw [e1]; rfl) (by rw [mc45]; unfold m_item; rw [e2]; rfl) H
theorem pl_51 (a b c d : Int32) (σ : SS) (δ : DS) (μ : MS) (H : Rel σ δ μ) : pLaw Rel 51 a b c d σ δ μ := by
  obtain ⟨n, h1, h2, h3, h4⟩ := H.2.2.1.2.2
  have htr : m_traced μ = some (nI n) := by
    unfold m_traced
    rw [h3]
    by_cases hb : (30 : Int32) ≤ nI n
    · rw [if_pos hb]
      have := (nN_le (a := 30) (b := n) (by decide) (by omega)).mp hb
      rw [show n = 30 by omega]
      rfl
    · rw [if_neg hb]
  rcases in_below a n (by omega) with ⟨k, hk, rfl, e1, e2⟩ | ⟨e1, e2⟩
  · refine pl_0 (r := μ.2 17 k) (σ' := σ) (μ' := μ) ?_ ?_ H
    · rw [cc51]
      unfold f0_trace
      rw [h2, e1, Option.bind_some, if_pos rfl, ldC_n (by show k < 30; omega) (by omega), h4 k hk]
      rfl
    · rw [mc51]
      unfold m_trace
      rw [htr, Option.bind_some, e2, Option.bind_some, if_pos rfl, ldM_n (by show k < 30; omega) (by omega)]
      rfl
  · refine pl_0 (r := -3) (σ' := σ) (μ' := μ) ?_ ?_ H
    · rw [cc51]
      unfold f0_trace
      rw [h2, e1]
      rfl
    · rw [mc51]
      unfold m_trace
      rw [htr, Option.bind_some, e2]
      rfl
