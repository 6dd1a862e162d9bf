/-! PLAIN LAW: the host: sheets -/
set_option maxRecDepth 100000
def tIx (t : Nat) : Nat := [1, 2, 0, 3, 4].getD t 0
def tNmS (t : Nat) : String := tNm (tIx t)
theorem rowE_form {t n : Nat} {f : Nat → Int32} {e : dE} (h : rowE t n f e) : ∃ a, e = .inl (tIx t, n, a) := by
  unfold rowE at h
  by_cases ht : t = 3
  · rw [if_pos ht] at h
    obtain ⟨g, h1, -⟩ := h
    exact ⟨_, by rw [h1, ht]; rfl⟩
  · rw [if_neg ht] at h
    obtain ⟨g, h1, -⟩ := h
    exact ⟨_, h1⟩
theorem tIx_lt (t : Nat) : tIx t < 5 := by
  unfold tIx
  rcases (show t = 0 ∨ t = 1 ∨ t = 2 ∨ t = 3 ∨ t = 4 ∨ 5 ≤ t by omega) with rfl | rfl | rfl | rfl | rfl | h
  · decide
  · decide
  · decide
  · decide
  · decide
  · rw [List.getD_eq_getElem?_getD, List.getElem?_eq_none (by simpa using h)]
    decide
theorem row_nm {δ : DS} {q i n : Nat} {a : (Nat → Int32) ⊕ (Nat → Int64) ⊕ (Nat → UInt32) ⊕ (Nat → UInt64) ⊕ (Nat → Option Nat)} (h : dl δ q = some (.inl (i, n, a))) (hi : i < 5) : dNm δ q = some (tNm i) := by
  unfold dNm
  rw [h]
  exact if_pos hi
theorem row_is {δ : DS} {q t s n : Nat} {a : (Nat → Int32) ⊕ (Nat → Int64) ⊕ (Nat → UInt32) ⊕ (Nat → UInt64) ⊕ (Nat → Option Nat)} (h : dl δ q = some (.inl (tIx t, n, a))) (ht : t ≤ 4) (hs : s ≤ 4) : dIs δ (tNmS s) (some q) = some (decide (s = t)) := by
  show (dNm δ q).bind _ = _
  rw [row_nm h (tIx_lt t), Option.bind_some]
  rcases (show t = 0 ∨ t = 1 ∨ t = 2 ∨ t = 3 ∨ t = 4 by omega) with rfl | rfl | rfl | rfl | rfl <;> rcases (show s = 0 ∨ s = 1 ∨ s = 2 ∨ s = 3 ∨ s = 4 by omega) with rfl | rfl | rfl | rfl | rfl <;> decide
theorem row_ck {δ : DS} {q t s n : Nat} {a : (Nat → Int32) ⊕ (Nat → Int64) ⊕ (Nat → UInt32) ⊕ (Nat → UInt64) ⊕ (Nat → Option Nat)} (h : dl δ q = some (.inl (tIx t, n, a))) (ht : t ≤ 4) (hs : s ≤ 4) : dCk δ (tNmS s) (some q) = some (decide (s = t)) := row_is h ht hs
theorem row_len {δ : DS} {q i n : Nat} {a : (Nat → Int32) ⊕ (Nat → Int64) ⊕ (Nat → UInt32) ⊕ (Nat → UInt64) ⊕ (Nat → Option Nat)} (h : dl δ q = some (.inl (i, n, a))) (hi : i < 5) : dLen δ i q = some (nI n) := by
  unfold dLen
  rw [h]
  exact if_pos ⟨rfl, hi⟩
/-- how many items a row has, taken for one of a sort -/
theorem manyOf_eq {δ : DS} {σ : SS} {q t s n : Nat} {a : (Nat → Int32) ⊕ (Nat → Int64) ⊕ (Nat → UInt32) ⊕ (Nat → UInt64) ⊕ (Nat → Option Nat)} (h : dl δ q = some (.inl (tIx t, n, a))) (ht : t ≤ 4) (hs : s ≤ 4) : f0_manyOf σ δ (some q) (nI s) = if s = t then some (.inr (nI n, σ, δ)) else some (.inl (4, σ, δ)) := by
  have hck := row_ck h ht hs
  have hlen := row_len h (tIx_lt t)
  unfold f0_manyOf
  rcases (show s = 0 ∨ s = 1 ∨ s = 2 ∨ s = 3 ∨ s = 4 by omega) with rfl | rfl | rfl | rfl | rfl
  · rw [if_pos (show nI 0 = (0 : Int32) from rfl), show dCk δ "[B" (some q) = _ from hck, Option.bind_some]
    by_cases e : 0 = t
    · subst e
      rw [if_pos (decide_eq_true rfl), if_pos rfl, if_neg (show ¬ (some q).isNone = true from fun h => by cases h), show ((some q).bind (dLen δ 1)) = some (nI n) from hlen]
      rfl
    · rw [if_neg (by rw [decide_eq_true_eq]; exact e), if_neg e]
  · rw [if_neg (show ¬ nI 1 = (0 : Int32) by decide), if_pos (show nI 1 = (1 : Int32) from rfl), show dCk δ "[S" (some q) = _ from hck, Option.bind_some]
    by_cases e : 1 = t
    · subst e
      rw [if_pos (decide_eq_true rfl), if_pos rfl, if_neg (show ¬ (some q).isNone = true from fun h => by cases h), show ((some q).bind (dLen δ 2)) = some (nI n) from hlen]
      rfl
    · rw [if_neg (by rw [decide_eq_true_eq]; exact e), if_neg e]
  · rw [if_neg (show ¬ nI 2 = (0 : Int32) by decide), if_neg (show ¬ nI 2 = (1 : Int32) by decide), if_pos (show nI 2 = (2 : Int32) from rfl), show dCk δ "[I" (some q) = _ from hck, Option.bind_some]
    by_cases e : 2 = t
    · subst e
      rw [if_pos (decide_eq_true rfl), if_pos rfl, if_neg (show ¬ (some q).isNone = true from fun h => by cases h), show ((some q).bind (dLen δ 0)) = some (nI n) from hlen]
      rfl
    · rw [if_neg (by rw [decide_eq_true_eq]; exact e), if_neg e]
  · rw [if_neg (show ¬ nI 3 = (0 : Int32) by decide), if_neg (show ¬ nI 3 = (1 : Int32) by decide), if_neg (show ¬ nI 3 = (2 : Int32) by decide), if_pos (show nI 3 = (3 : Int32) from rfl), show dCk δ "[J" (some q) = _ from hck, Option.bind_some]
    by_cases e : 3 = t
    · subst e
      rw [if_pos (decide_eq_true rfl), if_pos rfl, if_neg (show ¬ (some q).isNone = true from fun h => by cases h), show ((some q).bind (dLen δ 3)) = some (nI n) from hlen]
      rfl
    · rw [if_neg (by rw [decide_eq_true_eq]; exact e), if_neg e]
  · rw [if_neg (show ¬ nI 4 = (0 : Int32) by decide), if_neg (show ¬ nI 4 = (1 : Int32) by decide), if_neg (show ¬ nI 4 = (2 : Int32) by decide), if_neg (show ¬ nI 4 = (3 : Int32) by decide), show dCk δ "[Z" (some q) = _ from hck, Option.bind_some]
    by_cases e : 4 = t
    · subst e
      rw [if_pos (decide_eq_true rfl), if_pos rfl, if_neg (show ¬ (some q).isNone = true from fun h => by cases h), show ((some q).bind (dLen δ 4)) = some (nI n) from hlen]
      rfl
    · rw [if_neg (by rw [decide_eq_true_eq]; exact e), if_neg e]
theorem manyOf_none (σ : SS) (δ : DS) {s : Nat} (hs : s ≤ 4) : f0_manyOf σ δ none (nI s) = some (.inl (5, σ, δ)) := by
  rcases (show s = 0 ∨ s = 1 ∨ s = 2 ∨ s = 3 ∨ s = 4 by omega) with rfl | rfl | rfl | rfl | rfl <;> rfl
/-! runs with handlers -/
theorem yh_inr {τ1 : Type} {nf1 : τ1 → Nat} {d : DS} {F : Option (XR τ1)} {Hh : Nat × SS × DS → Option (Int32 × SS)} {K : τ1 → Option (Int32 × SS × DS)} {r : τ1} (h : F = some (.inr r)) (hd : d.2 ≤ nf1 r) : yh nf1 d F Hh K = K r := by
  unfold yh
  rw [h, Option.bind_some, if_pos (show d.2 ≤ ynx nf1 (.inr r) from hd)]
  rfl
theorem yh_inl {τ1 : Type} {nf1 : τ1 → Nat} {d : DS} {F : Option (XR τ1)} {Hh : Nat × SS × DS → Option (Int32 × SS)} {K : τ1 → Option (Int32 × SS × DS)} {y : Nat × SS × DS} {v : Int32} {σ : SS} (h : F = some (.inl y)) (hd : d.2 ≤ y.2.2.2 + 25) (hh : Hh y = some (v, σ)) : yh nf1 d F Hh K = some (v, σ, y.2.2) := by
  unfold yh
  rw [h, Option.bind_some, if_pos (show d.2 ≤ ynx nf1 (.inl y) from hd)]
  show (Hh y).map _ = _
  rw [hh]
  rfl
theorem yb_inr {τ τ1 : Type} {nf1 : τ1 → Nat} {d : DS} {F : Option (XR τ1)} {K : τ1 → Option (XR τ)} {r : τ1} (h : F = some (.inr r)) (hd : d.2 ≤ nf1 r) : yb nf1 d F K = K r := by
  unfold yb
  rw [h, Option.bind_some, if_pos (show d.2 ≤ ynx nf1 (.inr r) from hd)]
  rfl
theorem yb_inl {τ τ1 : Type} {nf1 : τ1 → Nat} {d : DS} {F : Option (XR τ1)} {K : τ1 → Option (XR τ)} {y : Nat × SS × DS} (h : F = some (.inl y)) (hd : d.2 ≤ y.2.2.2 + 25) : yb nf1 d F K = some (.inl y) := by
  unfold yb
  rw [h, Option.bind_some, if_pos (show d.2 ≤ ynx nf1 (.inl y) from hd)]
  rfl
theorem must_t (σ : SS) (δ : DS) (v : Int32) : y0_must σ δ true v = some (.inr (σ, δ)) := rfl
theorem must_f (σ : SS) (δ : DS) (v : Int32) : y0_must σ δ false v = some (.inl (1, sI σ 71 v, δ)) := rfl
theorem shelf_both (a : Int32) : (∃ n : Nat, n < 4 ∧ a = nI n ∧ f0_isShelf a = some true ∧ m_isOne a = some true ∧ ldS a = some n) ∨ (f0_isShelf a = some false ∧ m_isOne a = some false) := by
  unfold f0_isShelf m_isOne
  rcases in_0_3 a with ⟨n, -, h2, rfl, e1, e2⟩ | ⟨e1, e2⟩
  · refine Or.inl ⟨n, by omega, rfl, by rw [e1]; rfl, by rw [e2]; rfl, ?_⟩
    unfold ldS
    rw [nI_clamp (by omega), if_neg]
    rintro (q | q)
    · exact nN_neg (by omega) q
    · omega
  · exact Or.inr ⟨by rw [e1]; rfl, by rw [e2]; rfl⟩
/-- the sorts, -1: missing -/
theorem sort_both (a : Int32) : (a = -1 ∧ f0_isIn a (-1) 4 = some true ∧ m_in a.toInt64 (-1) 4 = some true) ∨ (∃ n : Nat, n ≤ 4 ∧ a = nI n ∧ f0_isIn a (-1) 4 = some true ∧ m_in a.toInt64 (-1) 4 = some true) ∨ (f0_isIn a (-1) 4 = some false ∧ m_in a.toInt64 (-1) 4 = some false) := by
  have e1 : f0_isIn a (-1) 4 = some (decide (¬ a < -1 ∧ ¬ (4 : Int32) < a)) := f_in_eq _ _ _
  have e2 : m_in a.toInt64 (-1) 4 = some (decide (¬ a < -1 ∧ ¬ (4 : Int32) < a)) := m_in_eq a (-1) 4
  rw [e1, e2]
  by_cases h : ¬ a < -1 ∧ ¬ (4 : Int32) < a
  · rw [decide_eq_true h]
    by_cases h0 : a < 0
    · left
      refine ⟨?_, rfl, rfl⟩
      obtain ⟨h1, -⟩ := h
      rw [Int32.lt_iff_toInt_lt] at h1 h0
      have e0 : (0 : Int32).toInt = 0 := by decide
      have em : (-1 : Int32).toInt = -1 := by decide
      rw [em] at h1
      rw [e0] at h0
      apply Int32.toInt_inj.mp
      rw [em]
      omega
    · right; left
      obtain ⟨n, g1, g2, g3⟩ := in_num (lo := 0) (hi := 4) (by decide) (by decide) ⟨h0, h.2⟩
      exact ⟨n, g2, g3, rfl, rfl⟩
  · rw [decide_eq_false h]
    exact Or.inr (Or.inr ⟨rfl, rfl⟩)
/-! the relation when the host alone changes -/
theorem isHand_ext {δ δ' : DS} (h : ext δ δ') {q k p g : Nat} (H : isHand δ q k p g) : isHand δ' q k p g := h q _ H (fun t n a e => by cases e)
theorem Rel_host {σ σ' : SS} {δ δ' : DS} {μ μ' : MS} (H : Rel σ δ μ) (hi : ∀ k, k ≠ 71 → σ'.1 k = σ.1 k) (ha : σ'.2.1 = σ.2.1) (hr : ∀ k, k < 3 → σ'.2.2.1 k = σ.2.2.1 k) (hs : σ'.2.2.2 = σ.2.2.2) (he : ext δ δ') (hf : fresh δ') (mi : μ'.1 = μ.1) (ma : ∀ j, (j < 11 ∨ j = 17) → μ'.2 j = μ.2 j) (h1 : rSheet σ' δ' μ') (h2 : rShelf σ' δ' μ') : Rel σ' δ' μ' := by
  obtain ⟨⟨T, RS, h⟩, ⟨a, b⟩, ⟨c, d, e⟩, -, hp, -⟩ := H
  refine ⟨⟨T, RS, cor_id (simC_cg h.1.1 (fun k hk => hi _ (by omega)) (fun j hj n hn => by rw [ha])) (by rw [ma 0 (by decide)]; exact h.M) h.2.1.1 h.2.1.2 ?_ (by rw [hr 0 (by decide)]; exact rulC_ext he h.2.2.1.2) (by rw [ma 0 (by decide)]; exact h.2.2.2)⟩, ⟨?_, ?_⟩, ⟨?_, ?_, ?_⟩, ⟨h1, h2⟩, by unfold rPart; rw [ha]; exact hp, hf⟩
  · rw [hs]
    intro p hp
    obtain ⟨q, g1, g2⟩ := h.2.2.1.1 p hp
    exact ⟨q, g1, isHand_ext he g2⟩
  · obtain ⟨⟨k1, k2⟩, k3⟩ := a
    refine ⟨⟨by rw [hi 36 (by decide), mi]; exact k1, by rw [mi]; exact k2⟩, fun hk => ?_⟩
    obtain ⟨K, RK, ⟨a, b⟩, c, d, e⟩ := k3 (by rw [← mi]; exact hk)
    exact ⟨K, RK, ⟨simC_cg a (fun k hk => hi _ (by omega)) (fun j hj n hn => by rw [ha]), by rw [ma 1 (by decide)]; exact b⟩, c, by rw [hr 1 (by decide)]; exact rulC_ext he d, by rw [ma 1 (by decide)]; exact e⟩
  · intro k hk
    rw [hs]
    rcases b k hk with g | ⟨q, g1, g2⟩
    · exact Or.inl g
    · exact Or.inr ⟨q, g1, isHand_ext he g2⟩
  · obtain ⟨n, g1, g2, g3, g4⟩ := c
    exact ⟨n, g1, by rw [hi 41 (by decide)]; exact g2, by rw [mi]; exact g3, by rw [ha, ma 10 (by decide)]; exact g4⟩
  · obtain ⟨n, g1, g2, g3, g4⟩ := d
    exact ⟨n, g1, by rw [hi 58 (by decide)]; exact g2, by rw [mi]; exact g3, by rw [ha, ma 9 (by decide)]; exact g4⟩
  · obtain ⟨n, g1, g2, g3, g4⟩ := e
    exact ⟨n, g1, by rw [hi 70 (by decide)]; exact g2, by rw [mi]; exact g3, by rw [ha, ma 17 (by decide)]; exact g4⟩
theorem dl_mem {δ : DS} {q : Nat} {e : dE} (h : dl δ q = some e) (hf : fresh δ) : q < δ.2 := by
  unfold dl at h
  cases hx : List.find? (fun x => x.1 == q) δ.1 with
  | none => rw [hx] at h; cases h
  | some x =>
    have h1 := List.mem_of_find?_eq_some hx
    have h2 := List.find?_some hx
    have h3 : x.1 = q := by simpa using h2
    have := hf x h1
    omega
theorem f71 {σ : SS} {x : Int32} {k : Nat} (h : k ≠ 71) : (sI σ 71 x).1 k = σ.1 k := upd_ne h
theorem Rel_71 {σ : SS} {δ : DS} {μ : MS} (H : Rel σ δ μ) (x : Int32) : Rel (sI σ 71 x) δ μ :=
  Rel_host H (fun k hk => f71 hk) rfl (fun _ _ => rfl) rfl (ext.rf δ) H.2.2.2.2.2 rfl (fun _ _ => rfl) H.2.2.2.1.1 H.2.2.2.1.2
/-! sheet -/
theorem sheet_L {i : Nat} (hi : i < 4) : ∀ (m k fuel : Nat) (μ : MS), k + m = 40 → m < fuel → (∀ j, j < k → μ.2 13 (40 * i + j) = 0) → ∃ f, m_sheet_L69 1000 fuel μ (nI i) (nI k) = some ((1 : Int32), setA μ 13 f) ∧ (∀ j, j < 40 → f (40 * i + j) = 0) ∧ ∀ j, (j < 40 * i ∨ 40 * i + 40 ≤ j) → f j = μ.2 13 j := by
  intro m
  induction m with
  | zero =>
    intro k fuel μ h1 h2 h
    obtain ⟨n, rfl⟩ : ∃ n, fuel = n + 1 := ⟨fuel - 1, by omega⟩
    refine ⟨μ.2 13, ?_, fun j hj => h j (by omega), fun _ _ => rfl⟩
    show (if nI 40 ≤ nI k then _ else _) = _
    rw [if_pos ((nN_le (by omega) (by omega)).mpr (by omega))]
    refine congrArg (fun z => some ((1 : Int32), z)) ?_
    unfold setA
    refine congrArg (fun z => (μ.1, z)) (funext fun j => ?_)
    by_cases e : j = 13
    · rw [if_pos e, e]
    · rw [if_neg e]
  | succ m ih =>
    intro k fuel μ h1 h2 h
    obtain ⟨n, rfl⟩ : ∃ n, fuel = n + 1 := ⟨fuel - 1, by omega⟩
    obtain ⟨f, g1, g2, g3⟩ := ih (k + 1) n (setA μ 13 (upd (μ.2 13) (40 * i + k) (0 : Int32))) (by omega) (by omega) (fun j hj => by
      rw [setA_at]
      by_cases e : j = k
      · rw [e, upd_at]
      · rw [upd_ne (by omega)]; exact h j (by omega))
    rw [setA_setA] at g1
    refine ⟨f, ?_, g2, fun j hj => by rw [g3 j hj, setA_at, upd_ne (by omega)]⟩
    show (if nI 40 ≤ nI k then _ else _) = _
    rw [if_neg (fun z => by have := (nN_le (by omega) (by omega)).mp z; omega), show (40 : Int32) * nI i + nI k = nI (40 * i + k) from by rw [show (40 : Int32) = nI 40 from rfl, nN_mul, nN_add], stM_n (by show 40 * i + k < 160; omega) (by omega), Option.bind_some, nI_1]
    exact g1
theorem rowOf_neg (σ : SS) (δ : DS) (t x : Int32) (hx : x < 0) : f0_rowOf σ δ t x = some (.inl (3, σ, δ)) := by
  unfold f0_rowOf
  simp only [if_pos hx]
  repeat' split
  all_goals rfl
theorem zA_row {t n : Nat} (ht : t ≤ 4) : rowE t n (fun _ => 0) (.inl (tIx t, n, zA (tIx t))) := by
  unfold rowE
  rcases (show t = 0 ∨ t = 1 ∨ t = 2 ∨ t = 3 ∨ t = 4 by omega) with rfl | rfl | rfl | rfl | rfl
  · exact ⟨fun _ => 0, rfl, fun i _ => ⟨rfl, fun h => by cases h⟩⟩
  · exact ⟨fun _ => 0, rfl, fun i _ => ⟨rfl, fun h => by cases h⟩⟩
  · exact ⟨fun _ => 0, rfl, fun i _ => ⟨rfl, fun h => by cases h⟩⟩
  · exact ⟨fun _ => 0, rfl, fun i _ => ⟨rfl, rfl⟩⟩
  · exact ⟨fun _ => 0, rfl, fun i _ => ⟨rfl, fun _ => Or.inl rfl⟩⟩
theorem rowOf_pos (σ : SS) (δ : DS) {t n : Nat} (ht : t ≤ 4) (hn : n ≤ 40) : f0_rowOf σ δ (nI t) (nI n) = some (.inr (δ.2, σ, (δ.1 ++ [(δ.2, .inl (tIx t, n, zA (tIx t)))], δ.2 + 1))) := by
  have hx : ¬ nI n < 0 := nN_neg (by omega)
  have hd : ∀ i, dNewS δ i (nI n) = some (δ.1 ++ [(δ.2, .inl (i, n, zA i))], δ.2 + 1) := fun i => by
    unfold dNewS
    rw [nI_clamp (by omega), if_neg (by rintro (q | q); exact hx q; omega)]
  unfold f0_rowOf
  simp only [if_neg hx, hd, Option.bind_some]
  rcases (show t = 0 ∨ t = 1 ∨ t = 2 ∨ t = 3 ∨ t = 4 by omega) with rfl | rfl | rfl | rfl | rfl
  · rw [if_pos (show nI 0 = (0 : Int32) from rfl)]; rfl
  · rw [if_neg (show ¬ nI 1 = (0 : Int32) by decide), if_pos (show nI 1 = (1 : Int32) from rfl)]; rfl
  · rw [if_neg (show ¬ nI 2 = (0 : Int32) by decide), if_neg (show ¬ nI 2 = (1 : Int32) by decide), if_pos (show nI 2 = (2 : Int32) from rfl)]; rfl
  · rw [if_neg (show ¬ nI 3 = (0 : Int32) by decide), if_neg (show ¬ nI 3 = (1 : Int32) by decide), if_neg (show ¬ nI 3 = (2 : Int32) by decide), if_pos (show nI 3 = (3 : Int32) from rfl)]; rfl
  · rw [if_neg (show ¬ nI 4 = (0 : Int32) by decide), if_neg (show ¬ nI 4 = (1 : Int32) by decide), if_neg (show ¬ nI 4 = (2 : Int32) by decide), if_neg (show ¬ nI 4 = (3 : Int32) by decide)]; rfl
theorem sF_at (σ : SS) (k : Nat) (r : Option Nat) : (sF σ k r).2.2.1 k = r := if_pos rfl
theorem sF_ne {σ : SS} {k j : Nat} {r : Option Nat} (h : j ≠ k) : (sF σ k r).2.2.1 j = σ.2.2.1 j := if_neg h
theorem pl_43 (a b c d : Int32) (σ : SS) (δ : DS) (μ : MS) (H : Rel σ δ μ) : pLaw Rel 43 a b c d σ δ μ := by
  have hSh := H.2.2.2.1.1
  have hSf := H.2.2.2.1.2
  have hf := H.2.2.2.2.2
  rcases shelf_both a with ⟨i, hi, rfl, e1, e2, e3⟩ | ⟨e1, e2⟩
  · have st11 : ∀ x, stM μ 11 (nI i) x = some (setA μ 11 (upd (μ.2 11) i x)) := fun x => stM_n (by show i < 4; exact hi) (by omega)
    have st12 : ∀ (μ : MS) x, stM μ 12 (nI i) x = some (setA μ 12 (upd (μ.2 12) i x)) := fun μ x => stM_n (by show i < 4; exact hi) (by omega)
    -- the model's picture when a sheet is laid anew
    have lay : ∀ (v w : Int32), ∃ μ', m_sheet_L69 1000 1000 (setA (setA μ 11 (upd (μ.2 11) i v)) 12 (upd (μ.2 12) i w)) (nI i) (0 : Int32) = some (1, μ') ∧ μ'.1 = μ.1 ∧ (∀ j, j ≠ 11 → j ≠ 12 → j ≠ 13 → μ'.2 j = μ.2 j) ∧ μ'.2 11 = upd (μ.2 11) i v ∧ μ'.2 12 = upd (μ.2 12) i w ∧ (∀ j, j < 40 → μ'.2 13 (40 * i + j) = 0) ∧ (∀ j, (j < 40 * i ∨ 40 * i + 40 ≤ j) → μ'.2 13 j = μ.2 13 j) := fun v w => by
      obtain ⟨f, g1, g2, g3⟩ := sheet_L hi 40 0 1000 (setA (setA μ 11 (upd (μ.2 11) i v)) 12 (upd (μ.2 12) i w)) (by omega) (by omega) (fun j hj => absurd hj (by omega))
      refine ⟨_, g1, rfl, fun j h1 h2 h3 => by rw [setA_o _ _ _ h3, setA_o _ _ _ h2, setA_o _ _ _ h1], by rw [setA_o _ _ _ (by decide), setA_o _ _ _ (by decide), setA_at], by rw [setA_o _ _ _ (by decide), setA_at], by rw [setA_at]; exact g2, fun j hj => by rw [setA_at, g3 j hj, setA_o _ _ _ (by decide), setA_o _ _ _ (by decide)]⟩
    rcases sort_both b with ⟨rfl, e4, e5⟩ | ⟨t, ht, rfl, e4, e5⟩ | ⟨e4, e5⟩
    · obtain ⟨μ', g1, g2, g3, g4, g5, g6, g7⟩ := lay (-1) 0
      refine pl_0 (r := 1) (σ' := sF σ (7 + i) none) (μ' := μ') ?_ ?_ ?_
      · rw [cc43]
        unfold f0_sheet
        rw [e1, Option.bind_some, if_pos rfl, e4, Option.bind_some, if_pos rfl, if_pos (by decide), e3, Option.bind_some, if_neg (by decide)]
        rfl
      · rw [mc43]
        unfold m_sheet
        rw [e2, Option.bind_some, if_pos rfl, e5, Option.bind_some, if_pos rfl, if_pos (by decide)]
        unfold m_sheet_B33
        rw [if_pos (by decide), st11, Option.bind_some, if_neg (by decide), st12, Option.bind_some, setA_o _ _ _ (by decide)]
        exact g1
      · refine Rel_host H (fun _ _ => rfl) rfl (fun k hk => sF_ne (by omega)) rfl (ext.rf δ) hf g2 (fun j hj => g3 j (by omega) (by omega) (by omega)) ⟨fun s hs => ?_, fun s s' q h1 h2 h3 h4 => ?_⟩ (fun s hs => ?_)
        · by_cases e : s = i
          · subst e
            rw [sF_at, g4, g5, upd_at, upd_at]
            exact Or.inl ⟨rfl, rfl, rfl⟩
          · rw [sF_ne (by omega), g4, g5, upd_ne e, upd_ne e]
            rcases hSh.1 s hs with h | ⟨q, t, n, x1, x2, x3, x4, x5, x6, x7, f, x8, x9⟩
            · exact Or.inl h
            · exact Or.inr ⟨q, t, n, x1, x2, x3, x4, x5, x6, x7, f, x8, fun j hj => by rw [g7 _ (by omega)]; exact x9 j hj⟩
        · have n1 : s ≠ i := fun e => by subst e; rw [sF_at] at h3; cases h3
          have n2 : s' ≠ i := fun e => by subst e; rw [sF_at] at h4; cases h4
          rw [sF_ne (by omega)] at h3 h4
          exact hSh.2 s s' q h1 h2 h3 h4
        · rw [sF_ne (by omega), g3 14 (by decide) (by decide) (by decide), g3 15 (by decide) (by decide) (by decide), g3 16 (by decide) (by decide) (by decide)]
          exact hSf s hs
    · have nneg : ¬ nI t < 0 := nN_neg (by omega)
      have npos : (0 : Int32) ≤ nI t := by rw [← Int32.not_lt]; exact nneg
      by_cases h40 : c ≤ (40 : Int32)
      · by_cases hneg : c < 0
        · refine pl_0 (r := -14) (σ' := σ) (μ' := μ) ?_ ?_ H
          · rw [cc43]
            unfold f0_sheet
            rw [e1, Option.bind_some, if_pos rfl, e4, Option.bind_some, if_pos rfl, if_neg nneg, if_pos h40, e3, Option.bind_some, if_pos npos]
            exact yh_inl (y := (3, σ, δ)) (rowOf_neg σ δ _ _ hneg) (Nat.le_add_right _ _) rfl
          · rw [mc43]
            unfold m_sheet
            rw [e2, Option.bind_some, if_pos rfl, e5, Option.bind_some, if_pos rfl, if_neg nneg, if_pos h40]
            unfold m_sheet_B33
            rw [if_neg nneg, if_neg (by rw [Int32.not_le]; exact hneg)]
        · obtain ⟨n, -, hn, rfl⟩ := in_num (a := c) (lo := 0) (hi := 40) (by decide) (by decide) ⟨hneg, by rw [Int32.not_lt]; exact h40⟩
          obtain ⟨μ', g1, g2, g3, g4, g5, g6, g7⟩ := lay (nI t) (nI n)
          have hro := rowOf_pos σ δ ht hn
          have npos2 : (0 : Int32) ≤ nI n := by rw [← Int32.not_lt]; exact hneg
          have hE : exA δ (δ.1 ++ [(δ.2, .inl (tIx t, n, zA (tIx t)))], δ.2 + 1) := exA_app
          refine pl_d (r := 1) (σ' := sF σ (7 + i) (some δ.2)) (δ' := (δ.1 ++ [(δ.2, .inl (tIx t, n, zA (tIx t)))], δ.2 + 1)) (μ' := μ') ?_ ?_ ?_ (Nat.le_succ _) (by show δ.2 + 1 ≤ _; omega)
          · rw [cc43]
            unfold f0_sheet
            rw [e1, Option.bind_some, if_pos rfl, e4, Option.bind_some, if_pos rfl, if_neg nneg, if_pos h40, e3, Option.bind_some, if_pos npos]
            rw [yh_inr hro (Nat.le_succ _)]
            rfl
          · rw [mc43]
            unfold m_sheet
            rw [e2, Option.bind_some, if_pos rfl, e5, Option.bind_some, if_pos rfl, if_neg nneg, if_pos h40]
            unfold m_sheet_B33
            rw [if_neg nneg, if_pos npos2, st11, Option.bind_some, if_pos npos, st12, Option.bind_some, setA_o _ _ _ (by decide)]
            exact g1
          · refine Rel_host H (fun _ _ => rfl) rfl (fun k hk => sF_ne (by omega)) rfl hE.ext (fresh_app hf (Nat.lt_succ_self _)) g2 (fun j hj => g3 j (by omega) (by omega) (by omega)) ⟨fun s hs => ?_, fun s s' q h1 h2 h3 h4 => ?_⟩ (fun s hs => ?_)
            · by_cases e : s = i
              · subst e
                rw [sF_at, g4, g5, upd_at, upd_at]
                exact Or.inr ⟨δ.2, t, n, rfl, ht, hn, rfl, rfl, _, dl_last hf, fun _ => 0, zA_row ht, fun j hj => (g6 j (by omega)).symm⟩
              · rw [sF_ne (by omega), g4, g5, upd_ne e, upd_ne e]
                rcases hSh.1 s hs with h | ⟨q, t', n', x1, x2, x3, x4, x5, x6, x7, f, x8, x9⟩
                · exact Or.inl h
                · exact Or.inr ⟨q, t', n', x1, x2, x3, x4, x5, x6, hE _ _ x7, f, x8, fun j hj => by rw [g7 _ (by omega)]; exact x9 j hj⟩
            · have old : ∀ s, s < 4 → σ.2.2.1 (7 + s) = some δ.2 → False := fun s hs h => by
                rcases hSh.1 s hs with ⟨g, -⟩ | ⟨q, t', n', x1, x2, x3, x4, x5, x6, x7, f, x8, x9⟩
                · rw [g] at h; cases h
                · rw [x1] at h
                  cases h
                  have := dl_mem x7 hf
                  omega
              by_cases n1 : s = i
              · by_cases n2 : s' = i
                · rw [n1, n2]
                · subst n1
                  rw [sF_at] at h3
                  rw [sF_ne (by omega)] at h4
                  cases h3
                  exact absurd h4 (fun h => old s' h2 h)
              · rw [sF_ne (by omega)] at h3
                by_cases n2 : s' = i
                · subst n2
                  rw [sF_at] at h4
                  cases h4
                  exact absurd h3 (fun h => old s h1 h)
                · rw [sF_ne (by omega)] at h4
                  exact hSh.2 s s' q h1 h2 h3 h4
            · rw [sF_ne (by omega), g3 14 (by decide) (by decide) (by decide), g3 15 (by decide) (by decide) (by decide), g3 16 (by decide) (by decide) (by decide)]
              rcases hSf s hs with h | ⟨q, n', x1, x2, x3, x4⟩ | ⟨q, t', n', x1, x2, x3, ⟨ee, f, x4, x5⟩, x6⟩
              · exact Or.inl h
              · exact Or.inr (Or.inl ⟨q, n', x1, x2, hE _ _ x3, x4⟩)
              · exact Or.inr (Or.inr ⟨q, t', n', x1, x2, x3, ⟨ee, f, hE _ _ x4, x5⟩, x6⟩)
      · exact pl_0 (r := -1) (σ' := σ) (μ' := μ) (by rw [cc43]; unfold f0_sheet; rw [e1, Option.bind_some, if_pos rfl, e4, Option.bind_some, if_pos rfl, if_neg nneg, if_neg h40]) (by rw [mc43]; unfold m_sheet; rw [e2, Option.bind_some, if_pos rfl, e5, Option.bind_some, if_pos rfl, if_neg nneg, if_neg h40]) H
    · exact pl_0 (r := -1) (σ' := σ) (μ' := μ) (by rw [cc43]; unfold f0_sheet; rw [e1, Option.bind_some, if_pos rfl, e4]; rfl) (by rw [mc43]; unfold m_sheet; rw [e2, Option.bind_some, if_pos rfl, e5]; rfl) H
  · exact pl_0 (r := -1) (σ' := σ) (μ' := μ) (by rw [cc43]; unfold f0_sheet; rw [e1]; rfl) (by rw [mc43]; unfold m_sheet; rw [e2]; rfl) H
