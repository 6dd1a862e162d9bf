/-! PLAIN LAW: rules read from the tape: words -/
set_option maxRecDepth 100000
def st (n : Nat) (t : Nat → Nat) (s e : Nat) (σ : SS) (μ : MS) : Prop := tape n t σ μ ∧ tk n t s e ∧ (σ.1 42 = nI s ∧ σ.1 43 = nI e) ∧ (μ.1 24 = nI s ∧ μ.1 25 = nI e ∧ μ.1 29 = 0)
def nmL : List (List Nat) := [[104, 97, 110, 100], [99, 108, 97, 115, 112, 101, 100], [102, 111, 114, 103, 101, 114], [116, 119, 105, 110], [115, 108, 111, 119], [104, 101, 105, 114], [101, 97, 114, 108, 121], [108, 97, 116, 101], [115, 112, 97, 114, 101], [121, 101, 97, 114], [115, 116, 97, 110, 100, 115], [103, 114, 97, 99, 101], [115, 116, 114, 101, 110, 103, 116, 104], [110, 117, 109, 98, 101, 114], [110, 111, 116], [40], [41], [97, 110, 100], [111, 114], [105, 102], [59]]
def nm (k : Nat) : List Nat := nmL.getD k []
/-- the bytes of a token -/
def wl (t : Nat → Nat) (s e : Nat) : List Nat := (List.range' s (e - s)).map t
theorem wl_len (t : Nat → Nat) (s e : Nat) : (wl t s e).length = e - s := by
  unfold wl
  rw [List.length_map, List.length_range']
theorem wl_at (t : Nat → Nat) (s e j : Nat) (h : j < (wl t s e).length) : (wl t s e)[j] = t (s + j) := by
  simp [wl]
theorem wl_eq (t : Nat → Nat) (s e : Nat) (l : List Nat) : wl t s e = l ↔ e - s = l.length ∧ ∀ j, j < l.length → t (s + j) = l.getD j 0 := by
  constructor
  · intro h
    subst h
    refine ⟨(wl_len t s e).symm, fun j hj => ?_⟩
    rw [List.getD_eq_getElem?_getD, List.getElem?_eq_getElem hj, Option.getD_some, wl_at]
  · intro ⟨h1, h2⟩
    refine List.ext_getElem (by rw [wl_len, h1]) (fun j g1 g2 => ?_)
    rw [wl_at, h2 j g2, List.getD_eq_getElem?_getD, List.getElem?_eq_getElem g2, Option.getD_some]
theorem nm_all : ∀ k : Fin 21, sLen k.val = some (nI (nm k.val).length) ∧ (nm k.val).length ≤ 8 ∧ 1 ≤ (nm k.val).length ∧ ∀ j : Fin 8, j.val < (nm k.val).length → sCh k.val (nI j.val) = some (nI ((nm k.val).getD j.val 0)) ∧ (nm k.val).getD j.val 0 < 128 := by decide +kernel
theorem sg_neg : ∀ b : Fin 256, 128 ≤ b.val → sgB b.val < 0 := by decide +kernel
theorem sg_eq {b c : Nat} (hb : b < 256) (hc : c < 128) : sgB b = nI c ↔ b = c := by
  by_cases h : b < 128
  · rw [(byte_all ⟨b, hb⟩).2.1 h]
    exact nN_eq (by omega) (by omega)
  · constructor
    · intro z
      have := sg_neg ⟨b, hb⟩ (by show 128 ≤ b; omega)
      exact absurd (z ▸ this) (nN_neg (by omega))
    · intro z; omega
/-- the component asks for a name -/
theorem isName_L {n : Nat} {t : Nat → Nat} {s e : Nat} {σ : SS} {μ : MS} (h : st n t s e σ μ) {k : Nat} (hk : k < 21) (hl : e - s = (nm k).length) : ∀ (m i fuel : Nat), i + m = (nm k).length → m < fuel → f0_isName_L20 1000 σ fuel k (nI i) = some (decide (∀ j, j < (nm k).length → i ≤ j → t (s + j) = (nm k).getD j 0)) := by
  have hn := h.1.1
  have hse := h.2.1.2.1
  obtain ⟨a1, a2, a3, a4⟩ := nm_all ⟨k, hk⟩
  have a1' : sLen k = some (nI (nm k).length) := a1
  have a2' : (nm k).length ≤ 8 := a2
  intro m
  induction m with
  | zero =>
    intro i fuel h1 h2
    obtain ⟨N, rfl⟩ : ∃ n, fuel = n + 1 := ⟨fuel - 1, by omega⟩
    show (sLen k).bind _ = _
    rw [a1', Option.bind_some, if_pos ((nN_le (by omega) (by omega)).mpr (by omega)), decide_eq_true (fun j h3 h4 => absurd h3 (by omega))]
  | succ m ih =>
    intro i fuel h1 h2
    obtain ⟨N, rfl⟩ : ∃ n, fuel = n + 1 := ⟨fuel - 1, by omega⟩
    have hi : i < (nm k).length := by omega
    obtain ⟨c1, c2⟩ := a4 ⟨i, by omega⟩ hi
    have c1' : sCh k (nI i) = some (nI ((nm k).getD i 0)) := c1
    obtain ⟨b1, b2, b3⟩ := h.1.2.2.2 (s + i) (by omega)
    show (sLen k).bind _ = _
    rw [a1', Option.bind_some, if_neg (fun z => by have := (nN_le (by omega) (by omega)).mp z; omega), h.2.2.1.1, nN_add, ldC_n (by show s + i < 200; omega) (by omega), b2, Option.bind_some, c1', Option.bind_some]
    by_cases e1 : t (s + i) = (nm k).getD i 0
    · rw [if_pos ((sg_eq b1 c2).mpr e1), nI_1, ih (i + 1) N (by omega) (by omega)]
      congr 1
      apply decide_eq_decide.mpr
      constructor
      · intro z j h3 h4
        by_cases ej : j = i
        · rw [ej]; exact e1
        · exact z j h3 (by omega)
      · intro z j h3 h4
        exact z j h3 (by omega)
    · rw [if_neg (fun z => e1 ((sg_eq b1 c2).mp z)), decide_eq_false (fun z => e1 (z i hi (Nat.le_refl _)))]
theorem isName_eq {n : Nat} {t : Nat → Nat} {s e : Nat} {σ : SS} {μ : MS} (h : st n t s e σ μ) {k : Nat} (hk : k < 21) : f0_isName 1000 σ k = some (decide (wl t s e = nm k)) := by
  have hn := h.1.1
  have hse := h.2.1.2.1
  obtain ⟨a1, a2, a3, a4⟩ := nm_all ⟨k, hk⟩
  have a1' : sLen k = some (nI (nm k).length) := a1
  have a2' : (nm k).length ≤ 8 := a2
  unfold f0_isName
  rw [a1', Option.bind_some, h.2.2.1.1, h.2.2.1.2, nN_sub h.2.1.1]
  by_cases hl : e - s = (nm k).length
  · rw [if_pos (by rw [hl]), show f0_isName_L20 1000 σ 1000 k (0 : Int32) = _ from isName_L h hk hl (nm k).length 0 1000 (by omega) (by omega)]
    congr 1
    apply decide_eq_decide.mpr
    rw [wl_eq]
    constructor
    · intro z
      exact ⟨hl, fun j hj => z j hj (Nat.zero_le _)⟩
    · intro z j hj _
      exact z.2 j hj
  · rw [if_neg (fun z => hl ((nN_eq (by omega) (by omega)).mp z)), decide_eq_false (fun z => hl ((wl_eq _ _ _ _).mp z).1)]
/-! the model's words -/
def hsW : List Nat → Nat → Nat
  | [], x => x
  | b :: l, x => hsW l (if x ≤ 36028797018963967 then 32 * x + (b - 96) else x)
theorem hs_app (l : List Nat) (b : Nat) : ∀ x, hsW (l ++ [b]) x = if hsW l x ≤ 36028797018963967 then 32 * hsW l x + (b - 96) else hsW l x := by
  induction l with
  | nil => intro x; rfl
  | cons a l ih => intro x; exact ih _
theorem snoc_cases {α : Type} (l : List α) : l = [] ∨ ∃ (l' : List α) (b : α), l = l' ++ [b] := by
  cases h : l.reverse with
  | nil => exact Or.inl (by simpa using h)
  | cons b l' => exact Or.inr ⟨l'.reverse, b, by have := congrArg List.reverse h; simpa using this⟩
theorem hs_inj : ∀ (m : Nat) (l l' : List Nat), l.length = m → (∀ b ∈ l, 97 ≤ b ∧ b ≤ 122) → (∀ b ∈ l', 97 ≤ b ∧ b ≤ 122) → hsW l 0 = hsW l' 0 → hsW l 0 ≤ 36028797018963967 → l = l' := by
  intro m
  induction m with
  | zero =>
    intro l l' h0 h1 h2 h3 h4
    have hl : l = [] := List.length_eq_zero_iff.mp h0
    subst hl
    rcases snoc_cases l' with rfl | ⟨r, b, rfl⟩
    · rfl
    · have hb := h2 b (by simp)
      rw [hs_app] at h3
      have : hsW [] 0 = 0 := rfl
      split at h3 <;> omega
  | succ m ih =>
    intro l l' h0 h1 h2 h3 h4
    rcases snoc_cases l with rfl | ⟨q, a, rfl⟩
    · cases h0
    · have ha := h1 a (by simp)
      rcases snoc_cases l' with rfl | ⟨r, b, rfl⟩
      · rw [hs_app] at h3
        have : hsW [] 0 = 0 := rfl
        split at h3 <;> omega
      · have hb := h2 b (by simp)
        rw [hs_app] at h3 h4
        rw [hs_app] at h3
        have e1 : hsW q 0 = hsW r 0 ∧ a = b ∧ hsW q 0 ≤ 36028797018963967 := by
          split at h3 <;> split at h3 <;> split at h4 <;> refine ⟨?_, ?_, ?_⟩ <;> omega
        have := ih q r (by simpa using h0) (fun x hx => h1 x (by simp [hx])) (fun x hx => h2 x (by simp [hx])) e1.1 e1.2.2
        rw [this, e1.2.1]
def lI (x : Nat) : Int64 := Int64.ofNat x
theorem lI_int {x : Nat} (h : x < 2 ^ 62) : (lI x).toInt = x := by
  unfold lI
  exact Int64.toInt_ofNat_of_lt (by omega)
theorem lI_eq {x y : Nat} (h1 : x < 2 ^ 62) (h2 : y < 2 ^ 62) : lI x = lI y ↔ x = y := by
  constructor
  · intro z
    have := congrArg Int64.toInt z
    rw [lI_int h1, lI_int h2] at this
    omega
  · intro z; rw [z]
theorem lg0 (a b : Int64) : lg_cmp a b = 0 ↔ a = b := by
  unfold lg_cmp
  by_cases h : a > b
  · rw [if_pos h]
    constructor
    · intro z; exact absurd z (by decide)
    · intro z; subst z; exact absurd h (Int64.lt_irrefl)
  · rw [if_neg h]
    by_cases e : a = b
    · rw [if_pos e]; exact ⟨fun _ => e, fun _ => rfl⟩
    · rw [if_neg e]; exact ⟨fun z => absurd z (by decide), fun z => absurd z e⟩
theorem lgle {x : Nat} (h1 : x < 2 ^ 62) : lg_cmp (lI x) (36028797018963967 : Int64) ≤ 0 ↔ x ≤ 36028797018963967 := by
  have e : (36028797018963967 : Int64) = lI 36028797018963967 := rfl
  have hgt : lI x > lI 36028797018963967 ↔ 36028797018963967 < x := by
    show lI 36028797018963967 < lI x ↔ _
    rw [Int64.lt_iff_toInt_lt, lI_int h1, lI_int (by decide)]
    omega
  rw [e]
  unfold lg_cmp
  by_cases h : lI x > lI 36028797018963967
  · rw [if_pos h]
    have := hgt.mp h
    exact ⟨fun z => absurd z (by decide), fun z => by omega⟩
  · rw [if_neg h]
    have : ¬ 36028797018963967 < x := fun z => h (hgt.mpr z)
    split
    · exact ⟨fun _ => by omega, fun _ => by decide⟩
    · exact ⟨fun _ => by omega, fun _ => by decide⟩
theorem step_64 {x b : Nat} (hx : x ≤ 36028797018963967) (hb : 97 ≤ b ∧ b ≤ 122) : ((32 : Int64) * lI x) + ((nI b - (96 : Int32)).toInt64) = lI (32 * x + (b - 96)) := by
  have e1 : nI b - (96 : Int32) = nI (b - 96) := nN_sub (a := b) (b := 96) (by omega)
  have e2 : (nI (b - 96)).toInt64 = lI (b - 96) := by
    apply Int64.toInt_inj.mp
    rw [Int32.toInt_toInt64, lI_int (by omega)]
    exact Int32.toInt_ofNat_of_lt (by omega)
  rw [e1, e2]
  unfold lI
  rw [Int64.ofNat_add, Int64.ofNat_mul]
  rfl
theorem word_0 {μ : MS} {e : Nat} (he : e ≤ 200) (h1 : μ.1 25 = nI e) (hz : ∀ x1, (if (μ.1 29) = 0 then (m_byteAt μ (μ.1 24)).bind fun r1 => (m_isLetter r1).bind fun r2 => (if r2 = true then some x1 else some (0 : Int64)) else some (0 : Int64)) = some (0 : Int64)) : ∀ (r k fuel : Nat) (x : Int64), e ≤ k + r → r < fuel → k ≤ 200 → m_word_L7 1000 μ fuel x (nI k) = some 0 := by
  intro r
  induction r with
  | zero =>
    intro k fuel x h2 h3 hk
    obtain ⟨N, rfl⟩ : ∃ n, fuel = n + 1 := ⟨fuel - 1, by omega⟩
    show (if μ.1 25 ≤ nI k then _ else _) = _
    rw [h1, if_pos ((nN_le (by omega) (by omega)).mpr (by omega))]
    exact hz x
  | succ r ih =>
    intro k fuel x h2 h3 hk
    obtain ⟨N, rfl⟩ : ∃ n, fuel = n + 1 := ⟨fuel - 1, by omega⟩
    show (if μ.1 25 ≤ nI k then _ else _) = _
    by_cases hek : e ≤ k
    · rw [h1, if_pos ((nN_le (by omega) (by omega)).mpr hek)]
      exact hz x
    · rw [h1, if_neg (fun z => hek ((nN_le (by omega) (by omega)).mp z)), nI_1, ldM_n (by show k < 200; omega) (by omega)]
      split
      · exact ih (k + 1) N _ (by omega) (by omega) (by omega)
      · exact ih (k + 1) N _ (by omega) (by omega) (by omega)
theorem word_L {n : Nat} {t : Nat → Nat} {s e : Nat} {σ : SS} {μ : MS} (h : st n t s e σ μ) (hw : ∀ i, s ≤ i → i < e → isL (t i) = true) (hse : s < e) : ∀ (r k fuel x : Nat), k + r = e → s ≤ k → r < fuel → x < 2 ^ 61 → m_word_L7 1000 μ fuel (lI x) (nI k) = some (lI (hsW ((List.range' k r).map t) x)) := by
  have hn := h.1.1
  have hen := h.2.1.2.1
  intro r
  induction r with
  | zero =>
    intro k fuel x h1 h2 h3 h4
    obtain ⟨N, rfl⟩ : ∃ n, fuel = n + 1 := ⟨fuel - 1, by omega⟩
    have hb := bat_L h.1 (i := s) (by omega)
    rw [decide_eq_true (by omega : s < n), hw s (Nat.le_refl _) hse, byteAt_eq h.1 (by omega : s ≤ n), Option.bind_some] at hb
    show (if μ.1 25 ≤ nI k then _ else _) = _
    rw [h.2.2.2.2.1, if_pos ((nN_le (by omega) (by omega)).mpr (by omega)), if_pos h.2.2.2.2.2, h.2.2.2.1, byteAt_eq h.1 (by omega : s ≤ n), Option.bind_some, hb]
    rfl
  | succ r ih =>
    intro k fuel x h1 h2 h3 h4
    obtain ⟨N, rfl⟩ : ∃ n, fuel = n + 1 := ⟨fuel - 1, by omega⟩
    obtain ⟨b1, b2, b3⟩ := h.1.2.2.2 k (by omega)
    have hl := hw k h2 (by omega)
    unfold isL at hl
    rw [decide_eq_true_eq] at hl
    show (if μ.1 25 ≤ nI k then _ else _) = some (lI (hsW ((List.range' (k + 1) r).map t) (if x ≤ 36028797018963967 then 32 * x + (t k - 96) else x)))
    rw [h.2.2.2.2.1, if_neg (fun z => by have := (nN_le (by omega) (by omega)).mp z; omega), nI_1, ldM_n (by show k < 200; omega) (by omega), b3]
    by_cases hx : x ≤ 36028797018963967
    · rw [if_pos ((lgle (by omega)).mpr hx), if_pos hx, Option.bind_some, step_64 hx hl]
      exact ih (k + 1) N _ (by omega) (by omega) (by omega) (by omega)
    · rw [if_neg (fun z => hx ((lgle (by omega)).mp z)), if_neg hx]
      exact ih (k + 1) N _ (by omega) (by omega) (by omega) h4
theorem nm_hs : ∀ k : Fin 21, (k.val ≠ 15 → k.val ≠ 16 → k.val ≠ 20 → (1 ≤ hsW (nm k.val) 0 ∧ hsW (nm k.val) 0 < 36028797018963967) ∧ ∀ b ∈ nm k.val, isL b = true) := by decide +kernel
theorem isL_le {b : Nat} (h : isL b = true) : 97 ≤ b ∧ b ≤ 122 := by
  unfold isL at h
  exact of_decide_eq_true h
theorem hs_lt : ∀ (l : List Nat) (x : Nat), x < 2 ^ 61 → (∀ b ∈ l, isL b = true) → hsW l x < 2 ^ 61 := by
  intro l
  induction l with
  | nil => intro x hx _; exact hx
  | cons b l ih =>
    intro x hx hb
    have := isL_le (hb b (by simp))
    refine ih _ ?_ (fun y hy => hb y (by simp [hy]))
    split <;> omega
/-- what the model's word tells -/
theorem word_both {n : Nat} {t : Nat → Nat} {s e : Nat} {σ : SS} {μ : MS} (h : st n t s e σ μ) : ∃ r, m_word 1000 μ = some r ∧ ∀ k, k < 21 → k ≠ 15 → k ≠ 16 → k ≠ 20 → (lg_cmp r (lI (hsW (nm k) 0)) = 0 ↔ wl t s e = nm k) := by
  have hn := h.1.1
  have hen := h.2.1.2.1
  have hse := h.2.1.1
  by_cases hw : s < e ∧ ∀ i, s ≤ i → i < e → isL (t i) = true
  · refine ⟨lI (hsW (wl t s e) 0), ?_, fun k hk k1 k2 k3 => ?_⟩
    · unfold m_word
      rw [h.2.2.2.1]
      exact word_L h hw.2 hw.1 (e - s) s 1000 0 (by omega) (Nat.le_refl _) (by omega) (by decide)
    · obtain ⟨⟨g1, g2⟩, g3⟩ := nm_hs ⟨k, hk⟩ k1 k2 k3
      have g1' : 1 ≤ hsW (nm k) 0 := g1
      have g2' : hsW (nm k) 0 < 36028797018963967 := g2
      have g3' : ∀ b ∈ nm k, isL b = true := g3
      have hwl : ∀ b ∈ wl t s e, isL b = true := fun b hb => by
        unfold wl at hb
        rw [List.mem_map] at hb
        obtain ⟨i, hi, rfl⟩ := hb
        rw [List.mem_range'_1] at hi
        exact hw.2 i hi.1 (by omega)
      have hlt := hs_lt (wl t s e) 0 (by decide) hwl
      rw [lg0, lI_eq (by omega) (by omega)]
      exact ⟨fun z => hs_inj _ _ _ rfl (fun b hb => isL_le (hwl b hb)) (fun b hb => isL_le (g3' b hb)) z (by omega), fun z => by rw [z]⟩
  · refine ⟨0, ?_, fun k hk k1 k2 k3 => ?_⟩
    · unfold m_word
      rw [h.2.2.2.1]
      refine word_0 (e := e) (by omega) h.2.2.2.2.1 (fun x1 => ?_) 200 s 1000 (0 : Int64) (by omega) (by omega) (by omega)
      rw [if_pos h.2.2.2.2.2, h.2.2.2.1]
      have hb := bat_L h.1 (i := s) (by omega)
      have hF : (decide (s < n) && isL (t s)) = false := by
        rcases h.2.1.2.2 with c | ⟨c1, c2 | c2 | c2⟩
        · rw [decide_eq_false (by omega), Bool.false_and]
        · exact absurd ⟨c1, c2⟩ hw
        · have := c2 s (Nat.le_refl _) c1
          have : isL (t s) = false := by
            cases hL : isL (t s) with
            | false => rfl
            | true => rw [LG hL] at this; cases this
          rw [this, Bool.and_false]
        · rw [c2.2.1, Bool.and_false]
      rw [hF, byteAt_eq h.1 (by omega : s ≤ n), Option.bind_some] at hb
      rw [byteAt_eq h.1 (by omega : s ≤ n), Option.bind_some, hb]
      rfl
    · obtain ⟨⟨g1, g2⟩, g3⟩ := nm_hs ⟨k, hk⟩ k1 k2 k3
      have g1' : 1 ≤ hsW (nm k) 0 := g1
      have g2' : hsW (nm k) 0 < 36028797018963967 := g2
      rw [lg0, show (0 : Int64) = lI 0 from rfl, lI_eq (by decide) (by omega)]
      refine ⟨fun z => by omega, fun z => absurd ?_ hw⟩
      have hl := wl_len t s e
      have h1 : 1 ≤ (nm k).length := (nm_all ⟨k, hk⟩).2.2.1
      rw [z] at hl
      refine ⟨by omega, fun i h4 h5 => ?_⟩
      have hm : t i ∈ wl t s e := by
        unfold wl
        rw [List.mem_map]
        exact ⟨i, List.mem_range'_1.mpr ⟨h4, by omega⟩, rfl⟩
      rw [z] at hm
      exact g3 _ hm
