/-! PLAIN LAW: the town told by numbers; what the two pictures of it are -/
set_option maxRecDepth 100000
/-- a town told by numbers: nums (0 people, 1 deeds, 2 the end, 3 the year, 5 reports), rows (0 kind, 1 grace, 2 strength of people; 3 whose, 4 when, 5 weight, 7 how a deed is; 8 owed; 9 heavy, 10 done, 11 by, 12 was of reports), what deeds need, ints (0 score, 1 z) -/
abbrev Tw : Type := (Nat → Nat) × (Nat → Nat → Nat) × (Nat → Option Nat) × (Nat → Int32)
def tP (T : Tw) : Nat := T.1 0
def tD (T : Tw) : Nat := T.1 1
def tE (T : Tw) : Nat := T.1 2
def tY (T : Tw) : Nat := T.1 3
def tR (T : Tw) : Nat := T.1 5
def tA (T : Tw) (j : Nat) : Nat → Nat := T.2.1 j
def tN (T : Tw) : Nat → Option Nat := T.2.2.1
def tS (T : Tw) : Int32 := T.2.2.2 0
def tZ (T : Tw) : Int32 := T.2.2.2 1
/-- a town changed: a number, a row, what is needed, an int -/
def wN (T : Tw) (k v : Nat) : Tw := (fun j => if j = k then v else T.1 j, T.2)
def wA (T : Tw) (k : Nat) (f : Nat → Nat) : Tw := (T.1, fun j => if j = k then f else T.2.1 j, T.2.2)
def wD (T : Tw) (f : Nat → Option Nat) : Tw := (T.1, T.2.1, f, T.2.2.2)
def wI (T : Tw) (k : Nat) (x : Int32) : Tw := (T.1, T.2.1, T.2.2.1, fun j => if j = k then x else T.2.2.2 j)
def uN (f : Nat → Nat) (k v : Nat) : Nat → Nat := fun j => if j = k then v else f j
/-- what a deed needs, as an int -/
def nE : Option Nat → Int32
  | none => -1
  | some n => nI n
/-- town t of the component shows T -/
def simC (T : Tw) (t : Nat) (σ : SS) : Prop :=
  (σ.1 (7 * t + 0) = nI (tP T) ∧ σ.1 (7 * t + 1) = nI (tD T) ∧ σ.1 (7 * t + 2) = nI (tE T) ∧ σ.1 (7 * t + 3) = nI (tY T) ∧ σ.1 (7 * t + 4) = tS T ∧ σ.1 (7 * t + 5) = nI (tR T) ∧ σ.1 (7 * t + 6) = tZ T) ∧
  (∀ p, p < 6 → σ.2.1 (13 * t + 0) p = nI (tA T 0 p) ∧ σ.2.1 (13 * t + 1) p = nI (tA T 1 p) ∧ σ.2.1 (13 * t + 2) p = nI (tA T 2 p)) ∧
  (∀ d, d < 10 → σ.2.1 (13 * t + 3) d = nI (tA T 3 d) ∧ σ.2.1 (13 * t + 4) d = nI (tA T 4 d) ∧ σ.2.1 (13 * t + 5) d = nI (tA T 5 d) ∧ σ.2.1 (13 * t + 6) d = nE (tN T d) ∧ σ.2.1 (13 * t + 7) d = nI (tA T 7 d)) ∧
  (∀ k, k < 36 → σ.2.1 (13 * t + 8) k = nI (tA T 8 k)) ∧
  (∀ r, r < 6 → σ.2.1 (13 * t + 9) r = nI (tA T 9 r) ∧ σ.2.1 (13 * t + 10) r = nI (tA T 10 r) ∧ σ.2.1 (13 * t + 11) r = nI (tA T 11 r) ∧ σ.2.1 (13 * t + 12) r = nI (tA T 12 r))
/-- the model's row shows T (its rules apart) -/
def simM (T : Tw) (f : Nat → Int32) : Prop :=
  (f 0 = nI (tP T) ∧ f 2 = nI (tE T) ∧ f 3 = nI (tY T) ∧ f 4 = tS T ∧ f 5 = nI (tD T) ∧ f 6 = nI (tR T) ∧ f 7 = tZ T) ∧
  (∀ p, p < 6 → f (8 + 3 * p) = nI (tA T 0 p) ∧ f (8 + 3 * p + 1) = nI (tA T 1 p) ∧ f (8 + 3 * p + 2) = nI (tA T 2 p)) ∧
  (∀ d, d < 10 → f (26 + 5 * d) = nI (tA T 3 d) ∧ f (26 + 5 * d + 1) = nI (tA T 4 d) ∧ f (26 + 5 * d + 2) = nI (tA T 5 d) ∧ f (26 + 5 * d + 3) = nE (tN T d) ∧ f (26 + 5 * d + 4) = nI (tA T 7 d)) ∧
  (∀ k, k < 36 → f (76 + k) = nI (tA T 8 k)) ∧
  (∀ r, r < 6 → f (112 + 4 * r) = nI (tA T 9 r) ∧ f (112 + 4 * r + 1) = nI (tA T 10 r) ∧ f (112 + 4 * r + 2) = nI (tA T 11 r) ∧ f (112 + 4 * r + 3) = nI (tA T 12 r))
/-- a town as it can be -/
def Inv (T : Tw) : Prop :=
  (tP T ≤ 6 ∧ tD T ≤ 10 ∧ 1 ≤ tE T ∧ tE T ≤ 16 ∧ tY T ≤ tE T ∧ tR T ≤ 6) ∧
  (∀ p, p < tP T → (1 ≤ tA T 0 p ∧ tA T 0 p ≤ 5) ∧ (1 ≤ tA T 1 p ∧ tA T 1 p ≤ 9) ∧ (1 ≤ tA T 2 p ∧ tA T 2 p ≤ 9)) ∧
  (∀ d, d < tD T → tA T 3 d < tP T ∧ tA T 4 d ≤ 15 ∧ (1 ≤ tA T 5 d ∧ tA T 5 d ≤ 9) ∧ tA T 7 d ≤ 4 ∧ (∀ n, tN T d = some n → n < d) ∧ (tA T 7 d = 1 → ∀ n, tN T d = some n → tA T 7 n = 1)) ∧
  (∀ k, k < 36 → tA T 8 k ≤ 99 ∧ (tP T ≤ k / 6 ∨ tP T ≤ k % 6 → tA T 8 k = 0)) ∧
  (∀ r, r < tR T → (1 ≤ tA T 9 r ∧ tA T 9 r ≤ 9) ∧ tA T 10 r ≤ 15 ∧ tA T 11 r ≤ 31 ∧ tA T 12 r ≤ 1)
/-! ints -/
theorem nN_le {a b : Nat} (ha : a < 2 ^ 31) (hb : b < 2 ^ 31) : (nI a ≤ nI b) ↔ a ≤ b := by
  rw [Int32.le_iff_toInt_le, nI_toInt ha, nI_toInt hb]
  omega
theorem nN_lt {a b : Nat} (ha : a < 2 ^ 31) (hb : b < 2 ^ 31) : (nI a < nI b) ↔ a < b := by
  rw [Int32.lt_iff_toInt_lt, nI_toInt ha, nI_toInt hb]
  omega
theorem nN_eq {a b : Nat} (ha : a < 2 ^ 31) (hb : b < 2 ^ 31) : (nI a = nI b) ↔ a = b := by
  constructor
  · intro h
    have := congrArg Int32.toInt h
    rw [nI_toInt ha, nI_toInt hb] at this
    omega
  · intro h; rw [h]
theorem nN_neg {a : Nat} (ha : a < 2 ^ 31) : ¬ nI a < 0 := by
  rw [show (0 : Int32) = nI 0 from rfl, nN_lt ha (by decide)]
  omega
theorem nE_neg {n : Option Nat} (h : ∀ k, n = some k → k < 2 ^ 31) : (nE n < 0) ↔ n = none := by
  cases n with
  | none => simp only [nE]; decide
  | some k =>
    simp only [nE]
    constructor
    · intro h2; exact absurd h2 (nN_neg (h k rfl))
    · intro h2; cases h2
theorem ldC_n {σ : SS} {j i : Nat} (h : i < lenC j) (hi : i < 2 ^ 31) : ldC σ j (nI i) = some (σ.2.1 j i) := by
  unfold ldC
  rw [nI_clamp hi, if_neg]
  rintro (h2 | h2)
  · exact nN_neg hi h2
  · omega
theorem stC_n {σ : SS} {j i : Nat} {x : Int32} (h : i < lenC j) (hi : i < 2 ^ 31) : stC σ j (nI i) x = some (sA σ j (upd (σ.2.1 j) i x)) := by
  unfold stC
  rw [nI_clamp hi, if_neg]
  rintro (h2 | h2)
  · exact nN_neg hi h2
  · omega
theorem ldM_n {μ : MS} {j i : Nat} (h : i < lenM j) (hi : i < 2 ^ 31) : ldM μ j (nI i) = some (μ.2 j i) := by
  unfold ldM
  rw [nI_clamp hi, if_neg]
  rintro (h2 | h2)
  · exact nN_neg hi h2
  · omega
theorem stM_n {μ : MS} {j i : Nat} {x : Int32} (h : i < lenM j) (hi : i < 2 ^ 31) : stM μ j (nI i) x = some (setA μ j (upd (μ.2 j) i x)) := by
  unfold stM
  rw [nI_clamp hi, if_neg]
  rintro (h2 | h2)
  · exact nN_neg hi h2
  · omega
theorem nN_add (a b : Nat) : nI a + nI b = nI (a + b) := nI_add a b
theorem nN_mul (a b : Nat) : nI a * nI b = nI (a * b) := (Int32.ofNat_mul a b).symm
theorem nN_sub {a b : Nat} (h : b ≤ a) : nI a - nI b = nI (a - b) := by
  have : nI a = nI (a - b) + nI b := by rw [nN_add, Nat.sub_add_cancel h]
  rw [this, Int32.add_sub_cancel]
theorem i64_le (a b : Int32) : (a.toInt64 ≤ b.toInt64) ↔ a ≤ b := by
  rw [Int64.le_iff_toInt_le, Int32.le_iff_toInt_le, Int32.toInt_toInt64, Int32.toInt_toInt64]
theorem i64_lt (a b : Int32) : (a.toInt64 < b.toInt64) ↔ a < b := by
  rw [Int64.lt_iff_toInt_lt, Int32.lt_iff_toInt_lt, Int32.toInt_toInt64, Int32.toInt_toInt64]
theorem m_in_eq (a lo hi : Int32) : m_in a.toInt64 lo.toInt64 hi.toInt64 = some (decide (¬ a < lo ∧ ¬ hi < a)) := by
  unfold m_in
  simp only [lg_cmp_lt, lg_cmp_gt, i64_lt]
  by_cases h1 : a < lo
  · simp [h1]
  · by_cases h2 : hi < a
    · simp [h1, h2]
    · simp [h1, h2]
theorem f_in_eq (a lo hi : Int32) : f0_isIn a lo hi = some (decide (¬ a < lo ∧ ¬ hi < a)) := by
  unfold f0_isIn
  by_cases h1 : a < lo
  · simp [h1]
  · by_cases h2 : hi < a
    · simp [h1, h2]
    · simp [h1, h2]
/-- an int between two numbers is a number -/
theorem in_num {a : Int32} {lo hi : Nat} (h1 : lo < 2 ^ 31) (h2 : hi < 2 ^ 31) (h : ¬ a < nI lo ∧ ¬ nI hi < a) : ∃ n : Nat, lo ≤ n ∧ n ≤ hi ∧ a = nI n := by
  obtain ⟨ha, hb⟩ := h
  rw [Int32.lt_iff_toInt_lt, nI_toInt h1] at ha
  rw [Int32.lt_iff_toInt_lt, nI_toInt h2] at hb
  refine ⟨a.toInt.toNat, by omega, by omega, ?_⟩
  apply Int32.toInt_inj.mp
  rw [nI_toInt (by omega)]
  omega
/-- what lies between two numbers, both programs asking -/
theorem in_both (a : Int32) (lo hi : Nat) (h1 : lo < 2 ^ 31) (h2 : hi < 2 ^ 31) : (∃ n : Nat, lo ≤ n ∧ n ≤ hi ∧ a = nI n ∧ f0_isIn a (nI lo) (nI hi) = some true ∧ m_in a.toInt64 (nI lo).toInt64 (nI hi).toInt64 = some true) ∨ (f0_isIn a (nI lo) (nI hi) = some false ∧ m_in a.toInt64 (nI lo).toInt64 (nI hi).toInt64 = some false) := by
  rw [m_in_eq, f_in_eq]
  by_cases h : ¬ a < nI lo ∧ ¬ nI hi < a
  · obtain ⟨n, a1, a2, a3⟩ := in_num h1 h2 h
    exact Or.inl ⟨n, a1, a2, a3, by rw [decide_eq_true h], by rw [decide_eq_true h]⟩
  · exact Or.inr ⟨by rw [decide_eq_false h], by rw [decide_eq_false h]⟩
/-- below a number that may be 0 -/
theorem in_below (a : Int32) (n : Nat) (hn : n < 2 ^ 31) : (∃ k : Nat, k < n ∧ a = nI k ∧ f0_isIn a (0 : Int32) (nI n - (1 : Int32)) = some true ∧ m_in a.toInt64 (0 : Int64) (nI n - (1 : Int32)).toInt64 = some true) ∨ (f0_isIn a (0 : Int32) (nI n - (1 : Int32)) = some false ∧ m_in a.toInt64 (0 : Int64) (nI n - (1 : Int32)).toInt64 = some false) := by
  rw [show (0 : Int64) = (nI 0).toInt64 from rfl, show (0 : Int32) = nI 0 from rfl]
  by_cases h0 : n = 0
  · subst h0
    right
    have e : nI 0 - (1 : Int32) = -1 := by decide
    rw [m_in_eq, f_in_eq, e]
    have h : ¬ (¬ a < nI 0 ∧ ¬ (-1 : Int32) < a) := by
      rw [Int32.lt_iff_toInt_lt, Int32.lt_iff_toInt_lt, nI_toInt (by decide)]
      have : (-1 : Int32).toInt = -1 := by decide
      rw [this]
      omega
    exact ⟨by rw [decide_eq_false h], by rw [decide_eq_false h]⟩
  · have e : nI n - (1 : Int32) = nI (n - 1) := by
      rw [show (1 : Int32) = nI 1 from rfl, nN_sub (by omega)]
    rw [e]
    rcases in_both a 0 (n - 1) (by decide) (by omega) with ⟨k, -, h2, h3, h4, h5⟩ | ⟨h4, h5⟩
    · exact Or.inl ⟨k, by omega, h3, h4, h5⟩
    · exact Or.inr ⟨h4, h5⟩
/-- somebody, or nobody: both programs asking -/
theorem isP_both {T : Tw} {σ : SS} {μ : MS} (hC : simC T 0 σ) (hM : simM T (μ.2 0)) (hI : Inv T) (a : Int32) : (∃ p : Nat, p < tP T ∧ a = nI p ∧ f0_isPerson σ a = some true ∧ m_isPerson μ a = some true) ∨ (f0_isPerson σ a = some false ∧ m_isPerson μ a = some false) := by
  have hp : tP T ≤ 6 := hI.1.1
  have e1 : σ.1 0 = nI (tP T) := hC.1.1
  have e2 : ldM μ 0 (0 : Int32) = some (nI (tP T)) := by
    rw [show (0 : Int32) = nI 0 from rfl, ldM_n (by decide) (by decide), hM.1.1]
  unfold f0_isPerson m_isPerson
  rw [e1, e2]
  simp only [Option.bind_some]
  rcases in_below a (tP T) (by omega) with ⟨k, h1, h2, h3, h4⟩ | ⟨h3, h4⟩
  · exact Or.inl ⟨k, h1, h2, by rw [h3]; rfl, by rw [h4]; rfl⟩
  · exact Or.inr ⟨by rw [h3]; rfl, by rw [h4]; rfl⟩
theorem isD_both {T : Tw} {σ : SS} {μ : MS} (hC : simC T 0 σ) (hM : simM T (μ.2 0)) (hI : Inv T) (a : Int32) : (∃ p : Nat, p < tD T ∧ a = nI p ∧ f0_isDeed σ a = some true ∧ m_isDeed μ a = some true) ∨ (f0_isDeed σ a = some false ∧ m_isDeed μ a = some false) := by
  have hp : tD T ≤ 10 := hI.1.2.1
  have e1 : σ.1 1 = nI (tD T) := hC.1.2.1
  have e2 : ldM μ 0 (5 : Int32) = some (nI (tD T)) := by
    rw [show (5 : Int32) = nI 5 from rfl, ldM_n (by decide) (by decide), hM.1.2.2.2.2.1]
  unfold f0_isDeed m_isDeed
  rw [e1, e2]
  simp only [Option.bind_some]
  rcases in_below a (tD T) (by omega) with ⟨k, h1, h2, h3, h4⟩ | ⟨h3, h4⟩
  · exact Or.inl ⟨k, h1, h2, by rw [h3]; rfl, by rw [h4]; rfl⟩
  · exact Or.inr ⟨by rw [h3]; rfl, by rw [h4]; rfl⟩
