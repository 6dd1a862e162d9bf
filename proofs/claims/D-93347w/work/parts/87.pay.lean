/-! PLAIN LAW: payments -/
set_option maxRecDepth 100000
def bitN (s p : Nat) : Bool := decide (s / 2 ^ p % 2 = 1)
def wo (s p : Nat) : Nat := if bitN s p = true then s - 2 ^ p else s
def maxP (t : Nat → Nat) (s : Nat) : Nat → Nat
  | 0 => 0
  | p + 1 => if bitN s p = true then (if t (wo s p) ≤ maxP t s p then maxP t s p else t (wo s p)) else maxP t s p
def sumP (g : Nat → Int32) (s : Nat) : Nat → Int32
  | 0 => 0
  | p + 1 => if bitN s p = true then sumP g s p + g p else sumP g s p
def ptS (g : Nat → Int32) (t : Nat → Nat) (s : Nat) : Nat := maxP t s 6 + (if s ≠ 0 ∧ sumP g s 6 = 0 then 1 else 0)
/-- into how many parts sets below a number part -/
def tb (g : Nat → Int32) : Nat → Nat → Nat
  | 0 => fun _ => 0
  | s + 1 => fun i => if i = s then ptS g (tb g s) s else tb g s i
theorem wo_tbl : (List.range 64).all (fun s => (List.range 6).all (fun p => decide (nI s &&& (((1 : Int32) <<< (nI p &&& 31)) ^^^ (-1 : Int32)) = nI (wo s p) ∧ ((nI s &&& ((1 : Int32) <<< (nI p &&& 31)) = 0) ↔ bitN s p = false) ∧ (bitN s p = true → wo s p < s)))) = true := by decide +kernel
theorem wo_facts {s p : Nat} (hs : s < 64) (hp : p < 6) : nI s &&& (((1 : Int32) <<< (nI p &&& 31)) ^^^ (-1 : Int32)) = nI (wo s p) ∧ ((nI s &&& ((1 : Int32) <<< (nI p &&& 31)) = 0) ↔ bitN s p = false) ∧ (bitN s p = true → wo s p < s) := of_decide_eq_true (List.all_eq_true.mp (List.all_eq_true.mp wo_tbl s (List.mem_range.mpr hs)) p (List.mem_range.mpr hp))
theorem maxP_le {t : Nat → Nat} (ht : ∀ i, t i ≤ i) {s : Nat} (hs : s < 64) : ∀ p, p ≤ 6 → maxP t s p ≤ s - 1 := by
  intro p
  induction p with
  | zero => intro _; exact Nat.zero_le _
  | succ p ih =>
    intro hp
    have h1 := ih (by omega)
    obtain ⟨-, -, h2⟩ := wo_facts hs (p := p) (by omega)
    show (if bitN s p = true then (if t (wo s p) ≤ maxP t s p then maxP t s p else t (wo s p)) else maxP t s p) ≤ s - 1
    split
    · next hb =>
      have h3 := h2 hb
      have h4 := ht (wo s p)
      split <;> omega
    · exact h1
theorem tb_le (g : Nat → Int32) : ∀ s, s ≤ 64 → ∀ i, tb g s i ≤ i := by
  intro s
  induction s with
  | zero => intro _ i; exact Nat.zero_le _
  | succ s ih =>
    intro hs i
    show (if i = s then ptS g (tb g s) s else tb g s i) ≤ i
    split
    · next e =>
      subst e
      have := maxP_le (ih (by omega)) (s := i) (by omega) 6 (by decide)
      unfold ptS
      split <;> omega
    · exact ih (by omega) i
theorem tb_lt {g : Nat → Int32} {s i : Nat} (h : i < s) : tb g (s + 1) i = tb g s i := if_neg (by omega)
theorem tb_at (g : Nat → Int32) (s : Nat) : tb g (s + 1) s = ptS g (tb g s) s := if_pos rfl
/-! the model -/
section
variable {T : Tw} {μ0 : MS}
/-- nets and parts alone -/
def GN (μ μ' : MS) : Prop := μ'.1 = μ.1 ∧ ∀ j, j ≠ 4 → j ≠ 5 → μ'.2 j = μ.2 j
theorem GN.rf (μ : MS) : GN μ μ := ⟨rfl, fun _ _ _ => rfl⟩
theorem GN.tr {a b c : MS} (h : GN a b) (g : GN b c) : GN a c := ⟨g.1.trans h.1, fun j h1 h2 => (g.2 j h1 h2).trans (h.2 j h1 h2)⟩
theorem GN_4 (μ : MS) (f : Nat → Int32) : GN μ (setA μ 4 f) := ⟨rfl, fun j h1 _ => setA_o _ _ _ h1⟩
theorem GN_5 (μ : MS) (f : Nat → Int32) : GN μ (setA μ 5 f) := ⟨rfl, fun j _ h2 => setA_o _ _ _ h2⟩
theorem pay_26 (hnet : ∀ μ, GN μ0 μ → ∀ p, p < 6 → m_netOf 1000 μ (nI p) = some (netI T p 6)) (K : MS → Bool → Int32 → Option (Int32 × MS)) {s : Nat} (hs : s < 64) : ∀ (m p fuel : Nat) (μ : MS), GN μ0 μ → p + m = 6 → m < fuel → (∀ i, i < s → μ.2 5 i = nI (tb (fun p => netI T p 6) s i)) → μ.2 4 s = sumP (fun p => netI T p 6) s p → μ.2 5 s = nI (maxP (tb (fun p => netI T p 6) s) s p) → ∃ μ', m_payments_L26 1000 K fuel μ false (nI s) (nI p) = K μ' false (nI (s + 1)) ∧ GN μ0 μ' ∧ ∀ i, i < s + 1 → μ'.2 5 i = nI (tb (fun p => netI T p 6) (s + 1) i) := by
  have htb := tb_le (fun p => netI T p 6) s (by omega)
  intro m
  induction m with
  | zero =>
    intro p fuel μ hG h1 h2 hi h4 h5
    obtain ⟨n, rfl⟩ : ∃ n, fuel = n + 1 := ⟨fuel - 1, by omega⟩
    have hp6 : p = 6 := by omega
    subst hp6
    have hmx := maxP_le htb hs 6 (Nat.le_refl _)
    have hfin : ∀ μ', (∀ v, v = ptS (fun p => netI T p 6) (tb (fun p => netI T p 6) s) s → μ' = setA μ 5 (upd (μ.2 5) s (nI v))) → GN μ0 μ' ∧ ∀ i, i < s + 1 → μ'.2 5 i = nI (tb (fun p => netI T p 6) (s + 1) i) := fun μ' h => by
      have e := h _ rfl
      subst e
      refine ⟨hG.tr (GN_5 _ _), fun i hi' => ?_⟩
      rw [setA_at]
      by_cases e : i = s
      · rw [e, upd_at, tb_at]
      · rw [upd_ne e, tb_lt (by omega)]; exact hi i (by omega)
    refine ⟨setA μ 5 (upd (μ.2 5) s (nI (ptS (fun p => netI T p 6) (tb (fun p => netI T p 6) s) s))), ?_, hfin _ (fun v hv => by rw [hv])⟩
    show (if nI 6 ≤ nI 6 then _ else _) = _
    rw [if_pos (by decide), ldM_n (by show s < 64; exact hs) (by omega), h5, Option.bind_some, nI_1]
    unfold ptS
    by_cases h0 : s = 0
    · rw [if_pos (show nI s = 0 by rw [h0]; rfl), if_neg (fun q => q.1 h0), show nI (maxP (tb (fun p => netI T p 6) s) s 6) + (0 : Int32) = nI (maxP (tb (fun p => netI T p 6) s) s 6 + 0) from nN_add _ 0, stM_n (by show s < 64; exact hs) (by omega), Option.bind_some]
    · rw [if_neg (fun q => h0 ((n0 (by omega)).mp q)), ldM_n (by show s < 64; exact hs) (by omega), h4, Option.bind_some]
      by_cases hz : sumP (fun p => netI T p 6) s 6 = 0
      · rw [if_pos hz, if_pos ⟨h0, hz⟩, show nI (maxP (tb (fun p => netI T p 6) s) s 6) + (1 : Int32) = nI (maxP (tb (fun p => netI T p 6) s) s 6 + 1) from nI_1 _, stM_n (by show s < 64; exact hs) (by omega), Option.bind_some]
      · rw [if_neg hz, if_neg (fun q => hz q.2), show nI (maxP (tb (fun p => netI T p 6) s) s 6) + (0 : Int32) = nI (maxP (tb (fun p => netI T p 6) s) s 6 + 0) from nN_add _ 0, stM_n (by show s < 64; exact hs) (by omega), Option.bind_some]
  | succ m ih =>
    intro p fuel μ hG h1 h2 hi h4 h5
    obtain ⟨n, rfl⟩ : ∃ n, fuel = n + 1 := ⟨fuel - 1, by omega⟩
    obtain ⟨w1, w2, w3⟩ := wo_facts hs (p := p) (by omega)
    have hmx := maxP_le htb hs p (by omega)
    have hsum : sumP (fun p => netI T p 6) s (p + 1) = if bitN s p = true then sumP (fun p => netI T p 6) s p + netI T p 6 else sumP (fun p => netI T p 6) s p := rfl
    have hmax : maxP (tb (fun p => netI T p 6) s) s (p + 1) = if bitN s p = true then (if tb (fun p => netI T p 6) s (wo s p) ≤ maxP (tb (fun p => netI T p 6) s) s p then maxP (tb (fun p => netI T p 6) s) s p else tb (fun p => netI T p 6) s (wo s p)) else maxP (tb (fun p => netI T p 6) s) s p := rfl
    have hld5 : ∀ (μ : MS) (i : Nat), i < 64 → ldM μ 5 (nI i) = some (μ.2 5 i) := fun μ i hi => ldM_n (by show i < 64; exact hi) (by omega)
    have hst5 : ∀ (μ : MS) (x : Int32), stM μ 5 (nI s) x = some (setA μ 5 (upd (μ.2 5) s x)) := fun μ x => stM_n (by show s < 64; exact hs) (by omega)
    have hst4 : ∀ (μ : MS) (x : Int32), stM μ 4 (nI s) x = some (setA μ 4 (upd (μ.2 4) s x)) := fun μ x => stM_n (by show s < 64; exact hs) (by omega)
    show ∃ μ', (if nI 6 ≤ nI p then _ else _) = _ ∧ _
    rw [if_neg (fun z => by have := (nN_le (by omega) (by omega)).mp z; omega), ldM_n (by show s < 64; exact hs) (by omega), h4, Option.bind_some, w1]
    by_cases hb : bitN s p = true
    · have hw := w3 hb
      rw [if_pos hb] at hsum hmax
      have hne : ¬ nI (wo s p) = nI s := fun q => by have := (nN_eq (by omega) (by omega)).mp q; omega
      have htw := htb (wo s p)
      rw [if_neg hne, hnet μ hG p (by omega), Option.bind_some]
      unfold m_payments_B63
      rw [hst4, Option.bind_some, if_neg hne]
      rw [hld5 _ _ (show wo s p < 64 by omega), hld5 _ _ hs, setA_o μ 4 _ (show 5 ≠ 4 by decide), hi _ hw, h5]
      simp only [Option.bind_some, hst5]
      rw [setA_o μ 4 _ (show 5 ≠ 4 by decide), nI_1]
      by_cases hl : tb (fun p => netI T p 6) s (wo s p) ≤ maxP (tb (fun p => netI T p 6) s) s p
      · rw [if_pos hl] at hmax
        rw [if_pos ((nN_le (by omega) (by omega)).mpr hl)]
        exact ih (p + 1) n _ ((hG.tr (GN_4 _ _)).tr (GN_5 _ _)) (by omega) (by omega) (fun i hi' => by rw [setA_at, upd_ne (by omega)]; exact hi i hi') (by rw [setA_o _ _ _ (by decide), setA_at, upd_at, hsum]) (by rw [setA_at, upd_at, hmax])
      · rw [if_neg hl] at hmax
        rw [if_neg (fun z => hl ((nN_le (by omega) (by omega)).mp z))]
        exact ih (p + 1) n _ ((hG.tr (GN_4 _ _)).tr (GN_5 _ _)) (by omega) (by omega) (fun i hi' => by rw [setA_at, upd_ne (by omega)]; exact hi i hi') (by rw [setA_o _ _ _ (by decide), setA_at, upd_at, hsum]) (by rw [setA_at, upd_at, hmax])
    · rw [if_neg hb] at hsum hmax
      have hwo : wo s p = s := if_neg hb
      rw [hwo, if_pos rfl]
      unfold m_payments_B63
      rw [hst4, Option.bind_some, if_pos rfl, hld5 _ _ hs, setA_o _ _ _ (by decide), h5, Option.bind_some, hst5, setA_o _ _ _ (by decide), Option.bind_some, nI_1]
      exact ih (p + 1) n _ ((hG.tr (GN_4 _ _)).tr (GN_5 _ _)) (by omega) (by omega) (fun i hi' => by rw [setA_at, upd_ne (by omega)]; exact hi i hi') (by rw [setA_o _ _ _ (by decide), setA_at, upd_at, Int32.add_zero, hsum]) (by rw [setA_at, upd_at, hmax])
theorem pay_4 (hnet : ∀ μ, GN μ0 μ → ∀ p, p < 6 → m_netOf 1000 μ (nI p) = some (netI T p 6)) : ∀ (m s fuel : Nat) (μ : MS), GN μ0 μ → s + m = 64 → m < fuel → (∀ i, i < s → μ.2 5 i = nI (tb (fun p => netI T p 6) s i)) → ∃ μ', m_payments_L4 1000 fuel μ false (nI s) = m_payments_L150 1000 1000 μ' (0 : Int32) (0 : Int32) ∧ GN μ0 μ' ∧ ∀ i, i < 64 → μ'.2 5 i = nI (tb (fun p => netI T p 6) 64 i) := by
  intro m
  induction m with
  | zero =>
    intro s fuel μ hG h1 h2 hi
    obtain ⟨n, rfl⟩ : ∃ n, fuel = n + 1 := ⟨fuel - 1, by omega⟩
    have hs64 : s = 64 := by omega
    subst hs64
    refine ⟨μ, ?_, hG, hi⟩
    show (if nI 64 ≤ nI 64 then _ else _) = _
    rw [if_pos (by decide)]
    rfl
  | succ m ih =>
    intro s fuel μ hG h1 h2 hi
    obtain ⟨n, rfl⟩ : ∃ n, fuel = n + 1 := ⟨fuel - 1, by omega⟩
    obtain ⟨μ1, g1, g2, g3⟩ := pay_26 hnet (m_payments_L4 1000 n) (s := s) (by omega) 6 0 1000 (setA (setA μ 4 (upd (μ.2 4) s (0 : Int32))) 5 (upd (μ.2 5) s (0 : Int32))) ((hG.tr (GN_4 _ _)).tr (GN_5 _ _)) (by omega) (by omega) (fun i hi' => by rw [setA_at, upd_ne (by omega)]; exact hi i hi') (by rw [setA_o _ _ _ (by decide), setA_at, upd_at]; rfl) (by rw [setA_at, upd_at]; rfl)
    obtain ⟨μ', z1, z2, z3⟩ := ih (s + 1) n μ1 g2 (by omega) (by omega) g3
    refine ⟨μ', ?_, z2, z3⟩
    show (if nI 64 ≤ nI s then _ else _) = _
    rw [if_neg (fun z => by have := (nN_le (by omega) (by omega)).mp z; omega), stM_n (by show s < 64; omega) (by omega), Option.bind_some, stM_n (by show s < 64; omega) (by omega), setA_o _ _ _ (by decide), Option.bind_some]
    exact g1.trans z1
end
/-- who owes or is owed, as a set -/
def bz (g : Nat → Int32) : Nat → Int32
  | 0 => 0
  | p + 1 => if g p = 0 then bz g p ||| (0 : Int32) else bz g p ||| ((1 : Int32) <<< (nI p &&& 31))
theorem bz_tbl : (List.range 6).all (fun p => (List.range 64).all (fun b => decide (b < 2 ^ p → nI b ||| ((1 : Int32) <<< (nI p &&& 31)) = nI (b + 2 ^ p)))) = true := by decide +kernel
theorem bz_num (g : Nat → Int32) : ∀ p, p ≤ 6 → ∃ b, b < 2 ^ p ∧ bz g p = nI b := by
  intro p
  induction p with
  | zero => intro _; exact ⟨0, by decide, rfl⟩
  | succ p ih =>
    intro hp
    obtain ⟨b, h1, h2⟩ := ih (by omega)
    have h3 : 2 ^ (p + 1) = 2 ^ p + 2 ^ p := by rw [Nat.pow_succ]; omega
    have h64 : 2 ^ p ≤ 2 ^ 6 := Nat.pow_le_pow_right (by decide) (by omega)
    have hb64 : b < 64 := by omega
    show ∃ b, b < 2 ^ (p + 1) ∧ (if g p = 0 then bz g p ||| (0 : Int32) else bz g p ||| ((1 : Int32) <<< (nI p &&& 31))) = nI b
    split
    · refine ⟨b, by omega, ?_⟩
      rw [Int32.or_zero, h2]
    · refine ⟨b + 2 ^ p, by omega, ?_⟩
      rw [h2]
      exact of_decide_eq_true (List.all_eq_true.mp (List.all_eq_true.mp bz_tbl p (List.mem_range.mpr (by omega))) b (List.mem_range.mpr hb64)) h1
theorem bz_out {g : Nat → Int32} {P : Nat} (h : ∀ p, P ≤ p → p < 6 → g p = 0) : ∀ n, P + n ≤ 6 → bz g (P + n) = bz g P := by
  intro n
  induction n with
  | zero => intro _; rfl
  | succ n ih =>
    intro hn
    show (if g (P + n) = 0 then bz g (P + n) ||| (0 : Int32) else _) = _
    rw [if_pos (h _ (by omega) (by omega)), Int32.or_zero]
    exact ih (by omega)
theorem net_out {T : Tw} (hI : Inv T) {p : Nat} (hp : tP T ≤ p) (hp6 : p < 6) : ∀ n, n ≤ 6 → netI T p n = 0 := by
  intro n
  induction n with
  | zero => intro _; rfl
  | succ n ih =>
    intro hn
    show netI T p n + (nI (tA T 8 (6 * n + p)) - nI (tA T 8 (6 * p + n))) = 0
    rw [(hI.2.2.2.1 (6 * n + p) (by omega)).2 (Or.inr (by omega)), (hI.2.2.2.1 (6 * p + n) (by omega)).2 (Or.inl (by omega)), ih (by omega), Int32.sub_self, Int32.add_zero]
def clr (s : Nat) : Nat := s &&& (s - 1)
def pcF : Nat → Nat → Nat
  | 0, _ => 0
  | n + 1, s => if s = 0 then 0 else 1 + pcF n (clr s)
theorem pc_tbl : (List.range 64).all (fun s => decide ((0 < s → nI s &&& (nI s - (1 : Int32)) = nI (clr s) ∧ clr s < s) ∧ fJ8_bitCount (nI s) = some (nI (pcF 63 s)))) = true := by decide +kernel
theorem pc_facts {s : Nat} (hs : s < 64) : (0 < s → nI s &&& (nI s - (1 : Int32)) = nI (clr s) ∧ clr s < s) ∧ fJ8_bitCount (nI s) = some (nI (pcF 63 s)) := of_decide_eq_true (List.all_eq_true.mp pc_tbl s (List.mem_range.mpr hs))
theorem pay_184 {μ : MS} {B : Nat} (hB : B < 64) : ∀ (n s fuel : Nat) (x : Int32), s ≤ n → s < 64 → n < fuel → m_payments_L184 1000 fuel μ (nI B) x (nI s) = some (x + nI (pcF n s) - μ.2 5 B, μ) := by
  intro n
  induction n with
  | zero =>
    intro s fuel x h1 h2 h3
    obtain ⟨m, rfl⟩ : ∃ n, fuel = n + 1 := ⟨fuel - 1, by omega⟩
    have h0 : s = 0 := by omega
    subst h0
    show (if nI 0 = 0 then _ else _) = _
    rw [if_pos (show nI 0 = (0 : Int32) from rfl), ldM_n (by show B < 64; exact hB) (by omega), Option.bind_some]
    show some (x - μ.2 5 B, μ) = some (x + 0 - μ.2 5 B, μ)
    rw [Int32.add_zero]
  | succ n ih =>
    intro s fuel x h1 h2 h3
    obtain ⟨m, rfl⟩ : ∃ n, fuel = n + 1 := ⟨fuel - 1, by omega⟩
    show (if nI s = 0 then _ else _) = _
    have hpc : pcF (n + 1) s = if s = 0 then 0 else 1 + pcF n (clr s) := rfl
    by_cases h0 : s = 0
    · rw [if_pos (show nI s = 0 by rw [h0]; rfl), ldM_n (by show B < 64; exact hB) (by omega), Option.bind_some, hpc, if_pos h0]
      show some (x - μ.2 5 B, μ) = some (x + 0 - μ.2 5 B, μ)
      rw [Int32.add_zero]
    · obtain ⟨c1, c2⟩ := (pc_facts h2).1 (by omega)
      rw [if_neg (fun q => h0 ((n0 (by omega)).mp q)), c1, ih (clr s) m (x + 1) (by omega) (by omega) (by omega), hpc, if_neg h0, show nI (1 + pcF n (clr s)) = 1 + nI (pcF n (clr s)) from (nN_add 1 _).symm, Int32.add_assoc]
theorem pay_150 {T : Tw} {μ : MS} (hnet : ∀ p, p < 6 → m_netOf 1000 μ (nI p) = some (netI T p 6)) : ∀ (m p fuel : Nat), p + m = 6 → m < fuel → m_payments_L150 1000 fuel μ (bz (fun p => netI T p 6) p) (nI p) = m_payments_L184 1000 1000 μ (bz (fun p => netI T p 6) 6) (0 : Int32) (bz (fun p => netI T p 6) 6) := by
  intro m
  induction m with
  | zero =>
    intro p fuel h1 h2
    obtain ⟨n, rfl⟩ : ∃ n, fuel = n + 1 := ⟨fuel - 1, by omega⟩
    show (if nI 6 ≤ nI p then _ else _) = _
    rw [if_pos ((nN_le (by omega) (by omega)).mpr (by omega)), show p = 6 by omega]
  | succ m ih =>
    intro p fuel h1 h2
    obtain ⟨n, rfl⟩ : ∃ n, fuel = n + 1 := ⟨fuel - 1, by omega⟩
    have hs : bz (fun p => netI T p 6) (p + 1) = if netI T p 6 = 0 then bz (fun p => netI T p 6) p ||| (0 : Int32) else bz (fun p => netI T p 6) p ||| ((1 : Int32) <<< (nI p &&& 31)) := rfl
    have hn := ih (p + 1) n (by omega) (by omega)
    show (if nI 6 ≤ nI p then _ else _) = _
    rw [if_neg (fun z => by have := (nN_le (by omega) (by omega)).mp z; omega), hnet p (by omega), Option.bind_some, nI_1, ← hn, hs]
    split <;> rfl
/-! the component -/
section
variable {T : Tw} {σ0 : SS}
/-- parts alone -/
def GC (σ σ' : SS) : Prop := σ'.1 = σ.1 ∧ σ'.2.2 = σ.2.2 ∧ ∀ j, j ≠ 41 → σ'.2.1 j = σ.2.1 j
theorem GC.tr {a b c : SS} (h : GC a b) (g : GC b c) : GC a c := ⟨g.1.trans h.1, g.2.1.trans h.2.1, fun j hj => (g.2.2 j hj).trans (h.2.2 j hj)⟩
theorem GC_41 (σ : SS) (f : Nat → Int32) : GC σ (sA σ 41 f) := ⟨rfl, rfl, fun j hj => sA_ne hj⟩
theorem pay_55 (hnet : ∀ σ, GC σ0 σ → ∀ p, p < 6 → f0_netOf 1000 σ (nI p) = some (netI T p 6)) (K : SS → Int32 → Int32 → Option (Int32 × SS)) {s B : Nat} (hs : s < 64) : ∀ (m p fuel : Nat) (x3 x4 : Int32) (σ : SS), GC σ0 σ → p + m = 6 → m < fuel → ∃ v, f0_payments_L55 1000 K fuel σ (nI B) (nI s) x3 x4 (nI p) = K (sA σ 41 (upd (σ.2.1 41) s v)) (nI B) (nI (s + 1)) ∧ (nI s &&& nI B = nI s → s ≠ 0 → (∀ i, i < s → nI i &&& nI B = nI i → σ.2.1 41 i = nI (tb (fun p => netI T p 6) s i)) → x3 = sumP (fun p => netI T p 6) s p → x4 = nI (maxP (tb (fun p => netI T p 6) s) s p) → v = nI (ptS (fun p => netI T p 6) (tb (fun p => netI T p 6) s) s)) := by
  have htb := tb_le (fun p => netI T p 6) s (by omega)
  intro m
  induction m with
  | zero =>
    intro p fuel x3 x4 σ hG h1 h2
    obtain ⟨n, rfl⟩ : ∃ n, fuel = n + 1 := ⟨fuel - 1, by omega⟩
    have hp6 : p = 6 := by omega
    subst hp6
    have hmx := maxP_le htb hs 6 (Nat.le_refl _)
    have hst : ∀ x, stC σ 41 (nI s) x = some (sA σ 41 (upd (σ.2.1 41) s x)) := fun x => stC_n (by show s < 64; exact hs) (by omega)
    show ∃ v, (if nI 6 ≤ nI 6 then _ else _) = _ ∧ _
    rw [if_pos (by decide)]
    simp only [hst, Option.bind_some, nI_1]
    unfold ptS
    by_cases h3 : x3 = 0
    · rw [if_pos h3]
      by_cases hz : nI s &&& nI B = 0
      · rw [if_pos hz]
        refine ⟨x4 + 0, rfl, fun g1 g2 _ g3 g4 => ?_⟩
        rw [g1] at hz
        exact absurd ((n0 (by omega)).mp hz) g2
      · rw [if_neg hz]
        refine ⟨x4 + 1, rfl, fun g1 g2 _ g3 g4 => ?_⟩
        rw [if_pos ⟨g2, by rw [← g3]; exact h3⟩, g4]
        exact nI_1 _
    · rw [if_neg h3]
      refine ⟨x4 + 0, rfl, fun g1 g2 _ g3 g4 => ?_⟩
      rw [if_neg (fun q => h3 (by rw [g3]; exact q.2)), g4]
      exact nN_add _ 0
  | succ m ih =>
    intro p fuel x3 x4 σ hG h1 h2
    obtain ⟨n, rfl⟩ : ∃ n, fuel = n + 1 := ⟨fuel - 1, by omega⟩
    obtain ⟨w1, w2, w3⟩ := wo_facts hs (p := p) (by omega)
    have hmx := maxP_le htb hs p (by omega)
    have htw := htb (wo s p)
    have hsum : sumP (fun p => netI T p 6) s (p + 1) = if bitN s p = true then sumP (fun p => netI T p 6) s p + netI T p 6 else sumP (fun p => netI T p 6) s p := rfl
    have hmax : maxP (tb (fun p => netI T p 6) s) s (p + 1) = if bitN s p = true then (if tb (fun p => netI T p 6) s (wo s p) ≤ maxP (tb (fun p => netI T p 6) s) s p then maxP (tb (fun p => netI T p 6) s) s p else tb (fun p => netI T p 6) s (wo s p)) else maxP (tb (fun p => netI T p 6) s) s p := rfl
    have hwl : wo s p ≤ s := by
      unfold wo
      split
      · exact Nat.sub_le _ _
      · exact Nat.le_refl _
    show ∃ v, (if nI 6 ≤ nI p then _ else _) = _ ∧ _
    rw [if_neg (fun z => by have := (nN_le (by omega) (by omega)).mp z; omega)]
    by_cases hz : (nI s &&& nI B) &&& ((1 : Int32) <<< (nI p &&& 31)) = 0
    · rw [if_pos hz, nI_1]
      obtain ⟨v, z1, z2⟩ := ih (p + 1) n x3 x4 σ hG (by omega) (by omega)
      refine ⟨v, z1, fun g1 g2 gi g3 g4 => ?_⟩
      rw [g1] at hz
      have hb := w2.mp hz
      have hb' : ¬ bitN s p = true := by rw [hb]; decide
      rw [if_neg hb'] at hsum hmax
      exact z2 g1 g2 gi (by rw [hsum]; exact g3) (by rw [hmax]; exact g4)
    · rw [if_neg hz, hnet σ hG p (by omega), Option.bind_some, w1, ldC_n (by show wo s p < 64; omega) (by omega), Option.bind_some, nI_1]
      obtain ⟨v, z1, z2⟩ := ih (p + 1) n (x3 + netI T p 6) (if x4 < σ.2.1 41 (wo s p) then σ.2.1 41 (wo s p) else x4) σ hG (by omega) (by omega)
      refine ⟨v, z1, fun g1 g2 gi g3 g4 => ?_⟩
      rw [g1] at hz
      have hb : bitN s p = true := by
        cases hx : bitN s p with
        | true => rfl
        | false => exact absurd (w2.mpr hx) hz
      have hw := w3 hb
      rw [if_pos hb] at hsum hmax
      have hsub : nI (wo s p) &&& nI B = nI (wo s p) := by
        rw [← w1, Int32.and_assoc, Int32.and_comm _ (nI B), ← Int32.and_assoc, g1]
      have h41 := gi _ hw hsub
      refine z2 g1 g2 gi (by rw [hsum, g3]) ?_
      rw [h41, g4, hmax]
      by_cases hl : tb (fun p => netI T p 6) s (wo s p) ≤ maxP (tb (fun p => netI T p 6) s) s p
      · rw [if_pos hl, if_neg (fun z => by have := (nN_lt (by omega) (by omega)).mp z; omega)]
      · rw [if_neg hl, if_pos ((nN_lt (by omega) (by omega)).mpr (by omega))]
theorem pay_41 (hnet : ∀ σ, GC σ0 σ → ∀ p, p < 6 → f0_netOf 1000 σ (nI p) = some (netI T p 6)) {B : Nat} (hB : B < 64) : ∀ (m s fuel : Nat) (σ : SS), GC σ0 σ → 1 ≤ s → s + m = 64 → m < fuel → (∀ i, i < s → nI i &&& nI B = nI i → σ.2.1 41 i = nI (tb (fun p => netI T p 6) s i)) → σ.2.1 41 0 = 0 → ∃ σ', f0_payments_L41 1000 fuel σ (nI B) (nI s) = some (nI (pcF 63 B) - nI (tb (fun p => netI T p 6) 64 B), σ') ∧ GC σ0 σ' ∧ σ'.2.1 41 0 = 0 := by
  intro m
  induction m with
  | zero =>
    intro s fuel σ hG h0 h1 h2 hi hz
    obtain ⟨n, rfl⟩ : ∃ n, fuel = n + 1 := ⟨fuel - 1, by omega⟩
    have hs64 : s = 64 := by omega
    subst hs64
    refine ⟨σ, ?_, hG, hz⟩
    show (if nI 63 < nI 64 then _ else _) = _
    rw [if_pos (by decide), (pc_facts hB).2, Option.bind_some, ldC_n (by show B < 64; exact hB) (by omega), hi B hB (Int32.and_self), Option.bind_some]
  | succ m ih =>
    intro s fuel σ hG h0 h1 h2 hi hz
    obtain ⟨n, rfl⟩ : ∃ n, fuel = n + 1 := ⟨fuel - 1, by omega⟩
    obtain ⟨v, g1, g2⟩ := pay_55 hnet (f0_payments_L41 1000 n) (s := s) (B := B) (by omega) 6 0 1000 (0 : Int32) (0 : Int32) σ hG (by omega) (by omega)
    obtain ⟨σ', z1, z2, z3⟩ := ih (s + 1) n (sA σ 41 (upd (σ.2.1 41) s v)) (hG.tr (GC_41 _ _)) (by omega) (by omega) (by omega) (fun i hi' hsub => by
      rw [sA_at]
      by_cases e : i = s
      · subst e
        rw [upd_at, tb_at]
        exact g2 hsub (by omega) hi rfl rfl
      · rw [upd_ne e, tb_lt (by omega)]
        exact hi i (by omega) hsub) (by rw [sA_at, upd_ne (by omega)]; exact hz)
    refine ⟨σ', ?_, z2, z3⟩
    show (if nI 63 < nI s then _ else _) = _
    rw [if_neg (fun z => by have := (nN_lt (by omega) (by omega)).mp z; omega)]
    exact g1.trans z1
theorem pay_4C (hnet : ∀ σ, GC σ0 σ → ∀ p, p < 6 → f0_netOf 1000 σ (nI p) = some (netI T p 6)) {σ : SS} (hG : GC σ0 σ) (hP : σ.1 0 = nI (tP T)) (hp6 : tP T ≤ 6) : ∀ (m p fuel : Nat), p + m = tP T → m < fuel → f0_payments_L4 1000 fuel σ (bz (fun p => netI T p 6) p) (nI p) = f0_payments_L41 1000 1000 σ (bz (fun p => netI T p 6) (tP T)) (1 : Int32) := by
  intro m
  induction m with
  | zero =>
    intro p fuel h1 h2
    obtain ⟨n, rfl⟩ : ∃ n, fuel = n + 1 := ⟨fuel - 1, by omega⟩
    show (if σ.1 0 ≤ nI p then _ else _) = _
    rw [hP, if_pos ((nN_le (by omega) (by omega)).mpr (by omega)), show p = tP T by omega]
  | succ m ih =>
    intro p fuel h1 h2
    obtain ⟨n, rfl⟩ : ∃ n, fuel = n + 1 := ⟨fuel - 1, by omega⟩
    have hs : bz (fun p => netI T p 6) (p + 1) = if netI T p 6 = 0 then bz (fun p => netI T p 6) p ||| (0 : Int32) else bz (fun p => netI T p 6) p ||| ((1 : Int32) <<< (nI p &&& 31)) := rfl
    have hn := ih (p + 1) n (by omega) (by omega)
    show (if σ.1 0 ≤ nI p then _ else _) = _
    rw [hP, if_neg (fun z => by have := (nN_le (by omega) (by omega)).mp z; omega), hnet σ hG p (by omega), Option.bind_some, nI_1, ← hn, hs]
    split <;> rfl
end
theorem RelX_y {σ σ' : SS} {δ : DS} {μ μ' : MS} (H : RelX σ δ μ) (h1 : σ'.1 = σ.1) (h2 : ∀ j, j ≠ 41 → σ'.2.1 j = σ.2.1 j) (h3 : σ'.2.2 = σ.2.2) (hp : rPart σ') (hM : FM μ μ') : RelX σ' δ μ' := by
  obtain ⟨⟨a, b⟩, ⟨c, d, e⟩, ⟨f, g⟩, -, i⟩ := H
  refine ⟨⟨rKept_k a ⟨fun k _ => by rw [h1], fun j hj => h2 j (by omega), by rw [h3]⟩ hM.K (exA.rf δ), ?_⟩, ⟨?_, ?_, ?_⟩, ⟨?_, ?_⟩, hp, i⟩
  · intro k hk
    rw [h3]
    exact b k hk
  · obtain ⟨n, g1, g2, g3, g4⟩ := c
    exact ⟨n, g1, by rw [h1]; exact g2, by rw [hM.1 23 (by decide)]; exact g3, by rw [h2 46 (by decide), hM.2 10 (by decide)]; exact g4⟩
  · obtain ⟨n, g1, g2, g3, g4⟩ := d
    exact ⟨n, g1, by rw [h1]; exact g2, by rw [hM.1 21 (by decide)]; exact g3, by rw [h2 44 (by decide), hM.2 9 (by decide)]; exact g4⟩
  · obtain ⟨n, g1, g2, g3, g4⟩ := e
    exact ⟨n, g1, by rw [h1]; exact g2, by rw [hM.1 37 (by decide)]; exact g3, by rw [h2 45 (by decide), hM.2 17 (by decide)]; exact g4⟩
  · unfold rSheet
    rw [h3, hM.2 11 (by decide), hM.2 12 (by decide), hM.2 13 (by decide)]
    exact f
  · unfold rShelf
    rw [h3, hM.2 14 (by decide), hM.2 15 (by decide), hM.2 16 (by decide)]
    exact g
theorem pl_24 (a b c d : Int32) (σ : SS) (δ : DS) (μ : MS) (H : Rel σ δ μ) : pLaw Rel 24 a b c d σ δ μ := by
  obtain ⟨T, RS, h⟩ := H.1
  have hI := h.2.1.1
  have hp6 : tP T ≤ 6 := hI.1.1
  have hnC : ∀ σ', GC σ σ' → ∀ p, p < 6 → f0_netOf 1000 σ' (nI p) = some (netI T p 6) := fun σ' hG p hp => by
    have hC' : simC T 0 σ' := simC_cg h.1.1 (fun k hk => by rw [hG.1]) (fun j hj n hn => by rw [hG.2.2 _ (by omega)])
    exact (net_both hC' h.M hI hp).1
  have hnM : ∀ μ', GN μ μ' → ∀ p, p < 6 → m_netOf 1000 μ' (nI p) = some (netI T p 6) := fun μ' hG p hp => by
    have hM' : simM T (μ'.2 0) := by rw [hG.2 0 (by decide) (by decide)]; exact h.M
    exact (net_both h.1.1 hM' hI hp).2
  have hout := bz_out (g := fun p => netI T p 6) (P := tP T) (fun p h1 h2 => net_out hI h1 h2 6 (Nat.le_refl _)) (6 - tP T) (by omega)
  rw [show tP T + (6 - tP T) = 6 by omega] at hout
  obtain ⟨B, hB, eB⟩ := bz_num (fun p => netI T p 6) 6 (Nat.le_refl _)
  have hB64 : B < 64 := hB
  have hz := H.2.2.2.2.1
  obtain ⟨σ1, c1, c2, c3⟩ := pay_41 hnC hB64 63 1 1000 σ ⟨rfl, rfl, fun _ _ => rfl⟩ (by decide) (by decide) (by decide) (fun i hi hsub => by
    have h0 : i = 0 := by omega
    subst h0
    rw [tb_at]
    exact hz) hz
  obtain ⟨μ1, m1, m2, m3⟩ := pay_4 hnM 64 0 1000 μ (GN.rf μ) (by decide) (by decide) (fun i hi => absurd hi (by omega))
  have m150 := pay_150 (T := T) (μ := μ1) (fun p hp => hnM μ1 m2 p hp) 6 0 1000 (by decide) (by decide)
  have m184 := pay_184 (μ := μ1) hB64 63 B 1000 (0 : Int32) (by omega) hB64 (by decide)
  have hC1 : simC T 0 σ1 := simC_cg h.1.1 (fun k hk => by rw [c2.1]) (fun j hj n hn => by rw [c2.2.2 _ (by omega)])
  have hcor : cor T (tS T) RS δ σ1 μ1 := cor_up h hC1 (by rw [m2.2 0 (by decide) (by decide)]; exact h.M) hI rfl rfl rfl c2.2.1 (fun i _ _ => by rw [m2.2 0 (by decide) (by decide)])
  refine pl_0 (r := nI (pcF 63 B) - nI (tb (fun p => netI T p 6) 64 B)) (σ' := σ1) (μ' := μ1) ?_ ?_ ⟨⟨T, RS, hcor⟩, RelX_y H.2 c2.1 c2.2.2 c2.2.1 c3 ⟨fun k _ => by rw [m2.1], fun j hj => m2.2 j (by omega) (by omega)⟩⟩
  · rw [cc24]
    unfold f0_payments
    have hp4 := pay_4C (T := T) (σ0 := σ) hnC (σ := σ) ⟨rfl, rfl, fun _ _ => rfl⟩ h.1.1.1.1 hp6 (tP T) 0 1000 (by omega) (by omega)
    rw [show f0_payments_L4 1000 1000 σ (0 : Int32) (0 : Int32) = _ from hp4, ← hout, eB, show f0_payments_L41 1000 1000 σ (nI B) (1 : Int32) = _ from c1]
    rfl
  · rw [mc24]
    unfold m_payments
    rw [show m_payments_L4 1000 1000 μ false (0 : Int32) = _ from m1, show m_payments_L150 1000 1000 μ1 (0 : Int32) (0 : Int32) = _ from m150, eB, m184, m3 B hB64, Int32.zero_add]
