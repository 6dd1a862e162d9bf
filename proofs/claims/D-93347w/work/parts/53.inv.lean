/-! PLAIN LAW: what is undone leaves a town as it can be -/
set_option maxRecDepth 100000
/-- two towns alike but in how deeds are -/
def aliS (T U : Tw) : Prop := U.1 = T.1 ∧ (∀ j, j ≠ 7 → tA U j = tA T j) ∧ U.2.2 = T.2.2
theorem aliS.rf (T : Tw) : aliS T T := ⟨rfl, fun _ _ => rfl, rfl⟩
theorem aliS.tr {a b c : Tw} (h : aliS a b) (g : aliS b c) : aliS a c := ⟨g.1.trans h.1, fun j h1 => (g.2.1 j h1).trans (h.2.1 j h1), g.2.2.trans h.2.2⟩
theorem aliS_uS (T : Tw) (d v : Nat) : aliS T (uS T d v) := ⟨rfl, fun _ h => uS_row h, rfl⟩
theorem aliS_fallS (T : Tw) (d : Nat) : aliS T (fallS T d) := by
  unfold fallS
  split
  · exact aliS_uS T d 3
  · exact aliS.rf T
theorem aliS_fallF (T : Tw) (a r : Nat) : aliS T (fallF T a r) := by
  induction r with
  | zero => exact aliS.rf T
  | succ r ih => exact ih.tr (aliS_fallS _ _)
theorem aliS_undoT (T : Tw) (d : Nat) : aliS T (undoT T d) := (aliS_uS T d 2).tr (aliS_fallF _ _ _)
theorem aliS.nums {T U : Tw} (h : aliS T U) : tP U = tP T ∧ tD U = tD T ∧ tE U = tE T ∧ tY U = tY T ∧ tR U = tR T ∧ tN U = tN T ∧ tS U = tS T ∧ tZ U = tZ T := by
  obtain ⟨h1, -, h3⟩ := h
  unfold tP tD tE tY tR tN tS tZ
  rw [h1, h3]
  exact ⟨rfl, rfl, rfl, rfl, rfl, rfl, rfl, rfl⟩
/-- deeds that changed rightly leave a town as it can be -/
theorem Inv_ali {T U : Tw} (hI : Inv T) (h : aliS T U) (h7 : ∀ d, d < tD T → tA U 7 d ≤ 4) (hc : ∀ d, d < tD T → tA U 7 d = 1 → ∀ n, tN T d = some n → tA U 7 n = 1) : Inv U := by
  obtain ⟨n1, n2, n3, n4, n5, n6, n7, n8⟩ := h.nums
  obtain ⟨a, b, c, o, r⟩ := hI
  have e := h.2.1
  refine ⟨?_, fun p hp => ?_, fun d hd => ?_, fun k hk => ?_, fun k hk => ?_⟩
  · rw [n1, n2, n3, n4, n5]; exact a
  · rw [n1] at hp
    rw [e 0 (by decide), e 1 (by decide), e 2 (by decide)]
    exact b p hp
  · rw [n2] at hd
    have := c d hd
    rw [e 3 (by decide), e 4 (by decide), e 5 (by decide), n1, n6]
    exact ⟨this.1, this.2.1, this.2.2.1, h7 d hd, this.2.2.2.2.1, hc d hd⟩
  · rw [e 8 (by decide), n1]; exact o k hk
  · rw [n5] at hk
    rw [e 9 (by decide), e 10 (by decide), e 11 (by decide), e 12 (by decide)]
    exact r k hk
theorem fall_so {T : Tw} (d k : Nat) : tA (fallS T d) 7 k = if k = d ∧ falls T d = true then 3 else tA T 7 k := by
  unfold fallS
  by_cases h : falls T d = true
  · rw [if_pos h, uS_so]
    by_cases hk : k = d
    · rw [if_pos hk, if_pos ⟨hk, h⟩]
    · rw [if_neg hk, if_neg (fun q => hk q.1)]
  · rw [if_neg h, if_neg (fun q => h q.2)]
theorem undo_inv {T : Tw} (hI : Inv T) {d : Nat} : ∀ r, r ≤ tD T → (∀ k, tA T 7 k = 1 → tA (fallF (uS T d 2) 0 r) 7 k = 1 ∨ tA (fallF (uS T d 2) 0 r) 7 k = 2 ∨ tA (fallF (uS T d 2) 0 r) 7 k = 3) ∧ (∀ k, tA (fallF (uS T d 2) 0 r) 7 k = 1 → tA T 7 k = 1) ∧ ∀ k, k < r → tA (fallF (uS T d 2) 0 r) 7 k = 1 → ∀ n, tN T k = some n → tA (fallF (uS T d 2) 0 r) 7 n = 1 := by
  intro r
  induction r with
  | zero =>
    intro _
    refine ⟨fun k hk => ?_, fun k hk => ?_, fun k hk => absurd hk (Nat.not_lt_zero k)⟩
    · show tA (uS T d 2) 7 k = 1 ∨ tA (uS T d 2) 7 k = 2 ∨ tA (uS T d 2) 7 k = 3
      rw [uS_so]
      split
      · exact Or.inr (Or.inl rfl)
      · exact Or.inl hk
    · have hk : tA (uS T d 2) 7 k = 1 := hk
      rw [uS_so] at hk
      split at hk
      · cases hk
      · exact hk
  | succ r ih =>
    intro hr
    obtain ⟨i1, i2, i3⟩ := ih (by omega)
    have hN : tN (fallF (uS T d 2) 0 r) = tN T := ((aliS_uS T d 2).tr (aliS_fallF (uS T d 2) 0 r)).nums.2.2.2.2.2.1
    have es : ∀ k, tA (fallF (uS T d 2) 0 (r + 1)) 7 k = if k = r ∧ falls (fallF (uS T d 2) 0 r) r = true then 3 else tA (fallF (uS T d 2) 0 r) 7 k := fun k => by
      show tA (fallS (fallF (uS T d 2) 0 r) (0 + r)) 7 k = _
      rw [Nat.zero_add, fall_so]
    refine ⟨fun k hk => ?_, fun k hk => ?_, fun k hk h1 n hn => ?_⟩
    · rw [es]
      split
      · exact Or.inr (Or.inr rfl)
      · exact i1 k hk
    · rw [es] at hk
      split at hk
      · cases hk
      · exact i2 k hk
    · rw [es] at h1
      split at h1
      · cases h1
      · rename_i hnf
        have hTk := i2 k h1
        have hkn := (hI.2.2.1 k (by omega)).2.2.2.2.1 n hn
        have hTn := (hI.2.2.1 k (by omega)).2.2.2.2.2 hTk n hn
        rw [es, if_neg (fun q => by omega)]
        by_cases hkr : k < r
        · exact i3 k hkr h1 n hn
        · have hkr2 : k = r := by omega
          subst hkr2
          have hf : ¬ falls (fallF (uS T d 2) 0 k) k = true := fun q => hnf ⟨rfl, q⟩
          rcases i1 n hTn with h | h | h
          · exact h
          · exact absurd (by unfold falls; rw [hN, hn, h1]; simp [h]) hf
          · exact absurd (by unfold falls; rw [hN, hn, h1]; simp [h]) hf
theorem Inv_undo {T : Tw} (hI : Inv T) (d : Nat) : Inv (undoT T d) := by
  obtain ⟨-, -, h3⟩ := undo_inv hI (d := d) (tD T) (Nat.le_refl _)
  refine Inv_ali hI (aliS_undoT T d) (fun k hk => ?_) (fun k hk h1 n hn => h3 k hk h1 n hn)
  have h := fallF_dB (dB_so hI.dB d (v := 2) (by decide)) 0 (tD T)
  exact (h.2 k (by rw [fallF_tD]; exact hk)).1
