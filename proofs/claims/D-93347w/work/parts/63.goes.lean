/-! PLAIN LAW: behind a year the town is as it can be -/
set_option maxRecDepth 100000
theorem wN_row (T : Tw) (y j : Nat) : tA (wN T 3 y) j = tA T j := rfl
theorem Inv_year {T : Tw} (hI : Inv T) {y : Nat} (hy : y ≤ tE T) : Inv (wN T 3 y) := by
  obtain ⟨⟨a1, a2, a3, a4, a5, a6⟩, b, c, o, r⟩ := hI
  have e : ∀ k, k ≠ 3 → (wN T 3 y).1 k = T.1 k := fun k hk => if_neg hk
  have e3 : tY (wN T 3 y) = y := by unfold tY wN; simp
  refine ⟨⟨a1, a2, a3, a4, ?_, a6⟩, b, c, o, r⟩
  rw [e3]
  exact hy
theorem Inv_pass {T : Tw} (hI : Inv T) (hn : tY T < tE T) (RS : Rls) (h : Nat) : Inv (passT T RS h) := by
  obtain ⟨g1, g2⟩ := Inv_handed hI RS h
  exact Inv_year g1 (by rw [g2.nums.2.2.1]; omega)
theorem Inv_score {T : Tw} (hI : Inv T) (x : Int32) : Inv (wI T 0 x) := hI
theorem Inv_gone {T : Tw} (hI : Inv T) (hn : tY T < tE T) (RS : Rls) (h : Nat) : Inv (goneT T RS h) := Inv_score (Inv_pass hI hn RS h) _
