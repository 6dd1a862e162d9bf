/-! PLAIN LAW: a town becomes another one -/
set_option maxRecDepth 100000
def lenT (j : Nat) : Nat := [6, 6, 6, 10, 10, 10, 10, 10, 36, 6, 6, 6, 6].getD j 0
theorem lenC_t {t j : Nat} (ht : t < 3) (hj : j < 13) : lenC (13 * t + j) = lenT j := by
  unfold lenC lenT
  rw [if_pos (by omega), show (13 * t + j) % 13 = j by omega]
/-- town t0 is on the way to what t1 is: so many ints, rules or not, so many rows -/
def bcm (σ σ' : SS) (t0 t1 i : Nat) (r : Prop) (j : Nat) : Prop := (∀ k, k < i → σ'.1 (7 * t0 + k) = σ.1 (7 * t1 + k)) ∧ (∀ k, k < 7 * t0 ∨ 7 * t0 + i ≤ k → σ'.1 k = σ.1 k) ∧ (∀ k, k < j → ∀ n, n < lenT k → σ'.2.1 (13 * t0 + k) n = σ.2.1 (13 * t1 + k) n) ∧ (∀ k, k < 13 * t0 ∨ 13 * t0 + j ≤ k → σ'.2.1 k = σ.2.1 k) ∧ (r → σ'.2.2.1 t0 = σ.2.2.1 t1) ∧ (∀ k, k ≠ t0 → σ'.2.2.1 k = σ.2.2.1 k) ∧ σ'.2.2.2 = σ.2.2.2
theorem bcm_rf (σ : SS) (t0 t1 : Nat) : bcm σ σ t0 t1 0 False 0 := ⟨fun k hk => absurd hk (by omega), fun _ _ => rfl, fun k hk => absurd hk (by omega), fun _ _ => rfl, False.elim, fun _ _ => rfl, rfl⟩
theorem bcm_I {σ σ' σ1 : SS} {t0 t1 i : Nat} (ht0 : t0 < 3) (ht1 : t1 < 3) (hn : t0 ≠ t1) (hi : i < 7) (h : bcm σ σ' t0 t1 i False 0) (e : σ1 = sI σ' (7 * t0 + i) (σ'.1 (7 * t1 + i))) : bcm σ σ1 t0 t1 (i + 1) False 0 := by
  obtain ⟨h1, h2, h3, h4, -, h6, h7⟩ := h
  subst e
  refine ⟨fun k hk => ?_, fun k hk => ?_, h3, h4, False.elim, h6, h7⟩
  · show upd σ'.1 (7 * t0 + i) (σ'.1 (7 * t1 + i)) (7 * t0 + k) = _
    unfold upd
    by_cases hki : k = i
    · subst hki
      rw [if_pos rfl]
      exact h2 _ (by omega)
    · rw [if_neg (by omega)]
      exact h1 k (by omega)
  · show upd σ'.1 (7 * t0 + i) (σ'.1 (7 * t1 + i)) k = _
    unfold upd
    rw [if_neg (by omega)]
    exact h2 k (by omega)
theorem bcm_F {σ σ' σ1 : SS} {t0 t1 i : Nat} (hn : t0 ≠ t1) (h : bcm σ σ' t0 t1 i False 0) (e : σ1 = sF σ' t0 (σ'.2.2.1 t1)) : bcm σ σ1 t0 t1 i True 0 := by
  obtain ⟨h1, h2, h3, h4, -, h6, h7⟩ := h
  subst e
  refine ⟨h1, h2, h3, h4, fun _ => ?_, fun k hk => ?_, h7⟩
  · show (if t0 = t0 then _ else _) = _
    rw [if_pos rfl]
    exact h6 t1 (fun q => hn q.symm)
  · show (if k = t0 then _ else _) = _
    rw [if_neg hk]
    exact h6 k hk
theorem bcm_A {σ σ' σ1 : SS} {t0 t1 i j : Nat} {r : Prop} (ht0 : t0 < 3) (ht1 : t1 < 3) (hn : t0 ≠ t1) (hj : j < 13) (h : bcm σ σ' t0 t1 i r j) (e : σ1 = sA σ' (13 * t0 + j) (va_cpy (σ'.2.1 (13 * t1 + j)) (σ'.2.1 (13 * t0 + j)) 0 0 (lenT j))) : bcm σ σ1 t0 t1 i r (j + 1) := by
  obtain ⟨h1, h2, h3, h4, h5, h6, h7⟩ := h
  subst e
  refine ⟨h1, h2, fun k hk n hn1 => ?_, fun k hk => ?_, h5, h6, h7⟩
  · show (if 13 * t0 + k = 13 * t0 + j then (va_cpy (σ'.2.1 (13 * t1 + j)) (σ'.2.1 (13 * t0 + j)) 0 0 (lenT j)) else σ'.2.1 (13 * t0 + k)) n = _
    by_cases hkj : k = j
    · subst hkj
      rw [if_pos rfl]
      unfold va_cpy
      rw [if_pos (by omega), show 0 + (n - 0) = n by omega, h4 _ (by omega)]
    · rw [if_neg (by omega)]
      exact h3 k (by omega) n hn1
  · show (if k = 13 * t0 + j then _ else _) = _
    rw [if_neg (by omega)]
    exact h4 k (by omega)
theorem cpC_0 {σ : SS} {j1 j2 : Nat} {n : Int32} {N : Nat} (hn : n = nI N) (hN : N < 2 ^ 31) (h1 : N ≤ lenC j1) (h2 : N ≤ lenC j2) : cpC σ j1 (0 : Int32) j2 (0 : Int32) n = some (sA σ j2 (va_cpy (σ.2.1 j1) (σ.2.1 j2) 0 0 N)) := by
  subst hn
  unfold cpC
  rw [nI_clamp hN, if_pos]
  · rfl
  · refine ⟨by decide, by decide, nN_neg hN, ?_, ?_⟩
    · show 0 + N ≤ _; omega
    · show 0 + N ≤ _; omega
section
variable {σ σ' : SS} {t0 t1 i j : Nat} {r : Prop} {K : SS → Option SS} {P : SS → Prop}
theorem bk_I (ht0 : t0 < 3) (ht1 : t1 < 3) (hn : t0 ≠ t1) (hi : i < 7) (h : bcm σ σ' t0 t1 i False 0) (k : ∀ σ1, bcm σ σ1 t0 t1 (i + 1) False 0 → ∃ z, K σ1 = some z ∧ P z) : ∃ z, (some (sI σ' (7 * t0 + i) (σ'.1 (7 * t1 + i)))).bind K = some z ∧ P z := k _ (bcm_I ht0 ht1 hn hi h rfl)
theorem bk_F (hn : t0 ≠ t1) (h : bcm σ σ' t0 t1 i False 0) (k : ∀ σ1, bcm σ σ1 t0 t1 i True 0 → ∃ z, K σ1 = some z ∧ P z) : ∃ z, (some (sF σ' t0 (σ'.2.2.1 t1))).bind K = some z ∧ P z := k _ (bcm_F hn h rfl)
theorem bk_A {n : Int32} (ht0 : t0 < 3) (ht1 : t1 < 3) (hn : t0 ≠ t1) (hj : j < 13) (h : bcm σ σ' t0 t1 i r j) (hnn : n = nI (lenT j)) (hN : lenT j < 2 ^ 31) (k : ∀ σ1, bcm σ σ1 t0 t1 i r (j + 1) → ∃ z, K σ1 = some z ∧ P z) : ∃ z, (cpC σ' (13 * t1 + j) (0 : Int32) (13 * t0 + j) (0 : Int32) n).bind K = some z ∧ P z := by
  rw [cpC_0 (N := lenT j) hnn hN (by rw [lenC_t ht1 hj]; exact Nat.le_refl _) (by rw [lenC_t ht0 hj]; exact Nat.le_refl _)]
  exact k _ (bcm_A ht0 ht1 hn hj h rfl)
end
/-- town t0 is now as t1 was, all else stays -/
abbrev becm (σ σ' : SS) (t0 t1 : Nat) : Prop := bcm σ σ' t0 t1 7 True 13
theorem become_eq (σ : SS) {t0 t1 : Nat} (ht0 : t0 < 3) (ht1 : t1 < 3) (hn : t0 ≠ t1) : ∃ σ', f3_become σ t0 t1 = some σ' ∧ becm σ σ' t0 t1 := by
  unfold f3_become
  refine bk_I ht0 ht1 hn (by decide) (bcm_rf σ t0 t1) (fun σ1 h => ?_)
  refine bk_I ht0 ht1 hn (by decide) h (fun σ1 h => ?_)
  refine bk_I ht0 ht1 hn (by decide) h (fun σ1 h => ?_)
  refine bk_I ht0 ht1 hn (by decide) h (fun σ1 h => ?_)
  refine bk_I ht0 ht1 hn (by decide) h (fun σ1 h => ?_)
  refine bk_I ht0 ht1 hn (by decide) h (fun σ1 h => ?_)
  refine bk_I ht0 ht1 hn (by decide) h (fun σ1 h => ?_)
  refine bk_F hn h (fun σ1 h => ?_)
  refine bk_A ht0 ht1 hn (by decide) h rfl (by decide) (fun σ1 h => ?_)
  refine bk_A ht0 ht1 hn (by decide) h rfl (by decide) (fun σ1 h => ?_)
  refine bk_A ht0 ht1 hn (by decide) h rfl (by decide) (fun σ1 h => ?_)
  refine bk_A ht0 ht1 hn (by decide) h rfl (by decide) (fun σ1 h => ?_)
  refine bk_A ht0 ht1 hn (by decide) h rfl (by decide) (fun σ1 h => ?_)
  refine bk_A ht0 ht1 hn (by decide) h rfl (by decide) (fun σ1 h => ?_)
  refine bk_A ht0 ht1 hn (by decide) h rfl (by decide) (fun σ1 h => ?_)
  refine bk_A ht0 ht1 hn (by decide) h rfl (by decide) (fun σ1 h => ?_)
  refine bk_A ht0 ht1 hn (by decide) h rfl (by decide) (fun σ1 h => ?_)
  refine bk_A ht0 ht1 hn (by decide) h rfl (by decide) (fun σ1 h => ?_)
  refine bk_A ht0 ht1 hn (by decide) h rfl (by decide) (fun σ1 h => ?_)
  refine bk_A ht0 ht1 hn (by decide) h rfl (by decide) (fun σ1 h => ?_)
  refine bk_A ht0 ht1 hn (by decide) h rfl (by decide) (fun σ1 h => ?_)
  exact ⟨_, rfl, h⟩
