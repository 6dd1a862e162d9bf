/-! PLAIN LAW: towns changed by a number; hands made anew -/
set_option maxRecDepth 100000
/-- a row of numbers changed at a place -/
def eA (T : Tw) (j i v : Nat) : Tw := wA T j (uN (tA T j) i v)
theorem eA_row (T : Tw) (j i v k : Nat) : tA (eA T j i v) k = if k = j then uN (tA T j) i v else tA T k := rfl
theorem eA_ne {T : Tw} {j i v k : Nat} (h : k ≠ j) : tA (eA T j i v) k = tA T k := by rw [eA_row, if_neg h]
theorem eA_at (T : Tw) (j i v n : Nat) : tA (eA T j i v) j n = if n = i then v else tA T j n := by rw [eA_row, if_pos rfl]; rfl
theorem rowC_eA {T : Tw} {σ : SS} {j i v k n : Nat} (h : σ.2.1 k n = nI (tA T k n)) : (sA σ j (upd (σ.2.1 j) i (nI v))).2.1 k n = nI (tA (eA T j i v) k n) := by
  show (if k = j then upd (σ.2.1 j) i (nI v) else σ.2.1 k) n = nI ((if k = j then uN (tA T j) i v else tA T k) n)
  by_cases hk : k = j
  · rw [if_pos hk, if_pos hk]
    subst hk
    show (if n = i then nI v else σ.2.1 k n) = nI (if n = i then v else tA T k n)
    split
    · rfl
    · exact h
  · rw [if_neg hk, if_neg hk]
    exact h
theorem simC_eA {T : Tw} {σ : SS} (hC : simC T 0 σ) {j : Nat} (hj : j ≠ 6) (i v : Nat) : simC (eA T j i v) 0 (sA σ j (upd (σ.2.1 j) i (nI v))) := by
  obtain ⟨a, b, c, o, r⟩ := hC
  have e6 : (sA σ j (upd (σ.2.1 j) i (nI v))).2.1 6 = σ.2.1 6 := by
    show (if 6 = j then _ else σ.2.1 6) = _
    rw [if_neg (fun q => hj q.symm)]
  refine ⟨a, fun p hp => ?_, fun d hd => ?_, fun k hk => ?_, fun k hk => ?_⟩
  · obtain ⟨b0, b1, b2⟩ := b p hp
    exact ⟨rowC_eA b0, rowC_eA b1, rowC_eA b2⟩
  · obtain ⟨c0, c1, c2, c3, c4⟩ := c d hd
    exact ⟨rowC_eA c0, rowC_eA c1, rowC_eA c2, by show (sA σ j _).2.1 6 d = _; rw [e6]; exact c3, rowC_eA c4⟩
  · exact rowC_eA (o k hk)
  · obtain ⟨r0, r1, r2, r3⟩ := r k hk
    exact ⟨rowC_eA r0, rowC_eA r1, rowC_eA r2, rowC_eA r3⟩
theorem simC_need {T : Tw} {σ : SS} (hC : simC T 0 σ) (i : Nat) (n : Option Nat) : simC (wD T (fun k => if k = i then n else tN T k)) 0 (sA σ 6 (upd (σ.2.1 6) i (nE n))) := by
  obtain ⟨a, b, c, o, r⟩ := hC
  have e : ∀ k, k ≠ 6 → (sA σ 6 (upd (σ.2.1 6) i (nE n))).2.1 k = σ.2.1 k := fun k hk => by
    show (if k = 6 then _ else σ.2.1 k) = _
    rw [if_neg hk]
  refine ⟨a, fun p hp => ?_, fun d hd => ?_, fun k hk => ?_, fun k hk => ?_⟩
  · rw [e _ (by decide), e _ (by decide), e _ (by decide)]; exact b p hp
  · obtain ⟨c0, c1, c2, c3, c4⟩ := c d hd
    refine ⟨by rw [e _ (by decide)]; exact c0, by rw [e _ (by decide)]; exact c1, by rw [e _ (by decide)]; exact c2, ?_, by rw [e _ (by decide)]; exact c4⟩
    show (if d = i then nE n else σ.2.1 6 d) = nE (if d = i then n else tN T d)
    split
    · rfl
    · exact c3
  · rw [e _ (by decide)]; exact o k hk
  · rw [e _ (by decide), e _ (by decide), e _ (by decide), e _ (by decide)]; exact r k hk
theorem wN_at (T : Tw) (k v : Nat) : (wN T k v).1 k = v := if_pos rfl
theorem wN_ne {T : Tw} {k v j : Nat} (h : j ≠ k) : (wN T k v).1 j = T.1 j := if_neg h
/-- the slot of a number: 0 people, 1 deeds, 2 the end, 3 the year, 5 reports -/
theorem simC_wN {T : Tw} {σ : SS} (hC : simC T 0 σ) (k v : Nat) (hk : k ≠ 4 ∧ k ≠ 6) : simC (wN T k v) 0 (sI σ k (nI v)) := by
  obtain ⟨⟨a0, a1, a2, a3, a4, a5, a6⟩, b⟩ := hC
  have e : ∀ j, j < 7 → j ≠ 4 → j ≠ 6 → σ.1 j = nI (T.1 j) → (sI σ k (nI v)).1 j = nI ((wN T k v).1 j) := fun j hj h4 h6 h => by
    show (if j = k then nI v else σ.1 j) = nI (if j = k then v else T.1 j)
    split
    · rfl
    · exact h
  have e2 : ∀ j, j ≠ k → (sI σ k (nI v)).1 j = σ.1 j := fun j hj => by
    show (if j = k then nI v else σ.1 j) = _
    rw [if_neg hj]
  refine ⟨⟨e 0 (by decide) (by decide) (by decide) a0, e 1 (by decide) (by decide) (by decide) a1, e 2 (by decide) (by decide) (by decide) a2, e 3 (by decide) (by decide) (by decide) a3, ?_, e 5 (by decide) (by decide) (by decide) a5, ?_⟩, b⟩
  · rw [e2 _ (by omega)]; exact a4
  · rw [e2 _ (by omega)]; exact a6
theorem simC_sc {T : Tw} {σ : SS} (hC : simC T 0 σ) (x : Int32) : simC (wI T 0 x) 0 (sI σ 4 x) := by
  obtain ⟨⟨a0, a1, a2, a3, a4, a5, a6⟩, b⟩ := hC
  have e2 : ∀ j, j ≠ 4 → (sI σ 4 x).1 j = σ.1 j := fun j hj => by
    show (if j = 4 then x else σ.1 j) = _
    rw [if_neg hj]
  refine ⟨⟨by rw [e2 _ (by decide)]; exact a0, by rw [e2 _ (by decide)]; exact a1, by rw [e2 _ (by decide)]; exact a2, by rw [e2 _ (by decide)]; exact a3, rfl, by rw [e2 _ (by decide)]; exact a5, by rw [e2 _ (by decide)]; exact a6⟩, b⟩
theorem simC_z {T : Tw} {σ : SS} (hC : simC T 0 σ) (x : Int32) : simC (wI T 1 x) 0 (sI σ 6 x) := by
  obtain ⟨⟨a0, a1, a2, a3, a4, a5, a6⟩, b⟩ := hC
  have e2 : ∀ j, j ≠ 6 → (sI σ 6 x).1 j = σ.1 j := fun j hj => by
    show (if j = 6 then x else σ.1 j) = _
    rw [if_neg hj]
  refine ⟨⟨by rw [e2 _ (by decide)]; exact a0, by rw [e2 _ (by decide)]; exact a1, by rw [e2 _ (by decide)]; exact a2, by rw [e2 _ (by decide)]; exact a3, by rw [e2 _ (by decide)]; exact a4, by rw [e2 _ (by decide)]; exact a5, rfl⟩, b⟩
/-! the model -/
section
variable {T : Tw} {f : Nat → Int32}
theorem upd_at (f : Nat → Int32) (k : Nat) (x : Int32) : upd f k x k = x := if_pos rfl
theorem upd_ne {f : Nat → Int32} {k j : Nat} {x : Int32} (h : j ≠ k) : upd f k x j = f j := if_neg h
/-- a row's place in the model: first cell, step, number within -/
theorem rowM_eA {base step off j i v k n : Nat} (hs : off < step) {off' : Nat} (ho' : off' < step) (hoff : off' = off ↔ k = j) (h : f (base + step * n + off') = nI (tA T k n)) : upd f (base + step * i + off) (nI v) (base + step * n + off') = nI (tA (eA T j i v) k n) := by
  rw [eA_row]
  by_cases hk : k = j
  · rw [if_pos hk]
    have ho := hoff.mpr hk
    subst ho
    by_cases hn : n = i
    · subst hn
      rw [upd_at]
      show nI v = nI (if n = n then v else _)
      rw [if_pos rfl]
    · rw [upd_ne (fun q => hn (Nat.eq_of_mul_eq_mul_left (show 0 < step by omega) (by omega)))]
      show _ = nI (if n = i then v else tA T j n)
      rw [if_neg hn, ← hk]
      exact h
  · rw [if_neg hk, upd_ne]
    · exact h
    · intro q
      have h1 : off' ≠ off := fun q2 => hk (hoff.mp q2)
      apply h1
      have h2 : (base + step * n + off' - base) % step = (base + step * i + off - base) % step := by rw [q]
      rw [show base + step * n + off' - base = step * n + off' by omega, show base + step * i + off - base = step * i + off by omega, Nat.mul_add_mod, Nat.mul_add_mod, Nat.mod_eq_of_lt hs, Nat.mod_eq_of_lt ho'] at h2
      exact h2
theorem simM_person (hM : simM T f) {j p : Nat} (hj : j < 3) (hp : p < 6) (v : Nat) : simM (eA T j p v) (upd f (8 + 3 * p + j) (nI v)) := by
  obtain ⟨⟨a0, a1, a2, a3, a4, a5, a6⟩, b, c, o, r⟩ := hM
  have e : ∀ i, (i < 8 ∨ 26 ≤ i) → upd f (8 + 3 * p + j) (nI v) i = f i := fun i hi => upd_ne (by omega)
  have e2 : ∀ k, 3 ≤ k → tA (eA T j p v) k = tA T k := fun k hk => eA_ne (by omega)
  refine ⟨⟨by rw [e _ (by decide)]; exact a0, by rw [e _ (by decide)]; exact a1, by rw [e _ (by decide)]; exact a2, by rw [e _ (by decide)]; exact a3, by rw [e _ (by decide)]; exact a4, by rw [e _ (by decide)]; exact a5, by rw [e _ (by decide)]; exact a6⟩, fun n hn => ?_, fun d hd => ?_, fun k hk => ?_, fun k hk => ?_⟩
  · obtain ⟨b0, b1, b2⟩ := b n hn
    exact ⟨rowM_eA (off' := 0) hj (by decide) (by omega) b0, rowM_eA (off' := 1) hj (by decide) (by omega) b1, rowM_eA (off' := 2) hj (by decide) (by omega) b2⟩
  · rw [e _ (by omega), e _ (by omega), e _ (by omega), e _ (by omega), e _ (by omega), e2 3 (by decide), e2 4 (by decide), e2 5 (by decide), e2 7 (by decide)]
    exact c d hd
  · rw [e _ (by omega), e2 8 (by decide)]; exact o k hk
  · rw [e _ (by omega), e _ (by omega), e _ (by omega), e _ (by omega), e2 9 (by decide), e2 10 (by decide), e2 11 (by decide), e2 12 (by decide)]
    exact r k hk
theorem simM_num (hM : simM T f) {k m : Nat} (h : (k = 0 ∧ m = 0) ∨ (k = 2 ∧ m = 2) ∨ (k = 3 ∧ m = 3) ∨ (k = 1 ∧ m = 5) ∨ (k = 5 ∧ m = 6)) (v : Nat) : simM (wN T k v) (upd f m (nI v)) := by
  obtain ⟨⟨a0, a1, a2, a3, a4, a5, a6⟩, b, c, o, r⟩ := hM
  have e : ∀ i, 8 ≤ i → upd f m (nI v) i = f i := fun i hi => upd_ne (by omega)
  refine ⟨?_, fun n hn => ?_, fun d hd => ?_, fun k hk => ?_, fun k hk => ?_⟩
  · rcases h with ⟨rfl, rfl⟩ | ⟨rfl, rfl⟩ | ⟨rfl, rfl⟩ | ⟨rfl, rfl⟩ | ⟨rfl, rfl⟩
    · exact ⟨rfl, a1, a2, a3, a4, a5, a6⟩
    · exact ⟨a0, rfl, a2, a3, a4, a5, a6⟩
    · exact ⟨a0, a1, rfl, a3, a4, a5, a6⟩
    · exact ⟨a0, a1, a2, a3, rfl, a5, a6⟩
    · exact ⟨a0, a1, a2, a3, a4, rfl, a6⟩
  · rw [e _ (by omega), e _ (by omega), e _ (by omega)]; exact b n hn
  · rw [e _ (by omega), e _ (by omega), e _ (by omega), e _ (by omega), e _ (by omega)]; exact c d hd
  · rw [e _ (by omega)]; exact o k hk
  · rw [e _ (by omega), e _ (by omega), e _ (by omega), e _ (by omega)]; exact r k hk
theorem simM_sc (hM : simM T f) (x : Int32) : simM (wI T 0 x) (upd f 4 x) := by
  obtain ⟨⟨a0, a1, a2, a3, a4, a5, a6⟩, b, c, o, r⟩ := hM
  have e : ∀ i, 8 ≤ i → upd f 4 x i = f i := fun i hi => upd_ne (by omega)
  refine ⟨⟨a0, a1, a2, rfl, a4, a5, a6⟩, fun n hn => ?_, fun d hd => ?_, fun k hk => ?_, fun k hk => ?_⟩
  · rw [e _ (by omega), e _ (by omega), e _ (by omega)]; exact b n hn
  · rw [e _ (by omega), e _ (by omega), e _ (by omega), e _ (by omega), e _ (by omega)]; exact c d hd
  · rw [e _ (by omega)]; exact o k hk
  · rw [e _ (by omega), e _ (by omega), e _ (by omega), e _ (by omega)]; exact r k hk
theorem simM_z (hM : simM T f) (x : Int32) : simM (wI T 1 x) (upd f 7 x) := by
  obtain ⟨⟨a0, a1, a2, a3, a4, a5, a6⟩, b, c, o, r⟩ := hM
  have e : ∀ i, 8 ≤ i → upd f 7 x i = f i := fun i hi => upd_ne (by omega)
  refine ⟨⟨a0, a1, a2, a3, a4, a5, rfl⟩, fun n hn => ?_, fun d hd => ?_, fun k hk => ?_, fun k hk => ?_⟩
  · rw [e _ (by omega), e _ (by omega), e _ (by omega)]; exact b n hn
  · rw [e _ (by omega), e _ (by omega), e _ (by omega), e _ (by omega), e _ (by omega)]; exact c d hd
  · rw [e _ (by omega)]; exact o k hk
  · rw [e _ (by omega), e _ (by omega), e _ (by omega), e _ (by omega)]; exact r k hk
end
/-! cells that are made -/
theorem find_none_of {l : List (Nat × dE)} {q : Nat} (h : ∀ x ∈ l, x.1 < q) : l.find? (fun x => x.1 == q) = none := by
  rw [List.find?_eq_none]
  intro x hx
  have := h x hx
  simp only [beq_iff_eq]
  omega
theorem dl_app {δ : DS} {e : dE} {m q : Nat} : dl (δ.1 ++ [(δ.2, e)], m) q = (dl δ q).or (if δ.2 = q then some e else none) := by
  unfold dl
  rw [List.find?_append]
  cases h : List.find? (fun x => x.1 == q) δ.1 with
  | some x => rfl
  | none =>
    simp only [Option.none_or, Option.map_none, List.find?_cons, List.find?_nil]
    by_cases hq : δ.2 = q
    · rw [if_pos hq]
      subst hq
      simp
    · rw [if_neg hq]
      have : (δ.2 == q) = false := by rw [beq_eq_false_iff_ne]; exact hq
      rw [this]
      rfl
theorem exA_app {δ : DS} {e : dE} {m : Nat} : exA δ (δ.1 ++ [(δ.2, e)], m) := by
  intro q e' h
  rw [dl_app, h]
  rfl
theorem dl_last {δ : DS} (hf : fresh δ) {e : dE} {m : Nat} : dl (δ.1 ++ [(δ.2, e)], m) δ.2 = some e := by
  rw [dl_app, if_pos rfl]
  have : dl δ δ.2 = none := by
    unfold dl
    rw [find_none_of hf]
    rfl
  rw [this]
  rfl
theorem fresh_app {δ : DS} (hf : fresh δ) {e : dE} {m : Nat} (hm : δ.2 < m) : fresh (δ.1 ++ [(δ.2, e)], m) := by
  intro x hx
  rcases List.mem_append.mp hx with h | h
  · exact Nat.lt_trans (hf x h) hm
  · rw [List.mem_singleton.mp h]
    exact hm
theorem dSet_last {δ : DS} (hf : fresh δ) {e e' : dE} {m : Nat} : dSet (δ.1 ++ [(δ.2, e)], m) δ.2 e' = (δ.1 ++ [(δ.2, e')], m) := by
  unfold dSet
  dsimp only
  rw [List.map_append]
  have h1 : δ.1.map (fun x => if x.1 == δ.2 then (δ.2, e') else x) = δ.1 := by
    conv => rhs; rw [← List.map_id δ.1]
    apply List.map_congr_left
    intro x hx
    have := hf x hx
    rw [if_neg (by simp only [beq_iff_eq]; omega)]
    rfl
  rw [h1]
  simp
theorem dPut_last {δ : DS} (hf : fresh δ) {ci k m : Nat} {fs : List Value} (hk : k < fs.length) (v : Value) : dPut (δ.1 ++ [(δ.2, .inr (ci, fs))], m) ci k δ.2 v = some (δ.1 ++ [(δ.2, .inr (ci, fs.set k v))], m) := by
  unfold dPut
  rw [dl_last hf]
  dsimp only
  rw [if_pos ⟨rfl, hk⟩, dSet_last hf]
theorem dci_last {δ : DS} (hf : fresh δ) {ci m : Nat} {fs : List Value} : dci (δ.1 ++ [(δ.2, .inr (ci, fs))], m) δ.2 = some ci := by
  unfold dci
  rw [dl_last hf]
theorem dMonV_eq {d : DS} {σ : SS} {d' : DS} {F : Option (SS × DS)} (h : F = some (σ, d')) (hd : d.2 ≤ d'.2) : dMonV d F = some (σ, d') := by
  unfold dMonV
  rw [h]
  simp only [Option.bind_some]
  rw [if_pos hd]
theorem dMon_eq {τ : Type} {x : τ} {d : DS} {σ : SS} {d' : DS} {F : Option (τ × SS × DS)} (h : F = some (x, σ, d')) (hd : d.2 ≤ d'.2) : dMon d F = some (x, σ, d') := by
  unfold dMon
  rw [h]
  simp only [Option.bind_some]
  rw [if_pos hd]
/-- a cell more, of the class's number with these fields -/
def dAdd (δ : DS) (ci : Nat) (fs : List Value) : DS := (δ.1 ++ [(δ.2, .inr (ci, fs))], δ.2 + 1)
theorem dNew_add (δ : DS) (ci : Nat) (fs : List Value) : dNew δ ci fs = dAdd δ ci fs := rfl
theorem dAdd_2 (δ : DS) (ci : Nat) (fs : List Value) : (dAdd δ ci fs).2 = δ.2 + 1 := rfl
theorem exA_add (δ : DS) (ci : Nat) (fs : List Value) : exA δ (dAdd δ ci fs) := exA_app
theorem fresh_add {δ : DS} (hf : fresh δ) (ci : Nat) (fs : List Value) : fresh (dAdd δ ci fs) := fresh_app hf (Nat.lt_succ_self _)
theorem dl_add {δ : DS} (hf : fresh δ) (ci : Nat) (fs : List Value) : dl (dAdd δ ci fs) δ.2 = some (.inr (ci, fs)) := dl_last hf
theorem hand_init {δ : DS} (hf : fresh δ) (σ : SS) {ci : Nat} (hc : 7 ≤ ci ∧ ci ≤ 11) (x y : Value) (a b : Int32) : f7_init σ (dAdd δ ci [x, y]) δ.2 a b = some (σ, dAdd δ ci [.int a, .int b]) := by
  unfold f7_init dPutH dAdd
  rw [dci_last hf]
  simp only [Option.bind_some]
  rw [if_pos hc, dPut_last hf (by decide : 0 < 2)]
  simp only [Option.bind_some]
  rw [dci_last hf]
  simp only [Option.bind_some]
  rw [if_pos hc, dPut_last hf (by decide : 1 < 2)]
  rfl
theorem made_eq {δ : DS} (hf : fresh δ) (σ : SS) {k : Nat} (hk : 1 ≤ k ∧ k ≤ 5) (a b : Int32) : f0_made σ δ (nI k) a b = some (δ.2, σ, dAdd δ (6 + k) [.int a, .int b]) := by
  have hl : ∀ (ci : Nat) (fs : List Value), δ.2 ≤ (dAdd δ ci fs).2 := fun ci fs => Nat.le_succ _
  have hi : ∀ ci, (7 ≤ ci ∧ ci ≤ 11) → dMonV (dAdd δ ci [.int 0, .int 0]) (f7_init σ (dAdd δ ci [.int 0, .int 0]) δ.2 a b) = some (σ, dAdd δ ci [.int a, .int b]) := fun ci hc => dMonV_eq (hand_init hf σ hc _ _ a b) (Nat.le_refl _)
  have h8 : ∀ (ci : Nat), (7 ≤ ci ∧ ci ≤ 11) → f8_init σ (dAdd δ ci [.int 0, .int 0]) δ.2 a b = some (σ, dAdd δ ci [.int a, .int b]) := fun ci hc => by unfold f8_init; rw [hi ci hc]; rfl
  have h9 : ∀ (ci : Nat), (7 ≤ ci ∧ ci ≤ 11) → f9_init σ (dAdd δ ci [.int 0, .int 0]) δ.2 a b = some (σ, dAdd δ ci [.int a, .int b]) := fun ci hc => by unfold f9_init; rw [hi ci hc]; rfl
  have h11 : ∀ (ci : Nat), (7 ≤ ci ∧ ci ≤ 11) → f11_init σ (dAdd δ ci [.int 0, .int 0]) δ.2 a b = some (σ, dAdd δ ci [.int a, .int b]) := fun ci hc => by unfold f11_init; rw [hi ci hc]; rfl
  have h10 : ∀ (ci : Nat), (7 ≤ ci ∧ ci ≤ 11) → f10_init σ (dAdd δ ci [.int 0, .int 0]) δ.2 a b = some (σ, dAdd δ ci [.int a, .int b]) := fun ci hc => by unfold f10_init; rw [dMonV_eq (d := dAdd δ ci [.int 0, .int 0]) (h9 ci hc) (Nat.le_refl _)]; rfl
  have h12 : ∀ (ci : Nat), (7 ≤ ci ∧ ci ≤ 11) → f12_init σ (dAdd δ ci [.int 0, .int 0]) δ.2 a b = some (σ, dAdd δ ci [.int a, .int b]) := fun ci hc => by unfold f12_init; rw [dMonV_eq (d := dAdd δ ci [.int 0, .int 0]) (h11 ci hc) (Nat.le_refl _)]; rfl
  unfold f0_made
  simp only [dNew_add, Option.bind_some]
  rcases (show k = 1 ∨ k = 2 ∨ k = 3 ∨ k = 4 ∨ k = 5 by omega) with rfl | rfl | rfl | rfl | rfl
  · rw [if_pos (show nI 1 = (1 : Int32) from rfl), dMonV_eq (d := dAdd δ 7 [.int 0, .int 0]) (h8 7 (by decide)) (Nat.le_refl _)]; rfl
  · rw [if_neg (by decide), if_pos (show nI 2 = (2 : Int32) from rfl), dMonV_eq (d := dAdd δ 8 [.int 0, .int 0]) (h9 8 (by decide)) (Nat.le_refl _)]; rfl
  · rw [if_neg (by decide), if_neg (by decide), if_pos (show nI 3 = (3 : Int32) from rfl), dMonV_eq (d := dAdd δ 9 [.int 0, .int 0]) (h10 9 (by decide)) (Nat.le_refl _)]; rfl
  · rw [if_neg (by decide), if_neg (by decide), if_neg (by decide), if_pos (show nI 4 = (4 : Int32) from rfl), dMonV_eq (d := dAdd δ 10 [.int 0, .int 0]) (h11 10 (by decide)) (Nat.le_refl _)]; rfl
  · rw [if_neg (by decide), if_neg (by decide), if_neg (by decide), if_neg (by decide), dMonV_eq (d := dAdd δ 11 [.int 0, .int 0]) (h12 11 (by decide)) (Nat.le_refl _)]; rfl
theorem isHand_add {δ : DS} (hf : fresh δ) (k p g : Nat) : isHand (dAdd δ (6 + k) [.int (nI p), .int (nI g)]) δ.2 k p g := dl_add hf _ _
/-- a hand made anew -/
theorem renew_eq {T : Tw} {σ : SS} {δ : DS} (hC : simC T 0 σ) (hf : fresh δ) {p : Nat} (hp : p < 6) (hk : 1 ≤ tA T 0 p ∧ tA T 0 p ≤ 5) : f0_renew σ δ (nI p) = some (sR σ 0 (va_up (σ.2.2.2 0) p (some δ.2)), dAdd δ (6 + tA T 0 p) [.int (nI p), .int (nI (tA T 1 p))]) := by
  unfold f0_renew
  rw [cP_kind hC hp, cP_grace hC hp]
  simp only [Option.bind_some]
  rw [dMon_eq (made_eq hf σ hk _ _) (Nat.le_succ _)]
  simp only [Option.bind_some]
  unfold stH
  have : dci (dAdd δ (6 + tA T 0 p) [.int (nI p), .int (nI (tA T 1 p))]) δ.2 = some (6 + tA T 0 p) := dci_last hf
  rw [this]
  simp only [Option.bind_some]
  rw [if_pos ⟨by omega, by
    rw [nI_clamp (by omega)]
    rintro (q | q)
    · exact nN_neg (by omega) q
    · have : 6 ≤ p := q
      omega⟩, nI_clamp (by omega)]
  rfl
