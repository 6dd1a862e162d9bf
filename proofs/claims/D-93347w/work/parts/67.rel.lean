/-! PLAIN LAW: the pictures that belong together -/
set_option maxRecDepth 100000
/-- all that was made stays as it is -/
def exA (δ δ' : DS) : Prop := ∀ q e, dl δ q = some e → dl δ' q = some e
def fresh (δ : DS) : Prop := ∀ x ∈ δ.1, x.1 < δ.2
theorem exA.rf (δ : DS) : exA δ δ := fun _ _ h => h
theorem exA.tr {a b c : DS} (h : exA a b) (g : exA b c) : exA a c := fun q e hq => g q e (h q e hq)
theorem exA.ext {δ δ' : DS} (h : exA δ δ') : ext δ δ' := fun q e hq _ => h q e hq
def rKept (σ : SS) (δ : DS) (μ : MS) : Prop := (σ.1 36 = μ.1 3 ∧ (μ.1 3 = 0 ∨ μ.1 3 = 1)) ∧ (μ.1 3 = 1 → ∃ K RK, (simC K 1 σ ∧ simM K (μ.2 1)) ∧ (Inv K ∧ rulI RK) ∧ rulC δ (σ.2.2.1 1) RK ∧ rulM (μ.2 1) RK)
def rStr (σ : SS) (δ : DS) : Prop := ∀ k, k < 45 → σ.2.2.2 1 k = none ∨ ∃ q, σ.2.2.2 1 k = some q ∧ isHand δ q (1 + k / 9) 0 (1 + k % 9)
/-- a byte as the component has it -/
def sgB (b : Nat) : Int32 := if b < 128 then nI b else nI b - 256
def rTape (σ : SS) (μ : MS) : Prop := ∃ n, n ≤ 200 ∧ σ.1 41 = nI n ∧ μ.1 23 = nI n ∧ ∀ i, i < n → ∃ b, b < 256 ∧ σ.2.1 46 i = sgB b ∧ μ.2 10 i = nI b
def rRows (σ : SS) (μ : MS) : Prop := ∃ n, n ≤ 4 ∧ σ.1 58 = nI n ∧ μ.1 21 = nI n ∧ ∀ i, i < 3 * n → σ.2.1 44 i = μ.2 9 i
def rTrace (σ : SS) (μ : MS) : Prop := ∃ n, n ≤ 30 ∧ σ.1 70 = nI n ∧ μ.1 37 = nI n ∧ ∀ i, i < n → σ.2.1 45 i = μ.2 17 i
/-- a row of a sort and a length: its cells' type, what it holds as ints -/
def rowE (t n : Nat) (f : Nat → Int32) (e : dE) : Prop := if t = 3 then ∃ g : Nat → Int64, e = .inl (3, n, .inr (.inl g)) ∧ ∀ i, i < n → (g i).toInt32 = f i ∧ (g i) = (f i).toInt64 else ∃ g : Nat → Int32, e = .inl ([1, 2, 0, 3, 4].getD t 0, n, .inl g) ∧ ∀ i, i < n → g i = f i ∧ (t = 4 → f i = 0 ∨ f i = 1)
/-- the sheets -/
def rSheet (σ : SS) (δ : DS) (μ : MS) : Prop := (∀ s, s < 4 → (σ.2.2.1 (7 + s) = none ∧ μ.2 11 s = -1 ∧ μ.2 12 s = 0) ∨ ∃ q t n, σ.2.2.1 (7 + s) = some q ∧ t ≤ 4 ∧ n ≤ 40 ∧ μ.2 11 s = nI t ∧ μ.2 12 s = nI n ∧ ∃ e, dl δ q = some e ∧ ∃ f, rowE t n f e ∧ ∀ i, i < n → f i = μ.2 13 (40 * s + i)) ∧ ∀ s s' q, s < 4 → s' < 4 → σ.2.2.1 (7 + s) = some q → σ.2.2.1 (7 + s') = some q → s = s'
/-- the shelves -/
def rShelf (σ : SS) (δ : DS) (μ : MS) : Prop := ∀ s, s < 4 → (σ.2.2.1 (3 + s) = none ∧ μ.2 14 s = 0) ∨ (∃ q n, σ.2.2.1 (3 + s) = some q ∧ n < 6 ∧ dl δ q = some (.inr (18, [.int (nI n)])) ∧ μ.2 14 s = 1 ∧ μ.2 15 s = nI n) ∨ ∃ q t n, σ.2.2.1 (3 + s) = some q ∧ t ≤ 4 ∧ n ≤ 40 ∧ (∃ e f, dl δ q = some e ∧ rowE t n f e) ∧ μ.2 14 s = 2 ∧ μ.2 15 s = nI n ∧ μ.2 16 s = nI t
def rPart (σ : SS) : Prop := σ.2.1 41 0 = 0
/-- all but the town -/
def RelX (σ : SS) (δ : DS) (μ : MS) : Prop := (rKept σ δ μ ∧ rStr σ δ) ∧ (rTape σ μ ∧ rRows σ μ ∧ rTrace σ μ) ∧ (rSheet σ δ μ ∧ rShelf σ δ μ) ∧ rPart σ ∧ fresh δ
def Rel (σ : SS) (δ : DS) (μ : MS) : Prop := (∃ T RS, cor T (tS T) RS δ σ μ) ∧ RelX σ δ μ
theorem isHand_ex {δ δ' : DS} (h : exA δ δ') {q k p g : Nat} (H : isHand δ q k p g) : isHand δ' q k p g := h q _ H
theorem hnd_ex {δ δ' : DS} (h : exA δ δ') {hf : Nat → Option Nat} {T : Tw} (H : hnd δ hf T) : hnd δ' hf T := fun p hp => by
  obtain ⟨q, h1, h2⟩ := H p hp
  exact ⟨q, h1, isHand_ex h h2⟩
theorem simC_1 {K : Tw} {σ σ' : SS} (h : FC σ σ') (hC : simC K 1 σ) : simC K 1 σ' := simC_cg hC (fun k hk => h.1 _ (by omega)) (fun j hj n hn => by rw [h.2.1 _ (by omega)])
theorem rKept_cg {σ σ' : SS} {δ δ' : DS} {μ μ' : MS} (H : rKept σ δ μ) (hF : FC σ σ') (hM : FM μ μ') (hE : exA δ δ') : rKept σ' δ' μ' := by
  obtain ⟨⟨h1, h2⟩, h3⟩ := H
  have e3 : μ'.1 3 = μ.1 3 := hM.1 3 (by decide)
  refine ⟨⟨by rw [hF.1 36 (by decide), e3]; exact h1, by rw [e3]; exact h2⟩, fun hk => ?_⟩
  obtain ⟨K, RK, ⟨a, b⟩, c, d, e⟩ := h3 (by rw [← e3]; exact hk)
  refine ⟨K, RK, ⟨simC_1 hF a, by rw [hM.2 1 (by decide)]; exact b⟩, c, ?_, by rw [hM.2 1 (by decide)]; exact e⟩
  rw [hF.2.2.1 1 (by decide) (by decide)]
  exact rulC_ext hE.ext d
theorem rStr_cg {σ σ' : SS} {δ δ' : DS} (H : rStr σ δ) (hF : FC σ σ') (hE : exA δ δ') : rStr σ' δ' := by
  intro k hk
  rw [hF.2.2.2]
  rcases H k hk with h | ⟨q, h1, h2⟩
  · exact Or.inl h
  · exact Or.inr ⟨q, h1, isHand_ex hE h2⟩
theorem rTape_cg {σ σ' : SS} {μ μ' : MS} (H : rTape σ μ) (hF : FC σ σ') (hM : FM μ μ') : rTape σ' μ' := by
  obtain ⟨n, h1, h2, h3, h4⟩ := H
  exact ⟨n, h1, by rw [hF.1 41 (by decide)]; exact h2, by rw [hM.1 23 (by decide)]; exact h3, by rw [hF.2.1 46 (by decide), hM.2 10 (by decide)]; exact h4⟩
theorem rRows_cg {σ σ' : SS} {μ μ' : MS} (H : rRows σ μ) (hF : FC σ σ') (hM : FM μ μ') : rRows σ' μ' := by
  obtain ⟨n, h1, h2, h3, h4⟩ := H
  exact ⟨n, h1, by rw [hF.1 58 (by decide)]; exact h2, by rw [hM.1 21 (by decide)]; exact h3, by rw [hF.2.1 44 (by decide), hM.2 9 (by decide)]; exact h4⟩
theorem rTrace_cg {σ σ' : SS} {μ μ' : MS} (H : rTrace σ μ) (hF : FC σ σ') (hM : FM μ μ') : rTrace σ' μ' := by
  obtain ⟨n, h1, h2, h3, h4⟩ := H
  exact ⟨n, h1, by rw [hF.1 70 (by decide)]; exact h2, by rw [hM.1 37 (by decide)]; exact h3, by rw [hF.2.1 45 (by decide), hM.2 17 (by decide)]; exact h4⟩
theorem rSheet_cg {σ σ' : SS} {δ δ' : DS} {μ μ' : MS} (H : rSheet σ δ μ) (hF : FC σ σ') (hM : FM μ μ') (hE : exA δ δ') : rSheet σ' δ' μ' := by
  obtain ⟨h1, h2⟩ := H
  have e : ∀ s, σ'.2.2.1 (7 + s) = σ.2.2.1 (7 + s) := fun s => hF.2.2.1 (7 + s) (by omega) (by omega)
  refine ⟨fun s hs => ?_, fun s s' q a b c d => h2 s s' q a b (by rw [← e]; exact c) (by rw [← e]; exact d)⟩
  rw [e, hM.2 11 (by decide), hM.2 12 (by decide), hM.2 13 (by decide)]
  rcases h1 s hs with h | ⟨q, t, n, a, b, c, d, f, ee, i, j⟩
  · exact Or.inl h
  · exact Or.inr ⟨q, t, n, a, b, c, d, f, ee, hE _ _ i, j⟩
theorem rShelf_cg {σ σ' : SS} {δ δ' : DS} {μ μ' : MS} (H : rShelf σ δ μ) (hF : FC σ σ') (hM : FM μ μ') (hE : exA δ δ') : rShelf σ' δ' μ' := by
  intro s hs
  rw [hF.2.2.1 (3 + s) (by omega) (by omega), hM.2 14 (by decide), hM.2 15 (by decide), hM.2 16 (by decide)]
  rcases H s hs with h | ⟨q, n, a, b, c, d⟩ | ⟨q, t, n, a, b, c, ⟨ee, f, i, j⟩, d⟩
  · exact Or.inl h
  · exact Or.inr (Or.inl ⟨q, n, a, b, hE _ _ c, d⟩)
  · exact Or.inr (Or.inr ⟨q, t, n, a, b, c, ⟨ee, f, hE _ _ i, j⟩, d⟩)
theorem RelX_cg {σ σ' : SS} {δ δ' : DS} {μ μ' : MS} (H : RelX σ δ μ) (hF : FC σ σ') (hM : FM μ μ') (hE : exA δ δ') (hf : fresh δ') : RelX σ' δ' μ' := by
  obtain ⟨⟨a, b⟩, ⟨c, d, e⟩, ⟨f, g⟩, h, i⟩ := H
  exact ⟨⟨rKept_cg a hF hM hE, rStr_cg b hF hE⟩, ⟨rTape_cg c hF hM, rRows_cg d hF hM, rTrace_cg e hF hM⟩, ⟨rSheet_cg f hF hM hE, rShelf_cg g hF hM hE⟩, by unfold rPart; rw [hF.2.1 41 (by decide)]; exact h, hf⟩
theorem cor_ex {T : Tw} {S : Int32} {RS : Rls} {δ δ' : DS} {σ : SS} {μ : MS} (h : cor T S RS δ σ μ) (hE : exA δ δ') : cor T S RS δ' σ μ := by
  obtain ⟨a, b, ⟨c, d⟩, e⟩ := h
  exact ⟨a, b, ⟨hnd_ex hE c, rulC_ext hE.ext d⟩, e⟩
/-- the heap may be larger -/
theorem Rel_heap {σ : SS} {δ : DS} {μ : MS} (H : Rel σ δ μ) {n : Nat} (hn : δ.2 ≤ n) : Rel σ (δ.1, n) μ := by
  obtain ⟨⟨T, RS, h⟩, hX⟩ := H
  have hE : exA δ (δ.1, n) := fun q e h => h
  exact ⟨⟨T, RS, cor_ex h hE⟩, RelX_cg hX (FC.rf σ) (FM.rf μ) hE (fun x hx => Nat.lt_of_lt_of_le (hX.2.2.2.2 x hx) hn)⟩
/-- a call that makes nothing -/
theorem pl_0 {k : Nat} {a b c d : Int32} {σ σ' : SS} {δ : DS} {μ μ' : MS} {r : Int32} (h1 : cCall k a b c d σ δ = some (r, σ', δ)) (h2 : mCall k a b c d μ = some (r, μ')) (hR : Rel σ' δ μ') : pLaw Rel k a b c d σ δ μ :=
  ⟨r, σ', δ, μ', h1, h2, fun n2 h _ => Rel_heap hR h, Nat.le_refl _, Nat.le_add_right _ _⟩
theorem pl_d {k : Nat} {a b c d : Int32} {σ σ' : SS} {δ δ' : DS} {μ μ' : MS} {r : Int32} (h1 : cCall k a b c d σ δ = some (r, σ', δ')) (h2 : mCall k a b c d μ = some (r, μ')) (hR : Rel σ' δ' μ') (h3 : δ.2 ≤ δ'.2) (h4 : δ'.2 ≤ δ.2 + 2500) : pLaw Rel k a b c d σ δ μ :=
  ⟨r, σ', δ', μ', h1, h2, fun n2 h _ => Rel_heap hR h, h3, h4⟩
/-- the town changed, nothing else -/
theorem Rel_cor {σ σ' : SS} {δ : DS} {μ μ' : MS} {T : Tw} {RS : Rls} (H : Rel σ δ μ) (hF : FC σ σ') (hM : FM μ μ') (h : cor T (tS T) RS δ σ' μ') : Rel σ' δ μ' := ⟨⟨T, RS, h⟩, RelX_cg H.2 hF hM (exA.rf δ) H.2.2.2.2.2⟩
/-- a town saved -/
def sav (T : Tw) (r : Option Nat) (f : Nat → Int32) (σ : SS) (μ : MS) : Prop := simC T 2 σ ∧ σ.2.2.1 2 = r ∧ put2 f μ
theorem sav_cg {T : Tw} {r : Option Nat} {f : Nat → Int32} {σ σ' : SS} {μ μ' : MS} (h : sav T r f σ μ) (hC : F2 σ σ') (hM : μ'.2 2 = μ.2 2) : sav T r f σ' μ' :=
  ⟨simC_cg h.1 (fun k hk => hC.1 _ (by omega)) (fun j hj n hn => by rw [hC.2.1 _ (by omega)]), by rw [hC.2.2]; exact h.2.1, fun k hk => by rw [hM]; exact h.2.2 k hk⟩
theorem frM2 {μ μ' : MS} (h : frM μ μ') : μ'.2 2 = μ.2 2 := h.2.1 2 (by decide) (by decide)
theorem sav_fr {T : Tw} {r : Option Nat} {f : Nat → Int32} {σ σ' : SS} {μ μ' : MS} (h : sav T r f σ μ) (hC : frC σ σ') (hM : frM μ μ') : sav T r f σ' μ' := sav_cg h hC.F2 (frM2 hM)
theorem cor_id {T : Tw} {RS : Rls} {δ : DS} {σ : SS} {μ : MS} (hC : simC T 0 σ) (hM : simM T (μ.2 0)) (hI : Inv T) (hRI : rulI RS) (hH : hnd δ (σ.2.2.2 0) T) (hR : rulC δ (σ.2.2.1 0) RS) (hRM : rulM (μ.2 0) RS) : cor T (tS T) RS δ σ μ := ⟨⟨hC, hM⟩, ⟨hI, hRI⟩, ⟨hH, hR⟩, hRM⟩
theorem cor.M {T : Tw} {RS : Rls} {δ : DS} {σ : SS} {μ : MS} (h : cor T (tS T) RS δ σ μ) : simM T (μ.2 0) := h.1.2
/-- a trial of both begins -/
theorem trial_in {T : Tw} {RS : Rls} {δ : DS} {σ : SS} {μ : MS} (h : cor T (tS T) RS δ σ μ) : ∃ σ1 μ1, f3_become σ 2 0 = some σ1 ∧ m_puts 1000 μ = some μ1 ∧ cor T (tS T) RS δ σ1 μ1 ∧ sav T (σ.2.2.1 0) (μ.2 0) σ1 μ1 ∧ σ1.2.2.2 = σ.2.2.2 ∧ FC σ σ1 ∧ FM μ μ1 ∧ μ1.2 0 = μ.2 0 := by
  have hM := h.M
  obtain ⟨⟨hC, -⟩, ⟨hI, hRI⟩, ⟨hH, hR⟩, hRM⟩ := h
  obtain ⟨σ1, a1, a2, a3, a4, a5, a6, a7⟩ := trial_C hC
  obtain ⟨μ1, b1, b2, b3, b4⟩ := m_puts_eq μ (N := 1000) (by decide)
  exact ⟨σ1, μ1, a1, b1, cor_id a2 (by rw [b2]; exact hM) hI hRI (by rw [a6]; exact hH) (by rw [a4]; exact hR) (by rw [b2]; exact hRM), ⟨a3, a5, b3⟩, a6, a7, b4, b2⟩
/-- it ends -/
theorem trial_out {T : Tw} {RS : Rls} {δ : DS} {r : Option Nat} {f : Nat → Int32} {σ : SS} {μ : MS} (hS : sav T r f σ μ) (hM : simM T f) (hI : Inv T) (hRI : rulI RS) (hH : hnd δ (σ.2.2.2 0) T) (hR : rulC δ r RS) (hRM : rulM f RS) : ∃ σ3 μ3, f3_become σ 0 2 = some σ3 ∧ m_putsBack 1000 μ = some μ3 ∧ cor T (tS T) RS δ σ3 μ3 ∧ sav T r f σ3 μ3 ∧ σ3.2.2.2 = σ.2.2.2 ∧ FC σ σ3 ∧ FM μ μ3 := by
  obtain ⟨s1, s2, s3⟩ := hS
  obtain ⟨σ3, a1, a2, a3, a4, a5, a6, a7, a8⟩ := trial_B s1 (F2.rf σ)
  obtain ⟨μ3, b1, b2, b3, b4⟩ := m_back_eq s3 (N := 1000) (by decide)
  refine ⟨σ3, μ3, a1, b1, cor_id a2 ?_ hI hRI (by rw [a6]; exact hH) (by rw [a4, s2]; exact hR) ?_, ⟨a3, by rw [a5]; exact s2, b3⟩, a6, a7, b4⟩
  · exact simM_cg hM (fun i hi _ => b2 i (by omega))
  · exact rulM_cg hRM hRI (fun i hi _ => b2 i hi)
