/-! PLAIN LAW: rules told by what they mean; up to when deeds are undone -/
set_option maxRecDepth 100000
/-- rules: of what kind, whether they hold, what they do (0 early, 1 late, 2 spare), their number -/
abbrev Rls : Type := List (Nat × ((Nat → Int32) → Bool) × Nat × Nat)
/-- it asks the five facts alone -/
def locE (ev : (Nat → Int32) → Bool) : Prop := ∀ fv fw : Nat → Int32, (∀ i, i < 5 → fv i = fw i) → ev fv = ev fw
/-- what was made stays -/
def ext (δ δ' : DS) : Prop := ∀ q e, dl δ q = some e → (∀ t n a, e = .inl (t, n, a) → t = 8) → dl δ' q = some e
theorem ext.rf (δ : DS) : ext δ δ := fun _ _ h _ => h
theorem ext.tr {a b c : DS} (h : ext a b) (g : ext b c) : ext a c := fun q e h1 h2 => g q e (h q e h1 h2) h2
/-- a condition's object means ev, now and later -/
def cndC (δ : DS) (c : Nat) (ev : (Nat → Int32) → Bool) : Prop := ∀ δ', ext δ δ' → ∀ σ : SS, hHolds 80 δ' σ c = some (ev (σ.2.1 39))
def rulC (δ : DS) (r : Option Nat) (RS : Rls) : Prop := ∃ q g, r = some q ∧ dl δ q = some (.inl (8, RS.length, .inr (.inr (.inr (.inr g))))) ∧ ∀ k x, RS[k]? = some x → ∃ ro cv, g k = some ro ∧ dl δ ro = some (.inr (17, [.int (nI x.1), .int (nI x.2.2.1), .int (nI x.2.2.2), cv])) ∧ ((cv = .null ∧ ∀ fv, x.2.1 fv = true) ∨ ∃ c, cv = .ref c ∧ cndC δ c x.2.1)
def rulM (f : Nat → Int32) (RS : Rls) : Prop := f 1 = nI RS.length ∧ ∃ en : Nat → Nat, en 0 = 0 ∧ ∀ k x, RS[k]? = some x → (f (136 + 4 * k) = nI x.1 ∧ f (136 + 4 * k + 1) = nI x.2.2.1 ∧ f (136 + 4 * k + 2) = nI x.2.2.2 ∧ f (136 + 4 * k + 3) = nI (en (k + 1))) ∧ en (k + 1) ≤ 200 ∧ ((en k = en (k + 1) ∧ ∀ fv, x.2.1 fv = true) ∨ tells (fun i => f (168 + i)) (en k) (en (k + 1)) (fun fv => if x.2.1 fv = true then 1 else 0))
/-- rules as they can be -/
def rulI (RS : Rls) : Prop := RS.length ≤ 8 ∧ ∀ x ∈ RS, x.1 ≤ 5 ∧ locE x.2.1 ∧ x.2.2.1 ≤ 2 ∧ x.2.2.2 ≤ 99
theorem rulC_ext {δ δ' : DS} (h : ext δ δ') {r : Option Nat} {RS : Rls} (hR : rulC δ r RS) : rulC δ' r RS := by
  obtain ⟨q, g, h1, h2, h3⟩ := hR
  refine ⟨q, g, h1, h q _ h2 (fun t n a e => by cases e; rfl), fun k x hx => ?_⟩
  obtain ⟨ro, cv, a1, a2, a3⟩ := h3 k x hx
  refine ⟨ro, cv, a1, h ro _ a2 (fun t n a e => by cases e), ?_⟩
  rcases a3 with a3 | ⟨c, e, hc⟩
  · exact Or.inl a3
  · exact Or.inr ⟨c, e, fun δ'' h'' σ => hc δ'' (h.tr h'') σ⟩
def isOfN (k o : Nat) : Bool := decide (o = 0 ∨ o = k ∨ (o = 2 ∧ k = 3) ∨ (o = 4 ∧ k = 5))
/-- whether a rule is for somebody -/
def ruleFor (T : Tw) (p : Nat) (x : Nat × ((Nat → Int32) → Bool) × Nat × Nat) : Bool := isOfN (tA T 0 p) x.1 && x.2.1 (facts T p)
/-- the first rule for somebody, of those from a place on -/
def found (T : Tw) (p : Nat) (RS : Rls) : Option (Nat × ((Nat → Int32) → Bool) × Nat × Nat) := RS.find? (ruleFor T p)
theorem f_isOf_eq {k o : Nat} (hk : k ≤ 5) (ho : o ≤ 5) : f0_isOf (nI k) (nI o) = some (isOfN k o) := by
  have hk' : k = 0 ∨ k = 1 ∨ k = 2 ∨ k = 3 ∨ k = 4 ∨ k = 5 := by omega
  have ho' : o = 0 ∨ o = 1 ∨ o = 2 ∨ o = 3 ∨ o = 4 ∨ o = 5 := by omega
  rcases hk' with rfl | rfl | rfl | rfl | rfl | rfl <;> rcases ho' with rfl | rfl | rfl | rfl | rfl | rfl <;> decide
theorem m_isUnder_eq {k o : Nat} (hk : k ≤ 5) (ho : o ≤ 5) : m_isUnder (nI k) (nI o) = some (isOfN k o) := by
  have hk' : k = 0 ∨ k = 1 ∨ k = 2 ∨ k = 3 ∨ k = 4 ∨ k = 5 := by omega
  have ho' : o = 0 ∨ o = 1 ∨ o = 2 ∨ o = 3 ∨ o = 4 ∨ o = 5 := by omega
  rcases hk' with rfl | rfl | rfl | rfl | rfl | rfl <;> rcases ho' with rfl | rfl | rfl | rfl | rfl | rfl <;> decide
/-- whether a rule's object is for somebody -/
theorem f_isFor_eq {T : Tw} {δ : DS} {σ : SS} (hI : Inv T) {p ro : Nat} (hp : p < tP T) {x : Nat × ((Nat → Int32) → Bool) × Nat × Nat} {cv : Value} (hx : x.1 ≤ 5 ∧ locE x.2.1) (hf : ∀ i, i < 5 → σ.2.1 39 i = facts T p i) (h1 : dl δ ro = some (.inr (17, [.int (nI x.1), .int (nI x.2.2.1), .int (nI x.2.2.2), cv]))) (h2 : (cv = .null ∧ ∀ fv, x.2.1 fv = true) ∨ ∃ c, cv = .ref c ∧ cndC δ c x.2.1) : f19_isFor δ σ ro (nI (tA T 0 p)) = some (ruleFor T p x) := by
  have hk := (hI.2.1 p hp).1
  have e0 : dInt δ 17 0 ro = some (nI x.1) := by unfold dInt; rw [h1]; rfl
  unfold f19_isFor
  rw [e0]
  simp only [Option.bind_some]
  rw [f_isOf_eq hk.2 hx.1]
  simp only [Option.bind_some]
  unfold ruleFor
  by_cases hO : isOfN (tA T 0 p) x.1 = true
  · rw [if_pos hO, hO, Bool.true_and]
    rcases h2 with ⟨rfl, hev⟩ | ⟨c, rfl, hc⟩
    · have e3 : dRef δ 17 3 ro = some none := by unfold dRef; rw [h1]; rfl
      rw [e3, hev]
      rfl
    · have e3 : dRef δ 17 3 ro = some (some c) := by unfold dRef; rw [h1]; rfl
      have e4 : dRfn δ 17 3 ro = some c := by unfold dRfn; rw [e3]; rfl
      rw [e3, e4]
      simp only [Option.bind_some]
      rw [hc δ (ext.rf δ) σ, hx.2 _ _ hf]
      simp only [Option.bind_some, Option.isNone_some]
      cases x.2.1 (facts T p) <;> rfl
  · rw [if_neg hO]
    have : isOfN (tA T 0 p) x.1 = false := by cases h : isOfN (tA T 0 p) x.1 <;> simp_all
    rw [this, Bool.false_and]
/-- up to when deeds are undone, by the rule that was found -/
def reachV (T : Tw) (o : Option (Nat × ((Nat → Int32) → Bool) × Nat × Nat)) : Int32 := match o with
  | none => nI (tY T)
  | some x => if x.2.2.1 = 2 then -1 else if x.2.2.1 = 0 then nI (tY T) + nI x.2.2.2 else nI (tY T) - nI x.2.2.2
theorem drop_one {α : Type} {l : List α} {k : Nat} {x : α} (h : l[k]? = some x) : l.drop k = x :: l.drop (k + 1) := by
  obtain ⟨h1, h2⟩ := List.getElem?_eq_some_iff.mp h
  rw [List.drop_eq_getElem_cons h1, h2]
theorem f_reach_L {T : Tw} {δ : DS} {σ : SS} {RS : Rls} (hC : simC T 0 σ) (hI : Inv T) (hR : rulC δ (σ.2.2.1 0) RS) (hRI : rulI RS) {p : Nat} (hp : p < tP T) (hf : ∀ i, i < 5 → σ.2.1 39 i = facts T p i) (N : Nat) : ∀ (r k fuel : Nat), k + r = RS.length → r < fuel → f0_reachOf_L63 N δ fuel σ (nI p) (nI k) = some (reachV T ((RS.drop k).find? (ruleFor T p)), σ) := by
  have hp6 : tP T ≤ 6 := hI.1.1
  obtain ⟨q, g, h1, h2, h3⟩ := hR
  have hl8 := hRI.1
  have eln : dlnR δ q = some (nI RS.length) := by unfold dlnR; rw [h2]; rfl
  intro r
  induction r with
  | zero =>
    intro k fuel hk hfu
    obtain ⟨n, rfl⟩ : ∃ n, fuel = n + 1 := ⟨fuel - 1, by omega⟩
    show (σ.2.2.1 0).bind _ = _
    rw [h1]
    simp only [Option.bind_some]
    rw [eln]
    simp only [Option.bind_some]
    rw [if_pos ((nN_le (by omega) (by omega)).mpr (by omega)), List.drop_eq_nil_of_le (by omega), show σ.1 3 = nI (tY T) from hC.1.2.2.2.1]
    rfl
  | succ r ih =>
    intro k fuel hk hfu
    obtain ⟨n, rfl⟩ : ∃ n, fuel = n + 1 := ⟨fuel - 1, by omega⟩
    obtain ⟨x, hx⟩ : ∃ x, RS[k]? = some x := ⟨RS[k], List.getElem?_eq_getElem (by omega)⟩
    obtain ⟨ro, cv, a1, a2, a3⟩ := h3 k x hx
    have hxi := hRI.2 x (List.mem_of_getElem? hx)
    have eld : dld δ q (nI k) = some ro := by
      unfold dld
      rw [h2]
      show (if nI k < 0 ∨ RS.length ≤ (nI k).toNatClampNeg then none else g (nI k).toNatClampNeg) = some ro
      rw [nI_clamp (by omega), if_neg]
      · exact a1
      · rintro (h | h)
        · exact nN_neg (by omega) h
        · omega
    have ecl : dcl δ 17 ro = some () := by unfold dcl; rw [a2]; rfl
    have e1 : dInt δ 17 1 ro = some (nI x.2.2.1) := by unfold dInt; rw [a2]; rfl
    have e2 : dInt δ 17 2 ro = some (nI x.2.2.2) := by unfold dInt; rw [a2]; rfl
    show (σ.2.2.1 0).bind _ = _
    rw [h1]
    simp only [Option.bind_some]
    rw [eln]
    simp only [Option.bind_some]
    rw [if_neg (fun h => by have := (nN_le (by omega) (by omega)).mp h; omega), eld]
    simp only [Option.bind_some]
    rw [cP_kind hC (by omega)]
    simp only [Option.bind_some]
    rw [ecl]
    simp only [Option.bind_some]
    rw [f_isFor_eq hI hp ⟨hxi.1, hxi.2.1⟩ hf a2 a3]
    simp only [Option.bind_some]
    rw [drop_one hx, List.find?_cons]
    cases hfor : ruleFor T p x with
    | true =>
      rw [if_pos rfl, e1]
      simp only [Option.bind_some]
      unfold reachV
      (try dsimp only)
      by_cases hs : x.2.2.1 = 2
      · rw [if_pos hs, if_pos (by rw [hs]; rfl)]
      · rw [if_neg hs, if_neg (show ¬ nI x.2.2.1 = (2 : Int32) from fun h => hs ((nN_eq (b := 2) (by omega) (by decide)).mp h))]
        unfold f19_reaches
        rw [e1, e2]
        simp only [Option.bind_some]
        rw [show σ.1 3 = nI (tY T) from hC.1.2.2.2.1]
        by_cases h0 : x.2.2.1 = 0
        · rw [if_pos h0, if_pos (by rw [h0]; rfl)]
          rfl
        · rw [if_neg h0, if_neg (show ¬ nI x.2.2.1 = (0 : Int32) from fun h => h0 ((nN_eq (b := 0) (by omega) (by decide)).mp h))]
          rfl
    | false =>
      rw [if_neg (by decide), show nI k + 1 = nI (k + 1) from nI_1 k]
      exact ih (k + 1) n (by omega) (by omega)
theorem simC_39 {T : Tw} {t : Nat} {σ : SS} (ht : t < 3) (hC : simC T t σ) (f : Nat → Int32) : simC T t (sA σ 39 f) := by
  have e : ∀ j, j < 39 → (sA σ 39 f).2.1 j = σ.2.1 j := fun j hj => by show (if j = 39 then f else σ.2.1 j) = _; rw [if_neg (by omega)]
  refine ⟨hC.1, fun p hp => ?_, fun d hd => ?_, fun k hk => ?_, fun r hr => ?_⟩
  · rw [e _ (by omega), e _ (by omega), e _ (by omega)]; exact hC.2.1 p hp
  · rw [e _ (by omega), e _ (by omega), e _ (by omega), e _ (by omega), e _ (by omega)]; exact hC.2.2.1 d hd
  · rw [e _ (by omega)]; exact hC.2.2.2.1 k hk
  · rw [e _ (by omega), e _ (by omega), e _ (by omega), e _ (by omega)]; exact hC.2.2.2.2 r hr
theorem frC_39 (σ : SS) (f : Nat → Int32) : frC σ (sA σ 39 f) := ⟨rfl, fun j _ h => by show (if j = 39 then f else σ.2.1 j) = _; rw [if_neg h], fun _ _ => rfl⟩
theorem st_39 {σ : SS} {i : Nat} (hi : i < 5) (x : Int32) : stC σ 39 (nI i) x = some (sA σ 39 (upd (σ.2.1 39) i x)) := stC_n (by show i < 5; exact hi) (by omega)
theorem sA_39 (σ : SS) (f : Nat → Int32) : (sA σ 39 f).2.1 39 = f := by unfold sA; simp
/-- the component's reach: the facts are written, then the first rule for somebody says -/
theorem f_reach_eq {T : Tw} {δ : DS} {σ : SS} {RS : Rls} (hC : simC T 0 σ) (hI : Inv T) (hR : rulC δ (σ.2.2.1 0) RS) (hRI : rulI RS) {N p : Nat} (hN : 11 ≤ N) (hp : p < tP T) : ∃ σ', f0_reachOf N δ σ (nI p) = some (reachV T (found T p RS), σ') ∧ simC T 0 σ' ∧ frC σ σ' := by
  have hp6 : tP T ≤ 6 := hI.1.1
  have hl8 := hRI.1
  unfold f0_reachOf
  rw [show (0 : Int32) = nI 0 from rfl, st_39 (by decide)]
  simp only [Option.bind_some]
  generalize h1 : sA σ 39 (upd (σ.2.1 39) 0 (σ.1 3)) = σ1
  have c1 : simC T 0 σ1 := by rw [← h1]; exact simC_39 (by decide) hC _
  rw [f_stands_eq c1 hI hN (by omega)]
  simp only [Option.bind_some]
  rw [show (1 : Int32) = nI 1 from rfl, st_39 (by decide)]
  simp only [Option.bind_some]
  generalize h2 : sA σ1 39 (upd (σ1.2.1 39) 1 (nI (stands T p))) = σ2
  have c2 : simC T 0 σ2 := by rw [← h2]; exact simC_39 (by decide) c1 _
  rw [cP_grace c2 (by omega)]
  simp only [Option.bind_some]
  rw [show (2 : Int32) = nI 2 from rfl, st_39 (by decide)]
  simp only [Option.bind_some]
  generalize h3 : sA σ2 39 (upd (σ2.2.1 39) 2 (nI (tA T 1 p))) = σ3
  have c3 : simC T 0 σ3 := by rw [← h3]; exact simC_39 (by decide) c2 _
  rw [cP_strength c3 (by omega)]
  simp only [Option.bind_some]
  rw [show (3 : Int32) = nI 3 from rfl, st_39 (by decide)]
  simp only [Option.bind_some]
  generalize h4 : sA σ3 39 (upd (σ3.2.1 39) 3 (nI (tA T 2 p))) = σ4
  have c4 : simC T 0 σ4 := by rw [← h4]; exact simC_39 (by decide) c3 _
  rw [show (4 : Int32) = nI 4 from rfl, st_39 (by decide)]
  simp only [Option.bind_some]
  generalize h5 : sA σ4 39 (upd (σ4.2.1 39) 4 (nI p)) = σ5
  have c5 : simC T 0 σ5 := by rw [← h5]; exact simC_39 (by decide) c4 _
  have fr : frC σ σ5 := by
    have a1 : frC σ σ1 := by rw [← h1]; exact frC_39 _ _
    have a2 : frC σ1 σ2 := by rw [← h2]; exact frC_39 _ _
    have a3 : frC σ2 σ3 := by rw [← h3]; exact frC_39 _ _
    have a4 : frC σ3 σ4 := by rw [← h4]; exact frC_39 _ _
    have a5 : frC σ4 σ5 := by rw [← h5]; exact frC_39 _ _
    exact (((a1.tr a2).tr a3).tr a4).tr a5
  have ef : ∀ i, i < 5 → σ5.2.1 39 i = facts T p i := by
    intro i hi
    rw [← h5, sA_39, ← h4, sA_39, ← h3, sA_39, ← h2, sA_39, ← h1, sA_39, show σ.1 3 = nI (tY T) from hC.1.2.2.2.1]
    unfold upd facts
    rcases (show i = 0 ∨ i = 1 ∨ i = 2 ∨ i = 3 ∨ i = 4 by omega) with rfl | rfl | rfl | rfl | rfl <;> simp
  refine ⟨σ5, ?_, c5, fr⟩
  have hR5 : rulC δ (σ5.2.2.1 0) RS := by rw [fr.1]; exact hR
  have := f_reach_L c5 hI hR5 hRI hp ef N RS.length 0 N (by omega) (by omega)
  rw [List.drop_zero] at this
  exact this
