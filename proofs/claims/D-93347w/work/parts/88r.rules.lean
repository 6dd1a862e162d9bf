/-! PLAIN LAW: rules read from the tape: all of them -/
set_option maxRecDepth 100000
abbrev rE : Type := Nat × ((Nat → Int32) → Bool) × Nat × Nat
theorem app_get {RS : Rls} {x y : rE} {k : Nat} (h : (RS ++ [x])[k]? = some y) : (k < RS.length ∧ RS[k]? = some y) ∨ (k = RS.length ∧ y = x) := by
  by_cases hk : k < RS.length
  · rw [List.getElem?_append_left hk] at h
    exact Or.inl ⟨hk, h⟩
  · rw [List.getElem?_append_right (by omega)] at h
    by_cases e : k - RS.length = 0
    · rw [e] at h
      exact Or.inr ⟨by omega, by simpa using h.symm⟩
    · rw [List.getElem?_eq_none (by show 1 ≤ _; omega)] at h
      cases h
def cInv (δ : DS) (q0 : Nat) (RS : Rls) : Prop := ∃ g, dl δ q0 = some (.inl (8, 8, .inr (.inr (.inr (.inr g))))) ∧ ∀ k x, RS[k]? = some x → ∃ ro cv, g k = some ro ∧ dl δ ro = some (.inr (17, [.int (nI x.1), .int (nI x.2.2.1), .int (nI x.2.2.2), cv])) ∧ ((cv = .null ∧ ∀ fv, x.2.1 fv = true) ∨ ∃ q, cv = .ref q ∧ cndL 0 δ 70 q x.2.1)
def mInv (f : Nat → Int32) (RS : Rls) (cd : Nat) : Prop := f 1 = nI RS.length ∧ ∃ en : Nat → Nat, en 0 = 0 ∧ en RS.length = cd ∧ (∀ k, k ≤ RS.length → en k ≤ cd) ∧ ∀ k x, RS[k]? = some x → (f (136 + 4 * k) = nI x.1 ∧ f (136 + 4 * k + 1) = nI x.2.2.1 ∧ f (136 + 4 * k + 2) = nI x.2.2.2 ∧ f (136 + 4 * k + 3) = nI (en (k + 1))) ∧ en (k + 1) ≤ 200 ∧ ((en k = en (k + 1) ∧ ∀ fv, x.2.1 fv = true) ∨ tells (fun i => f (168 + i)) (en k) (en (k + 1)) (fun fv => if x.2.1 fv = true then 1 else 0))
theorem mInv_M {f : Nat → Int32} {RS : Rls} {cd : Nat} (h : mInv f RS cd) : rulM f RS := by
  obtain ⟨h1, en, h2, h3, h4, h5⟩ := h
  exact ⟨h1, en, h2, h5⟩
theorem mInv_push {f f' : Nat → Int32} {RS : Rls} {cd cd' : Nat} {x : rE} (h : mInv f RS cd) (hc : RS.length < 8) (hcd : cd ≤ cd' ∧ cd' ≤ 200) (hfr : ∀ i, i ≠ 1 → i < 168 + cd → (i < 136 + 4 * RS.length ∨ 136 + 4 * RS.length + 4 ≤ i) → f' i = f i) (hn : f' 1 = nI (RS.length + 1) ∧ f' (136 + 4 * RS.length) = nI x.1 ∧ f' (136 + 4 * RS.length + 1) = nI x.2.2.1 ∧ f' (136 + 4 * RS.length + 2) = nI x.2.2.2 ∧ f' (136 + 4 * RS.length + 3) = nI cd') (hx : ((∀ fv, x.2.1 fv = true) ∧ cd = cd') ∨ tells (fun i => f' (168 + i)) cd cd' (fun fv => if x.2.1 fv = true then 1 else 0)) : mInv f' (RS ++ [x]) cd' := by
  obtain ⟨h1, en, h2, h3, h4, h5⟩ := h
  have hlen : (RS ++ [x]).length = RS.length + 1 := by simp
  refine ⟨by rw [hlen]; exact hn.1, fun k => if k ≤ RS.length then en k else cd', (if_pos (Nat.zero_le _)).trans h2, by rw [hlen]; exact if_neg (by omega), fun k hk => ?_, fun k y hy => ?_⟩
  · show (if k ≤ RS.length then en k else cd') ≤ cd'
    split
    · rename_i h; exact Nat.le_trans (h4 k h) hcd.1
    · exact Nat.le_refl _
  · show (f' (136 + 4 * k) = nI y.1 ∧ f' (136 + 4 * k + 1) = nI y.2.2.1 ∧ f' (136 + 4 * k + 2) = nI y.2.2.2 ∧ f' (136 + 4 * k + 3) = nI (if k + 1 ≤ RS.length then en (k + 1) else cd')) ∧ (if k + 1 ≤ RS.length then en (k + 1) else cd') ≤ 200 ∧ (((if k ≤ RS.length then en k else cd') = (if k + 1 ≤ RS.length then en (k + 1) else cd') ∧ ∀ fv, y.2.1 fv = true) ∨ tells (fun i => f' (168 + i)) (if k ≤ RS.length then en k else cd') (if k + 1 ≤ RS.length then en (k + 1) else cd') (fun fv => if y.2.1 fv = true then 1 else 0))
    rcases app_get hy with ⟨hk, hy'⟩ | ⟨rfl, rfl⟩
    · rw [if_pos (by omega : k + 1 ≤ RS.length), if_pos (by omega : k ≤ RS.length)]
      obtain ⟨⟨a1, a2, a3, a4⟩, a5, a6⟩ := h5 k y hy'
      have hle := h4 (k + 1) (by omega)
      refine ⟨⟨by rw [hfr _ (by omega) (by omega) (by omega)]; exact a1, by rw [hfr _ (by omega) (by omega) (by omega)]; exact a2, by rw [hfr _ (by omega) (by omega) (by omega)]; exact a3, by rw [hfr _ (by omega) (by omega) (by omega)]; exact a4⟩, a5, ?_⟩
      rcases a6 with a6 | a6
      · exact Or.inl a6
      · exact Or.inr (tells_cg a6 (fun i g1 g2 => hfr _ (by omega) (by omega) (by omega)))
    · rw [if_neg (by omega : ¬ RS.length + 1 ≤ RS.length), if_pos (Nat.le_refl _), h3]
      refine ⟨hn.2, hcd.2, ?_⟩
      rcases hx with ⟨g1, g2⟩ | g
      · exact Or.inl ⟨g2, g1⟩
      · exact Or.inr g
theorem agL_lo {lo lo' : Nat} {a b : DS} (h : agL lo a b) (hl : lo ≤ lo') : agL lo' a b := fun q e hq he => h q e (by omega) he
theorem dRa_eq {δ : DS} {q n : Nat} {g : Nat → Option Nat} (h : dl δ q = some (.inl (8, n, .inr (.inr (.inr (.inr g)))))) : dRa δ q = some (n, g) := by
  unfold dRa
  rw [h]
  rfl
theorem cInv_push {d d3 : DS} {q0 ro : Nat} {RS : Rls} {x : rE} {cv : Value} (h : cInv d q0 RS) (hg : grw d d3) (hc : RS.length < 8) (hro : dl d3 ro = some (.inr (17, [.int (nI x.1), .int (nI x.2.2.1), .int (nI x.2.2.2), cv]))) (hx : (cv = .null ∧ ∀ fv, x.2.1 fv = true) ∨ ∃ q, cv = .ref q ∧ cndL d.2 d3 70 q x.2.1) : ∃ d4 e, dStR d3 q0 (nI RS.length) ro = some d4 ∧ bui d3 q0 e d4 ∧ cInv d4 q0 (RS ++ [x]) := by
  obtain ⟨g, h1, h2⟩ := h
  have h1' := hg.1 _ _ h1
  have e4 : ∀ q', dl (dSet d3 q0 (.inl (8, 8, .inr (.inr (.inr (.inr (va_up g RS.length (some ro)))))))) q' = if q' = q0 then some (.inl (8, 8, .inr (.inr (.inr (.inr (va_up g RS.length (some ro))))))) else dl d3 q' := fun q' => dl_dSet h1' q'
  have hag : ∀ c, agL 0 (dSet d3 q0 (.inl (8, 8, .inr (.inr (.inr (.inr (va_up g RS.length (some ro)))))))) c → agL 0 d3 c := fun c hc q e hq he => hc q e hq (by
    rw [e4, if_neg (fun z => by rw [z, h1'] at he; cases he)]
    exact he)
  refine ⟨dSet d3 q0 (.inl (8, 8, .inr (.inr (.inr (.inr (va_up g RS.length (some ro))))))), .inl (8, 8, .inr (.inr (.inr (.inr (va_up g RS.length (some ro)))))), ?_, ⟨by rw [e4, if_pos rfl], fun q' hq => by rw [e4, if_neg hq], rfl, fresh_dSet hg.2.1 h1'⟩, ⟨va_up g RS.length (some ro), by rw [e4, if_pos rfl], fun k y hy => ?_⟩⟩
  · unfold dStR
    rw [dRa_eq h1', Option.bind_some]
    dsimp only
    rw [if_pos ⟨fun z => by
      rcases z with z | z
      · exact nN_neg (by omega) z
      · rw [nI_clamp (by omega)] at z
        omega, by unfold dci; rw [hro]⟩, nI_clamp (by omega)]
  · rcases app_get hy with ⟨hk, hy'⟩ | ⟨rfl, rfl⟩
    · obtain ⟨ro', cv', a1, a2, a3⟩ := h2 k y hy'
      have a2' := hg.1 _ _ a2
      refine ⟨ro', cv', ?_, ?_, ?_⟩
      · show (if k = RS.length then some ro else g k) = _
        rw [if_neg (by omega)]
        exact a1
      · rw [e4, if_neg (fun z => by rw [z, h1'] at a2'; cases a2')]
        exact a2'
      · rcases a3 with a3 | ⟨q, a3, a4⟩
        · exact Or.inl a3
        · exact Or.inr ⟨q, a3, a4.mono (fun c hc => agL_grw hg (hag c hc)) (Nat.le_refl _)⟩
    · refine ⟨ro, cv, ?_, ?_, ?_⟩
      · show (if RS.length = RS.length then some ro else g RS.length) = _
        rw [if_pos rfl]
      · rw [e4, if_neg (fun z => by rw [z, h1'] at hro; cases hro)]
        exact hro
      · rcases hx with hx | ⟨q, a3, a4⟩
        · exact Or.inl hx
        · exact Or.inr ⟨q, a3, a4.mono (fun c hc => agL_lo (hag c hc) (Nat.zero_le _)) (Nat.le_refl _)⟩
/-- the rules' array is copied to its length -/
theorem cInv_copy {d : DS} {q0 : Nat} {RS : Rls} (h : cInv d q0 RS) (hf : fresh d) (hc : RS.length ≤ 8) : ∃ d1 d2, dNewA d (nI RS.length) = some d1 ∧ dCpR d1 q0 (0 : Int32) d.2 (0 : Int32) (nI RS.length) = some d2 ∧ rulC d2 (some d.2) RS ∧ grw d d2 ∧ d2.2 = d.2 + 1 ∧ dlnR d2 d.2 = some (nI RS.length) := by
  obtain ⟨g, h1, h2⟩ := h
  have hq0 : q0 < d.2 := dl_mem h1 hf
  have hcl : (nI RS.length).toNatClampNeg = RS.length := nI_clamp (by omega)
  have hneg : ¬ nI RS.length < 0 := nN_neg (by omega)
  obtain ⟨d1, hd1⟩ : ∃ d1 : DS, d1 = (d.1 ++ [(d.2, .inl (8, RS.length, .inr (.inr (.inr (.inr (fun _ => none))))))], d.2 + 1) := ⟨_, rfl⟩
  have n1 : dl d1 d.2 = some (.inl (8, RS.length, .inr (.inr (.inr (.inr (fun _ => none)))))) := by rw [hd1]; exact dl_last hf
  have x1 : exA d d1 := by rw [hd1]; exact exA_app
  have f1 : fresh d1 := by rw [hd1]; exact fresh_app hf (Nat.lt_succ_self _)
  have m1 : d1.2 = d.2 + 1 := by rw [hd1]
  have e0 : dNewA d (nI RS.length) = some d1 := by
    unfold dNewA
    rw [hcl, if_neg (by rintro (z | z); exact hneg z; omega), hd1]
  have hcp : ∀ k, k < RS.length → va_cpy g (fun _ => (none : Option Nat)) 0 0 RS.length k = g k := fun k hk => by
    unfold va_cpy
    rw [if_pos ⟨Nat.zero_le _, by omega⟩, Nat.zero_add, Nat.sub_zero]
  obtain ⟨d2, hd2⟩ : ∃ d2 : DS, d2 = dSet d1 d.2 (.inl (8, RS.length, .inr (.inr (.inr (.inr (va_cpy g (fun _ => (none : Option Nat)) 0 0 RS.length)))))) := ⟨_, rfl⟩
  have hb : bui d1 d.2 (.inl (8, RS.length, .inr (.inr (.inr (.inr (va_cpy g (fun _ => (none : Option Nat)) 0 0 RS.length)))))) d2 := by
    rw [hd2]
    exact ⟨by rw [dl_dSet n1, if_pos rfl], fun q' hq => by rw [dl_dSet n1, if_neg hq], rfl, fresh_dSet f1 n1⟩
  have hgr : grw d d2 := grw_bui hf ⟨x1, f1, by omega⟩ hb
  refine ⟨d1, d2, e0, ?_, ⟨d.2, _, rfl, hb.1, fun k x hx => ?_⟩, hgr, by rw [hb.2.2.1, m1], ?_⟩
  · unfold dCpR
    rw [dRa_eq (x1 _ _ h1), Option.bind_some, dRa_eq n1, Option.bind_some]
    dsimp only
    have hall : ∀ i, i < RS.length → (match g (0 + i) with | none => true | some q => decide (dci d1 q = some 17)) = true := fun i hi => by
      obtain ⟨ro, cv, a1, a2, a3⟩ := h2 i RS[i] (List.getElem?_eq_getElem hi)
      rw [Nat.zero_add, a1]
      show decide (dci d1 ro = some 17) = true
      rw [decide_eq_true_eq]
      unfold dci
      rw [x1 _ _ a2]
    rw [hcl, show (0 : Int32).toNatClampNeg = 0 from rfl, if_pos ⟨⟨by decide, by decide, hneg, by omega, by omega⟩, hall⟩, hd2]
  · have hk : k < RS.length := (List.getElem?_eq_some_iff.mp hx).1
    obtain ⟨ro, cv, a1, a2, a3⟩ := h2 k x hx
    refine ⟨ro, cv, by rw [hcp k hk]; exact a1, hgr.1 _ _ a2, ?_⟩
    rcases a3 with a3 | ⟨q, a3, a4⟩
    · exact Or.inl a3
    · exact Or.inr ⟨q, a3, cndL_C (a4.mono (lo' := 0) (b := d2) (fun c hc => agL_grw hgr hc) (Nat.le_refl _)) (by decide)⟩
  · unfold dlnR
    rw [hb.1]
    rfl
