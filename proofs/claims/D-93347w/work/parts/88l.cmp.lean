/-! PLAIN LAW: rules read from the tape: comparisons -/
set_option maxRecDepth 100000
theorem xb_inr {τ τ1 : Type} {nf1 : τ1 → Nat} {d : DS} {F : Option (XR τ1)} {K : τ1 → Option (XR τ)} {r : τ1} (h : F = some (.inr r)) (hd : d.2 ≤ nf1 r) : xb nf1 d F K = K r := by
  unfold xb
  rw [h, Option.bind_some, if_pos (show d.2 ≤ xnx nf1 (.inr r) from hd)]
  rfl
theorem xb_inl {τ τ1 : Type} {nf1 : τ1 → Nat} {d : DS} {F : Option (XR τ1)} {K : τ1 → Option (XR τ)} {y : Nat × SS × DS} (h : F = some (.inl y)) (hd : d.2 ≤ y.2.2.2) : xb nf1 d F K = some (.inl y) := by
  unfold xb
  rw [h, Option.bind_some, if_pos (show d.2 ≤ xnx nf1 (.inl y) from hd)]
  rfl
/-! codes that tell -/
theorem tells_ev {g : Nat → Int32} {a b : Nat} {ev ev' : (Nat → Int32) → Int32} (h : tells g a b ev) (he : ∀ fv, ev' fv = ev fv) : tells g a b ev' := by
  have : ev' = ev := funext he
  rw [this]; exact h
theorem tells_push {g : Nat → Int32} {a : Nat} {vf : (Nat → Int32) → Int32} (h : ¬ g a ≤ -10) (h2 : ∀ fv, facM (g a) fv = vf fv) : tells g a (a + 1) vf := by
  refine ⟨Nat.lt_succ_self _, fun fv s => ⟨(upd s.1 s.2 (facM (g a) fv), s.2 + 1), ?_, rfl, ?_, fun i hi => upd_ne (by omega)⟩⟩
  · rw [show a + 1 - a = 1 by omega]
    show (stp (g a) fv s).bind (rn g fv 0 (a + 1)) = _
    unfold stp
    rw [if_neg h]
    rfl
  · rw [← h2]
    exact upd_at _ _ _
theorem tells_op {g : Nat → Int32} {a b c : Nat} {va vb : (Nat → Int32) → Int32} (h1 : tells g a b va) (h2 : tells g b c vb) (h3 : g c ≤ -10) (h4 : g c ≠ -20) : tells g a (c + 1) (fun fv => if hldB (g c) (va fv) (vb fv) = true then 1 else 0) := by
  have l1 := h1.1
  have l2 := h2.1
  refine ⟨by omega, fun fv s => ?_⟩
  obtain ⟨t1, r1, r2, r3, r4⟩ := h1.2 fv s
  obtain ⟨t2, q1, q2, q3, q4⟩ := h2.2 fv t1
  rw [show c + 1 - a = (b - a) + ((c - b) + 1) by omega, rn_add, r1, Option.bind_some, rn_add, show a + (b - a) = b by omega, q1, Option.bind_some, show b + (c - b) = c by omega]
  refine ⟨(upd t2.1 (t2.2 - 2) (if hldB (g c) (t2.1 (t2.2 - 2)) (t2.1 (t2.2 - 1)) = true then 1 else 0), t2.2 - 1), ?_, ?_, ?_, fun i hi => ?_⟩
  · show (stp (g c) fv t2).bind (rn g fv 0 (c + 1)) = _
    unfold stp
    rw [if_pos h3, if_neg h4, if_neg (by omega)]
    rfl
  · show t2.2 - 1 = _
    omega
  · show upd t2.1 (t2.2 - 2) _ s.2 = _
    rw [show t2.2 - 2 = s.2 by omega, upd_at, show t2.2 - 1 = t1.2 by omega, q3, q4 s.2 (by omega), r3]
  · show upd t2.1 (t2.2 - 2) _ i = _
    rw [upd_ne (by omega), q4 i (by omega), r4 i hi]
theorem tells_not {g : Nat → Int32} {a b : Nat} {va : (Nat → Int32) → Int32} (h1 : tells g a b va) (h3 : g b = -20) : tells g a (b + 1) (fun fv => 1 - va fv) := by
  have l1 := h1.1
  refine ⟨by omega, fun fv s => ?_⟩
  obtain ⟨t1, r1, r2, r3, r4⟩ := h1.2 fv s
  rw [show b + 1 - a = (b - a) + 1 by omega, rn_add, r1, Option.bind_some, show a + (b - a) = b by omega]
  refine ⟨(upd t1.1 (t1.2 - 1) (1 - t1.1 (t1.2 - 1)), t1.2), ?_, r2, ?_, fun i hi => ?_⟩
  · show (stp (g b) fv t1).bind (rn g fv 0 (b + 1)) = _
    unfold stp
    rw [h3, if_pos (by decide), if_pos rfl, if_neg (by omega)]
    rfl
  · show upd t1.1 (t1.2 - 1) _ s.2 = _
    rw [show t1.2 - 1 = s.2 by omega, upd_at, r3]
  · show upd t1.1 (t1.2 - 1) _ i = _
    rw [upd_ne (by omega), r4 i hi]
/-! values -/
def pst (n : Nat) (t : Nat → Nat) (s e op cd : Nat) (σ : SS) (μ : MS) : Prop := st n t s e σ μ ∧ μ.1 27 = nI op ∧ μ.1 28 = nI cd
theorem writes_p {n : Nat} {t : Nat → Nat} {s e op cd : Nat} {σ : SS} {μ : MS} (h : pst n t s e op cd σ μ) (hc : cd < 200) (c : Int32) : ∃ μ', m_writes μ c = some μ' ∧ pst n t s e op (cd + 1) σ μ' ∧ (∀ i, i < 168 + cd → μ'.2 0 i = μ.2 0 i) ∧ μ'.2 0 (168 + cd) = c ∧ eM μ μ' := by
  obtain ⟨⟨h1, h2, h3, h4, h5, h6⟩, h7, h8⟩ := h
  have hA : ∀ x, (setA μ 0 x).2 10 = μ.2 10 := fun x => setA_o _ _ _ (by decide)
  refine ⟨stF (setA μ 0 (upd (μ.2 0) (168 + cd) c)) 28 (nI (cd + 1)), ?_, ⟨⟨tape_cg h1 rfl rfl (stF_ne (by decide)) (hA (upd (μ.2 0) (168 + cd) c)), h2, h3, (stF_ne (by decide)).trans h4, (stF_ne (by decide)).trans h5, (stF_ne (by decide)).trans h6⟩, (stF_ne (by decide)).trans h7, stF_at _ _ _⟩, fun i hi => ?_, ?_, fun k hk => stF_ne (by omega), fun j hj => setA_o _ _ _ hj⟩
  · unfold m_writes
    rw [if_pos h6, h8, show (168 : Int32) + nI cd = nI (168 + cd) from nN_add 168 cd, stM_n (by show 168 + cd < 368; omega) (by omega), Option.bind_some, Option.bind_some, show (setA μ 0 (upd (μ.2 0) (168 + cd) c)).1 28 = nI cd from h8, nI_1]
  · show (setA μ 0 (upd (μ.2 0) (168 + cd) c)).2 0 i = _
    rw [setA_at, upd_ne (by omega)]
  · show (setA μ 0 (upd (μ.2 0) (168 + cd) c)).2 0 (168 + cd) = _
    rw [setA_at, upd_at]
def vlo (vf : (Nat → Int32) → Int32) : Prop := ∀ fv fw : Nat → Int32, (∀ i, i < 5 → fv i = fw i) → vf fv = vf fw
/-- what both make of a value -/
def vRes (n : Nat) (t : Nat → Nat) (op s cd : Nat) (σ : SS) (μ : MS) (d : DS) (FC : Option (XR (Nat × SS × DS))) (FM : Option MS) : Prop := (∃ s' e' q d' σ' μ' vf, FC = some (.inr (q, σ', d')) ∧ FM = some μ' ∧ pst n t s' e' op (cd + 1) σ' μ' ∧ s + 1 ≤ s' ∧ (eC σ σ' ∧ eM μ μ' ∧ ∀ i, i < 168 + cd → μ'.2 0 i = μ.2 0 i) ∧ tells (fun i => μ'.2 0 (168 + i)) cd (cd + 1) vf ∧ valL d.2 d' q vf ∧ vlo vf ∧ grw d d' ∧ d'.2 = d.2 + 1) ∨ (∃ s' e' d' σ' μ', FC = some (.inl (2, σ', d')) ∧ FM = some μ' ∧ wr n s' e' μ' ∧ σ'.1 72 = nI s' ∧ (eC σ σ' ∧ eM μ μ') ∧ grw d d' ∧ d'.2 = d.2 + 1)
theorem pst_n {n : Nat} {t : Nat → Nat} {s e s' e' op cd : Nat} {σ σ' : SS} {μ μ' : MS} (h : pst n t s e op cd σ μ) (h' : st n t s' e' σ' μ') (hm : ∀ k, k = 27 ∨ k = 28 → μ'.1 k = μ.1 k) : pst n t s' e' op cd σ' μ' := ⟨h', (hm 27 (by decide)).trans h.2.1, (hm 28 (by decide)).trans h.2.2⟩
theorem val_both {n : Nat} {t : Nat → Nat} {s e op cd : Nat} {σ : SS} {μ : MS} (h : pst n t s e op cd σ μ) (hc : cd ≤ s) {d : DS} (hf : fresh d) : vRes n t op s cd σ μ d (f0_value 1000 σ d) (m_valueHere 1000 μ) := by
  have hn := h.1.1.1
  have hen := h.1.2.1.2.1
  obtain ⟨g1, g2, g3⟩ := grw_new hf 16 [.int 0, .int 0]
  rcases nameOf_eq h.1 (j := 2) (by decide) with ⟨i, hi, hw, hN⟩ | ⟨hw, hN⟩
  · have hi5 : i < 5 := hi
    have hlt : s < e := by
      have h1 := wl_len t s e
      have h2 := (nm_all ⟨9 + i, by omega⟩).2.2.1
      rw [show wl t s e = nm (9 + i) from hw] at h1
      have h2' : 1 ≤ (nm (9 + i)).length := h2
      omega
    rcases fact_M h.1 with ⟨i', hi', hw', hM⟩ | ⟨hw', -⟩
    · have ei : i = i' := by
        have := nm_in (i := 9 + i) (j := 9 + i') (by omega) (by omega) (hw.symm.trans hw')
        omega
      subst ei
      obtain ⟨s', e', σ', μ', z1, z2, z3, z4, z5, z6, z7⟩ := next_st h.1
      have hn' := z4.2.1.2.1
      have hs' := z4.2.1.1
      have hp' : pst n t s' e' op cd σ' μ' := pst_n h z4 (fun k hk => z6 k (by omega) (by omega) (by omega))
      obtain ⟨μ2, w1, w2, w3, w4, w5⟩ := writes_p hp' (by omega) (-1 - nI i)
      obtain ⟨d', b1, b2⟩ := i15 g1.2.1 g2 σ' (nI i) 0
      have hgr := grw_bui hf g1 b2
      refine Or.inl ⟨s', e', d.2, d', σ', μ2, fun fv => fv i, ?_, ?_, w2, by omega, ⟨z5.E, eM.tr ⟨fun k hk => z6 k (by omega) (by omega) (by omega), fun j hj => by rw [z7]⟩ w5, fun k hk => by rw [w3 k hk, z7]⟩, tells_push ?_ (fun fv => ?_), val_fact b2.1 (Nat.le_refl _) hi5, fun fv fw hh => hh i hi5, hgr, by rw [b2.2.2.1, g3]⟩
      · unfold f0_value
        rw [hN, z2, Option.bind_some, Option.bind_some]
        dsimp only
        rw [if_neg (nN_neg (by omega) : ¬ nI i < 0), Option.bind_some, b1]
        rfl
      · unfold m_valueHere
        rw [hM, Option.bind_some, if_neg (by rcases (show i = 0 ∨ i = 1 ∨ i = 2 ∨ i = 3 ∨ i = 4 by omega) with rfl | rfl | rfl | rfl | rfl <;> decide), z3, Option.bind_some, w1]
        rfl
      · show ¬ μ2.2 0 (168 + cd) ≤ -10
        rw [w4]
        rcases (show i = 0 ∨ i = 1 ∨ i = 2 ∨ i = 3 ∨ i = 4 by omega) with rfl | rfl | rfl | rfl | rfl <;> decide
      · show facM (μ2.2 0 (168 + cd)) fv = fv i
        rw [w4]
        rcases (show i = 0 ∨ i = 1 ∨ i = 2 ∨ i = 3 ∨ i = 4 by omega) with rfl | rfl | rfl | rfl | rfl <;> rfl
    · exact absurd hw (hw' i hi5)
  · have hM : m_factHere 1000 μ = some 0 := by
      rcases fact_M h.1 with ⟨i', hi', hw', -⟩ | ⟨-, hM⟩
      · exact absurd hw' (hw i' hi')
      · exact hM
    have eM0 : m_valueHere 1000 μ = (m_number 1000 μ (9999 : Int32)).bind fun r2 => (m_writes r2 (r2.1 26)).bind fun r3 => some r3 := by
      unfold m_valueHere
      rw [hM, Option.bind_some, if_pos (by decide), if_pos h.1.2.2.2.2.2]
    have eC0 : f0_value 1000 σ d = xb xnA (dNew d 16 [.int 0, .int 0]) (f0_figure 1000 σ (dNew d 16 [.int 0, .int 0])) fun r3 => (dMonV r3.2.2 (f15_init r3.2.1 r3.2.2 d.2 (-1 : Int32) r3.1)).bind fun r4 => some (Sum.inr (d.2, r4.1, r4.2)) := by
      unfold f0_value
      rw [hN, Option.bind_some]
      rfl
    rw [eC0, eM0]
    rcases number_both h.1 (A := 9999) (Nat.le_refl _) (dNew d 16 [.int 0, .int 0]) with ⟨v, s', e', σ', μ', y1, y2, y3, y4, y5, y6, y7, y8, y9, y10⟩ | ⟨v, σ', μ', y1, y2, -⟩ | ⟨μ', y1, y2, y3, y4, y5⟩
    · have hn' := y6.2.1.2.1
      have hs' := y6.2.1.1
      have hp' : pst n t s' e' op cd σ' μ' := pst_n h y6 (fun k hk => y9 k (by omega) (by omega) (by omega) (by omega))
      obtain ⟨μ2, w1, w2, w3, w4, w5⟩ := writes_p hp' (by omega) (nI v)
      obtain ⟨d', b1, b2⟩ := i15 g1.2.1 g2 σ' (-1) (nI v)
      have hgr := grw_bui hf g1 b2
      have hv0 : ¬ nI v < 0 := nN_neg (by omega)
      have hneg : ∀ c : Int32, c < 0 → nI v ≠ c := fun c hc hz => hv0 (hz ▸ hc)
      refine Or.inl ⟨s', e', d.2, d', σ', μ2, fun _ => nI v, ?_, ?_, w2, by omega, ⟨y7.E, eM.tr ⟨fun k hk => y9 k (by omega) (by omega) (by omega) (by omega), fun j hj => by rw [y10]⟩ w5, fun k hk => by rw [w3 k hk, y10]⟩, tells_push ?_ (fun fv => ?_), val_num b2.1 (Nat.le_refl _), fun fv fw hh => rfl, hgr, by rw [b2.2.2.1, g3]⟩
      · rw [xb_inr y4 (Nat.le_refl _)]
        dsimp only
        rw [b1]
        rfl
      · rw [show m_number 1000 μ (9999 : Int32) = some μ' from y5, Option.bind_some, y8, w1]
        rfl
      · show ¬ μ2.2 0 (168 + cd) ≤ -10
        rw [w4]
        intro z
        exact hv0 (Int32.lt_of_le_of_lt z (by decide))
      · show facM (μ2.2 0 (168 + cd)) fv = nI v
        rw [w4]
        unfold facM
        rw [if_neg (hneg _ (by decide)), if_neg (hneg _ (by decide)), if_neg (hneg _ (by decide)), if_neg (hneg _ (by decide)), if_neg (hneg _ (by decide))]
    · omega
    · refine Or.inr ⟨s, e, dNew d 16 [.int 0, .int 0], sI σ 72 (nI s), μ', xb_inl y1 (Nat.le_refl _), ?_, y3, sI_at _ _ _, ⟨eC72 σ _, ⟨fun k hk => y4 k (by omega) (by omega), fun j hj => by rw [y5]⟩⟩, g1, g3⟩
      rw [show m_number 1000 μ (9999 : Int32) = some μ' from y2, Option.bind_some, writes_w y3]
      rfl
theorem vhere_w {n s e : Nat} {μ : MS} (h : wr n s e μ) : m_valueHere 1000 μ = some μ := by
  unfold m_valueHere m_factHere
  rw [word_w h, Option.bind_some, if_neg (by decide), if_neg (by decide), if_neg (by decide), if_neg (by decide), if_neg (by decide), Option.bind_some, if_pos (by decide), h.2.2.2.2.2.2, if_neg (by decide)]
