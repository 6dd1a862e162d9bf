/-! PLAIN LAW: rules read from the tape: a rule -/
set_option maxRecDepth 100000
/-- a rule's four cells and the count -/
def ruF (f : Nat → Int32) (c : Nat) (x1 x4 x5 x6 : Int32) : Nat → Int32 := upd (upd (upd (upd (upd f (136 + 4 * c) x1) (136 + 4 * c + 1) x4) (136 + 4 * c + 2) x5) (136 + 4 * c + 3) x6) 1 (nI (c + 1))
theorem ruF_at (f : Nat → Int32) (c : Nat) (x1 x4 x5 x6 : Int32) : ruF f c x1 x4 x5 x6 1 = nI (c + 1) ∧ ruF f c x1 x4 x5 x6 (136 + 4 * c) = x1 ∧ ruF f c x1 x4 x5 x6 (136 + 4 * c + 1) = x4 ∧ ruF f c x1 x4 x5 x6 (136 + 4 * c + 2) = x5 ∧ ruF f c x1 x4 x5 x6 (136 + 4 * c + 3) = x6 := by
  unfold ruF
  refine ⟨upd_at _ _ _, ?_, ?_, ?_, ?_⟩
  · rw [upd_ne (by omega), upd_ne (by omega), upd_ne (by omega), upd_ne (by omega), upd_at]
  · rw [upd_ne (by omega), upd_ne (by omega), upd_ne (by omega), upd_at]
  · rw [upd_ne (by omega), upd_ne (by omega), upd_at]
  · rw [upd_ne (by omega), upd_at]
theorem ruF_ne (f : Nat → Int32) (c : Nat) (x1 x4 x5 x6 : Int32) {i : Nat} (h1 : i ≠ 1) (h2 : i < 136 + 4 * c ∨ 136 + 4 * c + 4 ≤ i) : ruF f c x1 x4 x5 x6 i = f i := by
  unfold ruF
  rw [upd_ne h1, upd_ne (by omega), upd_ne (by omega), upd_ne (by omega), upd_ne (by omega)]
theorem store_eq {μ : MS} {c : Nat} {x1 x4 x5 : Int32} (hc : c < 8) (h1 : μ.2 0 1 = nI c) : ((ldM μ 0 (1 : Int32)).bind fun v2 => (stM μ 0 (((136 : Int32) + ((4 : Int32) * v2)) + (0 : Int32)) x1).bind fun μ3 => (stM μ3 0 (((136 : Int32) + ((4 : Int32) * v2)) + (1 : Int32)) x4).bind fun μ4 => (stM μ4 0 (((136 : Int32) + ((4 : Int32) * v2)) + (2 : Int32)) x5).bind fun μ5 => (stM μ5 0 (((136 : Int32) + ((4 : Int32) * v2)) + (3 : Int32)) (μ5.1 28)).bind fun μ6 => (ldM μ6 0 (1 : Int32)).bind fun v7 => (stM μ6 0 (1 : Int32) (v7 + (1 : Int32))).bind fun μ8 => some μ8) = some (setA μ 0 (ruF (μ.2 0) c x1 x4 x5 (μ.1 28))) := by
  have hl : ∀ μ' : MS, ldM μ' 0 (1 : Int32) = some (μ'.2 0 1) := fun μ' => by rw [show (1 : Int32) = nI 1 from rfl]; exact ldM_n (by decide) (by decide)
  have hs : ∀ (μ' : MS) (k : Nat) (x : Int32), k < 368 → stM μ' 0 (nI k) x = some (setA μ' 0 (upd (μ'.2 0) k x)) := fun μ' k x hk => stM_n (by show k < 368; exact hk) (by omega)
  have hi : ∀ k : Nat, ((136 : Int32) + ((4 : Int32) * nI c)) + nI k = nI (136 + 4 * c + k) := fun k => by rw [show (4 : Int32) = nI 4 from rfl, nN_mul, show (136 : Int32) = nI 136 from rfl, nN_add, nN_add]
  rw [hl, Option.bind_some, h1, show (0 : Int32) = nI 0 from rfl, hi, hs _ _ _ (by omega), Option.bind_some, show (1 : Int32) = nI 1 from rfl, hi, hs _ _ _ (by omega), Option.bind_some, show (2 : Int32) = nI 2 from rfl, hi, hs _ _ _ (by omega), Option.bind_some, show (3 : Int32) = nI 3 from rfl, hi, hs _ _ _ (by omega), Option.bind_some, show nI 1 = (1 : Int32) from rfl, hl, Option.bind_some]
  simp only [setA_0, setA_setA]
  have e1 : upd (upd (upd (upd (μ.2 0) (136 + 4 * c + 0) x1) (136 + 4 * c + 1) x4) (136 + 4 * c + 2) x5) (136 + 4 * c + 3) (μ.1 28) 1 = nI c := by rw [upd_ne (by omega), upd_ne (by omega), upd_ne (by omega), upd_ne (by omega), h1]
  show (stM _ 0 (1 : Int32) (upd (upd (upd (upd (μ.2 0) (136 + 4 * c + 0) x1) (136 + 4 * c + 1) x4) (136 + 4 * c + 2) x5) (136 + 4 * c + 3) (μ.1 28) 1 + (1 : Int32))).bind _ = _
  rw [e1, nI_1, show (1 : Int32) = nI 1 from rfl, hs _ _ _ (by decide), Option.bind_some, setA_0, setA_setA]
  rfl
/-- what both make of a rule, its condition apart -/
def tOk (n : Nat) (t : Nat → Nat) (s cd c k : Nat) (y0 : Option Nat) (σ : SS) (μ : MS) (d : DS) (FC : Option (XR (Nat × SS × DS))) (FM : Option MS) : Prop := ∃ s' e' ro d' σ' μ' w num, FC = some (.inr (ro, σ', d')) ∧ FM = some μ' ∧ pst n t s' e' 0 cd σ' μ' ∧ s + 1 ≤ s' ∧ (eC σ σ' ∧ eM μ μ') ∧ μ'.2 0 = ruF (μ.2 0) c (nI k) (nI w) (nI num) (nI cd) ∧ dl d' ro = some (.inr (17, [.int (nI k), .int (nI w), .int (nI num), va_rf y0])) ∧ (w ≤ 2 ∧ num ≤ 99) ∧ grw d d' ∧ d'.2 = d.2 + 1
theorem semi_both {n : Nat} {t : Nat → Nat} {s e cd c k w num : Nat} {y0 : Option Nat} {σ : SS} {μ : MS} {d : DS} (h : pst n t s e 0 cd σ μ) (hf : fresh d) (hc : c < 8) (h1 : μ.2 0 1 = nI c) (hw : w ≤ 2 ∧ num ≤ 99) : (tOk n t s cd c k y0 σ μ d (xb xnV d (f0_want 1000 σ d 20) fun r3 => (some (dNew r3.2 17 [.int 0, .int 0, .int 0, .null])).bind fun d4 => (dMonV d4 (f19_init r3.1 d4 r3.2.2 (nI k) y0 (nI w) (nI num))).bind fun r5 => some (Sum.inr (r3.2.2, r5.1, r5.2))) ((m_byteAt μ (μ.1 24)).bind fun r7 => (if r7 = (59 : Int32) then m_rule_B168 1000 μ (nI k) (nI w) (nI num) true else m_rule_B168 1000 μ (nI k) (nI w) (nI num) false))) ∨ eBad n s σ μ d (xb xnV d (f0_want 1000 σ d 20) fun r3 => (some (dNew r3.2 17 [.int 0, .int 0, .int 0, .null])).bind fun d4 => (dMonV d4 (f19_init r3.1 d4 r3.2.2 (nI k) y0 (nI w) (nI num))).bind fun r5 => some (Sum.inr (r3.2.2, r5.1, r5.2))) ((m_byteAt μ (μ.1 24)).bind fun r7 => (if r7 = (59 : Int32) then m_rule_B168 1000 μ (nI k) (nI w) (nI num) true else m_rule_B168 1000 μ (nI k) (nI w) (nI num) false)) := by
  have hn := h.1.1.1
  have hse := h.1.2.1.1
  have hen := h.1.2.1.2.1
  obtain ⟨v, q1, q2⟩ := par_both h.1 (k := 20) (c := 59) rfl rfl rfl (by decide)
  rw [q1, Option.bind_some, want_eq h.1 d (show 20 < 21 by decide)]
  by_cases cq : wl t s e = nm 20
  · have hlen : e - s = 1 := name_len (n := n) cq
    obtain ⟨s2, e2, σ2, μ2, c1, c2, c3, c4, c5, c6, c7⟩ := next_st h.1
    have hp2 : pst n t s2 e2 0 cd σ2 μ2 := pst_n h c4 (fun k hk => c6 k (by omega) (by omega) (by omega))
    obtain ⟨g1, g2, g3⟩ := grw_new hf 17 [.int 0, .int 0, .int 0, .null]
    obtain ⟨d4, i1, i2⟩ := i19 g1.2.1 g2 σ2 (nI k) y0 (nI w) (nI num)
    have hgr : grw d d4 := grw_bui hf g1 i2
    rw [if_pos (show v = 59 from q2.mpr cq), if_pos cq, c2]
    have eM0 : m_rule_B168 1000 μ (nI k) (nI w) (nI num) true = some (setA μ2 0 (ruF (μ2.2 0) c (nI k) (nI w) (nI num) (μ2.1 28))) := by
      unfold m_rule_B168
      rw [c3, Option.bind_some, if_pos c4.2.2.2.2.2]
      exact store_eq hc (by rw [c7]; exact h1)
    rw [eM0]
    refine Or.inl ⟨s2, e2, d.2, d4, σ2, setA μ2 0 (ruF (μ2.2 0) c (nI k) (nI w) (nI num) (μ2.1 28)), w, num, ?_, rfl, ⟨⟨tape_cg hp2.1.1 rfl rfl rfl (setA_o _ _ _ (by decide)), hp2.1.2.1, hp2.1.2.2.1, hp2.1.2.2.2⟩, hp2.2.1, hp2.2.2⟩, by omega, ⟨c5.E, fun j hj => c6 j (by omega) (by omega) (by omega), fun j hj => by rw [setA_o _ _ _ hj, c7]⟩, by rw [setA_0, hp2.2.2, c7], i2.1, hw, hgr, by rw [i2.2.2.1, g3]⟩
    rw [Option.bind_some, xb_inr (r := (σ2, d)) rfl (Nat.le_refl _), Option.bind_some]
    dsimp only
    rw [i1]
    rfl
  · obtain ⟨μ4, y1, y2, y3, y4⟩ := wants_f h.1
    rw [if_neg (show ¬ v = 59 from fun z => cq (q2.mp z)), if_neg cq]
    refine Or.inr ⟨s, e, d, sI σ 72 (nI s), μ4, xb_inl rfl (Nat.le_refl _), ?_, y2, sI_at _ _ _, ⟨eC72 _ _, ⟨fun k hk => y3 k (by omega), fun j hj => by rw [y4]⟩⟩, grw.rf hf, by omega⟩
    unfold m_rule_B168
    rw [y1, Option.bind_some, if_neg (by rw [y2.2.2.2.2.2.2]; decide)]
/-- wrong all the way -/
theorem B168_w {n s e : Nat} {μ : MS} (h : wr n s e μ) (x1 x4 x5 : Int32) (b : Bool) : ∃ μ', m_rule_B168 1000 μ x1 x4 x5 b = some μ' ∧ wr n s e μ' ∧ eM μ μ' := by
  obtain ⟨μ4, y1, y2, y3, y4⟩ := wants_w h b
  refine ⟨μ4, ?_, y2, fun k hk => y3 k (by omega), fun j hj => by rw [y4]⟩
  unfold m_rule_B168
  rw [y1, Option.bind_some, if_neg (by rw [y2.2.2.2.2.2.2]; decide)]
theorem B104_w {n s e : Nat} {μ : MS} (h : wr n s e μ) (x1 : Int32) (b : Bool) : ∃ μ', m_rule_B104 1000 μ x1 (-1) b = some μ' ∧ wr n s e μ' ∧ eM μ μ' := by
  obtain ⟨μ4, y1, y2, y3, y4⟩ := wants_w h b
  have y2' : wr n s e (stF μ4 26 0) := wr_cg y2 (stF_ne (by decide)) (stF_ne (by decide)) (stF_ne (by decide)) ((stF_ne (by decide)).trans y2.2.2.2.2.2.2)
  obtain ⟨μ5, z1, z2, z3⟩ := B168_w y2' x1 (-1) ((stF μ4 26 0).1 26) false
  refine ⟨μ5, ?_, z2, (eM.tr ⟨fun k hk => y3 k (by omega), fun j hj => by rw [y4]⟩ (eMs μ4 (k := 26) _ (by decide))).tr z3⟩
  unfold m_rule_B104
  rw [y1, Option.bind_some, Option.bind_some, if_pos (by decide), if_neg (by rw [y2'.2.2.2.2.2.2]; decide), z1]
theorem B49_w {n s e : Nat} {μ : MS} (h : wr n s e μ) (x1 : Int32) : ∃ μ', m_rule_B49 1000 μ x1 = some μ' ∧ wr n s e μ' ∧ eM μ μ' := by
  obtain ⟨μ', z1, z2, z3⟩ := B104_w h x1 false
  refine ⟨μ', ?_, z2, z3⟩
  unfold m_rule_B49
  rw [word_w h, Option.bind_some, if_neg (by decide), if_neg (by decide), if_neg (by decide), z1]
theorem pst_26 {n : Nat} {t : Nat → Nat} {s e op cd : Nat} {σ : SS} {μ : MS} (h : pst n t s e op cd σ μ) (x : Int32) : pst n t s e op cd σ (stF μ 26 x) := ⟨⟨tape_cg h.1.1 rfl rfl (stF_ne (by decide)) rfl, h.1.2.1, h.1.2.2.1, (stF_ne (by decide)).trans h.1.2.2.2.1, (stF_ne (by decide)).trans h.1.2.2.2.2.1, (stF_ne (by decide)).trans h.1.2.2.2.2.2⟩, (stF_ne (by decide)).trans h.2.1, (stF_ne (by decide)).trans h.2.2⟩
