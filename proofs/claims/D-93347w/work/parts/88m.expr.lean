/-! PLAIN LAW: rules read from the tape: expressions -/
set_option maxRecDepth 100000
def bN (x : Bool) : Nat := if x = true then 1 else 0
/-- what both make of a condition -/
def eOk (n : Nat) (t : Nat → Nat) (op : Nat) (x : Bool) (s cd : Nat) (σ : SS) (μ : MS) (d : DS) (FC : Option (XR (Nat × SS × DS))) (FM : Option MS) : Prop := ∃ s' e' cd' q d' σ' μ' ev dep, FC = some (.inr (q, σ', d')) ∧ FM = some μ' ∧ pst n t s' e' op cd' σ' μ' ∧ (s + 3 * dep ≤ s' ∧ 1 ≤ dep ∧ cd < cd' ∧ cd' + s ≤ cd + s' + bN x) ∧ (eC σ σ' ∧ eM μ μ' ∧ ∀ i, i < 168 + cd → μ'.2 0 i = μ.2 0 i) ∧ tells (fun i => μ'.2 0 (168 + i)) cd cd' (fun fv => if (x ^^ ev fv) = true then 1 else 0) ∧ cndL d.2 d' dep q ev ∧ locE ev ∧ grw d d' ∧ d'.2 + 4 * s ≤ d.2 + 4 * s'
def eBad (n : Nat) (s : Nat) (σ : SS) (μ : MS) (d : DS) (FC : Option (XR (Nat × SS × DS))) (FM : Option MS) : Prop := ∃ s' e' d' σ' μ', FC = some (.inl (2, σ', d')) ∧ FM = some μ' ∧ wr n s' e' μ' ∧ σ'.1 72 = nI s' ∧ (eC σ σ' ∧ eM μ μ') ∧ grw d d' ∧ d'.2 + 4 * s ≤ d.2 + 4 * n + 8
def eRes (n : Nat) (t : Nat → Nat) (op : Nat) (x : Bool) (s cd : Nat) (σ : SS) (μ : MS) (d : DS) (FC : Option (XR (Nat × SS × DS))) (FM : Option MS) : Prop := eOk n t op x s cd σ μ d FC FM ∨ eBad n s σ μ d FC FM
/-- a not that was kept back -/
theorem not_back {n : Nat} {t : Nat → Nat} {op s cd : Nat} {σ : SS} {μ : MS} {d : DS} {FC : Option (XR (Nat × SS × DS))} {FM : Option MS} (h : eRes n t op false s cd σ μ d FC FM) (x : Bool) (hc : cd + bN x ≤ s) : eRes n t op x s cd σ μ d FC (FM.bind fun r5 => (if x = true then (m_writes r5 (-20 : Int32)).bind fun r6 => some r6 else some r5)) := by
  cases x with
  | false =>
    have e : (FM.bind fun r5 => (if false = true then (m_writes r5 (-20 : Int32)).bind fun r6 => some r6 else some r5)) = FM := by
      cases FM <;> rfl
    rw [e]
    exact h
  | true =>
    have hc' : cd + 1 ≤ s := hc
    rcases h with ⟨s', e', cd', q, d', σ', μ', ev, dep, h1, h2, h3, ⟨h4, h5, h6, h7⟩, ⟨h8, h9, h10⟩, h11, h12⟩ | ⟨s', e', d', σ', μ', h1, h2, h3⟩
    · have h7' : cd' + s ≤ cd + s' := h7
      have hn := h3.1.1.1
      have hs' := h3.1.2.1.1
      have hn' := h3.1.2.1.2.1
      obtain ⟨μ2, w1, w2, w3, w4, w5⟩ := writes_p h3 (by omega) (-20)
      refine Or.inl ⟨s', e', cd' + 1, q, d', σ', μ2, ev, dep, h1, ?_, w2, ⟨h4, h5, by omega, ?_⟩, ⟨h8, h9.tr w5, fun i hi => (w3 i (by omega)).trans (h10 i hi)⟩, ?_, h12⟩
      · rw [h2, Option.bind_some, if_pos rfl, w1]
        rfl
      · show cd' + 1 + s ≤ cd + s' + 1
        omega
      · refine tells_ev (tells_not (tells_cg h11 (fun i h1 h2 => w3 _ (by omega))) w4) (fun fv => ?_)
        show (if (true ^^ ev fv) = true then (1 : Int32) else 0) = 1 - (if (false ^^ ev fv) = true then 1 else 0)
        cases ev fv <;> rfl
    · refine Or.inr ⟨s', e', d', σ', μ', h1, ?_, h3⟩
      rw [h2, Option.bind_some, if_pos rfl, writes_w h3.1]
      rfl
def cmpC (σ : SS) (d : DS) (k : SS → DS → Int32 → Option (XR (Nat × SS × DS))) : Option (XR (Nat × SS × DS)) := xb xnA d (f0_value 1000 σ d) fun r2 => (if ((r2.2.1.1 43) - (r2.2.1.1 42)) = (1 : Int32) then (ldC r2.2.1 46 (r2.2.1.1 42)).bind fun v3 => f0_oneOf_B86 1000 k r2.2.1 r2.2.2 r2.1 v3 else f0_oneOf_B86 1000 k r2.2.1 r2.2.2 r2.1 (-1 : Int32))
theorem ops_all : ∀ b : Fin 256, ((sgB b.val = 60 ↔ b.val = 60) ∧ (sgB b.val = 61 ↔ b.val = 61) ∧ (sgB b.val = 62 ↔ b.val = 62)) ∧ ((nI b.val = 60 ↔ b.val = 60) ∧ (nI b.val = 61 ↔ b.val = 61) ∧ (nI b.val = 62 ↔ b.val = 62)) := by decide +kernel
/-- what is where a sign is asked for: the same sign, or none -/
theorem sign_both {n : Nat} {t : Nat → Nat} {s e : Nat} {σ : SS} {μ : MS} (h : st n t s e σ μ) : (∃ o : Nat, (o = 60 ∨ o = 61 ∨ o = 62) ∧ s < e ∧ ((σ.1 43 - σ.1 42) = (1 : Int32) ∧ ldC σ 46 (σ.1 42) = some (nI o)) ∧ m_byteAt μ (μ.1 24) = some (nI o)) ∨ ∃ v w : Int32, (if (σ.1 43 - σ.1 42) = (1 : Int32) then ldC σ 46 (σ.1 42) else some (-1)) = some v ∧ (v ≠ 60 ∧ v ≠ 61 ∧ v ≠ 62) ∧ m_byteAt μ (μ.1 24) = some w ∧ (w ≠ 60 ∧ w ≠ 61 ∧ w ≠ 62) := by
  have hn := h.1.1
  have hen := h.2.1.2.1
  have hse := h.2.1.1
  have hb := byteAt_eq h.1 (i := s) (by omega)
  rw [h.2.2.1.1, h.2.2.1.2, h.2.2.2.1, hb, nN_sub hse]
  by_cases hlt : s < e
  · obtain ⟨b1, b2, b3⟩ := h.1.2.2.2 s (by omega)
    have hld : ldC σ 46 (nI s) = some (sgB (t s)) := by rw [ldC_n (by show s < 200; omega) (by omega), b2]
    obtain ⟨⟨o1, o2, o3⟩, o4, o5, o6⟩ := ops_all ⟨t s, b1⟩
    rw [if_pos (by omega : s < n), hld]
    by_cases ho : t s = 60 ∨ t s = 61 ∨ t s = 62
    · have he1 : e - s = 1 := by
        rcases h.2.1.2.2 with c | ⟨-, c | c | c⟩
        · omega
        · have := isL_le (c s (Nat.le_refl _) hlt); omega
        · have := isG_le (c s (Nat.le_refl _) hlt); omega
        · omega
      refine Or.inl ⟨t s, ho, hlt, ⟨by rw [he1]; rfl, ?_⟩, rfl⟩
      rcases ho with g | g | g <;> rw [g] <;> rfl
    · refine Or.inr ⟨if nI (e - s) = (1 : Int32) then sgB (t s) else -1, nI (t s), ?_, ?_, rfl, ⟨fun z => ho (Or.inl (o4.mp z)), fun z => ho (Or.inr (Or.inl (o5.mp z))), fun z => ho (Or.inr (Or.inr (o6.mp z)))⟩⟩
      · split <;> rfl
      · split
        · exact ⟨fun z => ho (Or.inl (o1.mp z)), fun z => ho (Or.inr (Or.inl (o2.mp z))), fun z => ho (Or.inr (Or.inr (o3.mp z)))⟩
        · decide
  · refine Or.inr ⟨-1, if s < n then nI (t s) else -1, ?_, by decide, rfl, ?_⟩
    · rw [if_neg (fun z => by have := (nN_eq (a := e - s) (b := 1) (by omega) (by decide)).mp z; omega)]
    · have hsn : ¬ s < n := by rcases h.2.1.2.2 with c | c <;> omega
      rw [if_neg hsn]
      decide
theorem B86_eq (k : SS → DS → Int32 → Option (XR (Nat × SS × DS))) (σ : SS) (d : DS) (q : Nat) {o : Nat} (ho : o = 60 ∨ o = 61 ∨ o = 62) : f0_oneOf_B86 1000 k σ d q (nI o) = (f0_next 1000 σ).bind fun r1 => xb xnA (dNew d 13 [.null, .null, .int 0]) (f0_value 1000 r1 (dNew d 13 [.null, .null, .int 0])) fun r3 => (dMonV r3.2.2 (f16_init r3.2.1 r3.2.2 d.2 q (nI o) r3.1)).bind fun r4 => some (Sum.inr (d.2, r4.1, r4.2)) := by
  rcases ho with rfl | rfl | rfl <;> rfl
theorem B23_eq (μ : MS) {o : Nat} (ho : o = 60 ∨ o = 61 ∨ o = 62) : m_comparison_B23 1000 μ (nI o) = (m_wants 1000 μ true).bind fun r1 => (m_valueHere 1000 r1).bind fun r2 => m_writes r2 (-11 - (nI (o - 60))) := by
  rcases ho with rfl | rfl | rfl
  · show ((m_wants 1000 μ true).bind fun r1 => (m_valueHere 1000 r1).bind fun r2 => (m_writes r2 (-11 : Int32)).bind fun r5 => some r5) = _
    simp only [bnd_id]
    rfl
  · show ((m_wants 1000 μ true).bind fun r1 => (m_valueHere 1000 r1).bind fun r2 => (m_writes r2 (-12 : Int32)).bind fun r5 => some r5) = _
    simp only [bnd_id]
    rfl
  · show ((m_wants 1000 μ true).bind fun r1 => (m_valueHere 1000 r1).bind fun r2 => (m_writes r2 (-13 : Int32)).bind fun r5 => some r5) = _
    simp only [bnd_id]
    rfl
theorem hld_cmp {o : Nat} (ho : o = 60 ∨ o = 61 ∨ o = 62) (x y : Int32) : hldB (-11 - nI (o - 60)) x y = cmpB (nI o) x y := by
  have h := hld_some (-11 - nI (o - 60)) x y
  have g : m_isHolding (-11 - nI (o - 60)) x y = some (cmpB (nI o) x y) := by
    rcases ho with rfl | rfl | rfl
    · show (if y ≤ x then some false else some true) = some (decide (x < y))
      by_cases c : y ≤ x
      · rw [if_pos c, decide_eq_false (by rw [Int32.not_lt]; exact c)]
      · rw [if_neg c, decide_eq_true (by rw [← Int32.not_le]; exact c)]
    · show (if x = y then some true else some false) = some (decide (x = y))
      by_cases c : x = y
      · rw [if_pos c, decide_eq_true c]
      · rw [if_neg c, decide_eq_false c]
    · show (if x ≤ y then some false else some true) = some (decide (y < x))
      by_cases c : x ≤ y
      · rw [if_pos c, decide_eq_false (by rw [Int32.not_lt]; exact c)]
      · rw [if_neg c, decide_eq_true (by rw [← Int32.not_le]; exact c)]
  rw [g] at h
  exact (Option.some.inj h).symm
theorem cmp_both {n : Nat} {t : Nat → Nat} {s e op cd : Nat} {σ : SS} {μ : MS} (h : pst n t s e op cd σ μ) (hc : cd ≤ s) {d : DS} (hf : fresh d) (k : SS → DS → Int32 → Option (XR (Nat × SS × DS))) : eRes n t op false s cd σ μ d (cmpC σ d k) (m_comparison 1000 μ) := by
  have hn := h.1.1.1
  have hsn : s ≤ n := by have := h.1.2.1; have := this.1; have := h.1.2.1.2.1; omega
  unfold cmpC m_comparison
  rcases val_both h hc hf with ⟨s1, e1, q1, d1, σ1, μ1, va, a1, a2, a3, a4, ⟨a5, a6, a7⟩, a8, a9, a10, a11, a12⟩ | ⟨s1, e1, d1, σ1, μ1, a1, a2, a3, a4, ⟨a5, a6⟩, a7, a8⟩
  · have hs1n : s1 ≤ n := by have := a3.1.2.1.1; have := a3.1.2.1.2.1; omega
    rw [xb_inr a1 a11.2.2, a2, Option.bind_some, if_pos a3.1.2.2.2.2.2]
    dsimp only
    rcases sign_both a3.1 with ⟨o, ho, hlt, ⟨b1, b2⟩, b3⟩ | ⟨v, w, b1, b2, b3, b4⟩
    · rw [if_pos b1, b2, b3, Option.bind_some, Option.bind_some, B86_eq k _ _ _ ho, B23_eq _ ho]
      obtain ⟨s2, e2, σ2, μ2, c1, c2, c3, c4, c5, c6, c7⟩ := next_st a3.1
      have hs2n : s2 ≤ n := by have := c4.2.1.1; have := c4.2.1.2.1; omega
      rw [c2, c3, Option.bind_some, Option.bind_some]
      have hp2 : pst n t s2 e2 op (cd + 1) σ2 μ2 := pst_n a3 c4 (fun k hk => c6 k (by omega) (by omega) (by omega))
      obtain ⟨g1, g2, g3⟩ := grw_new a11.2.1 13 [.null, .null, .int 0]
      have c6' : eM μ1 μ2 := ⟨fun k hk => c6 k (by omega) (by omega) (by omega), fun j hj => by rw [c7]⟩
      rcases val_both hp2 (by omega) g1.2.1 with ⟨s3, e3, q3, d3, σ3, μ3, vb, p1, p2, p3, p4, ⟨p5, p6, p7⟩, p8, p9, p10, p11, p12⟩ | ⟨s3, e3, d3, σ3, μ3, p1, p2, p3, p4, ⟨p5, p6⟩, p7, p8⟩
      · have hs3n : s3 ≤ n := by have := p3.1.2.1.1; have := p3.1.2.1.2.1; omega
        obtain ⟨μ4, w1, w2, w3, w4, w5⟩ := writes_p p3 (by omega) (-11 - nI (o - 60))
        obtain ⟨d4, i1, i2⟩ := i16 p11.2.1 (p11.1 _ _ g2) σ3 q1 (nI o) q3
        have hgr : grw d1 d4 := grw_bui a11.2.1 (g1.tr p11) i2
        have l1 : d1.2 = d.2 + 1 := a12
        have hag : ∀ c, agL d.2 d4 c → agL d.2 d1 c := fun c hc => agL_grw hgr hc
        have hag3 : ∀ c, agL d.2 d4 c → agL (dNew d1 13 [.null, .null, .int 0]).2 d3 c := fun c hc q e hq he => hc q e (by rw [g3] at hq; omega) (by rw [i2.2.1 q (by rw [g3] at hq; omega)]; exact he)
        have hcn := cnd_cmp (lo := d.2) i2.1 (by omega) (a9.mono hag) (p9.mono hag3)
        refine Or.inl ⟨s3, e3, cd + 1 + 1 + 1, d1.2, d4, σ3, μ4, fun fv => cmpB (nI o) (va fv) (vb fv), 1, ?_, ?_, w2, ⟨by omega, Nat.le_refl _, by omega, ?_⟩, ⟨(a5.tr c5.E).tr p5, ((a6.tr c6').tr p6).tr w5, fun i hi => ?_⟩, ?_, hcn, fun fv fw hh => ?_, a11.tr hgr, ?_⟩
        · rw [xb_inr p1 p11.2.2]
          dsimp only
          rw [i1]
          rfl
        · rw [p2, Option.bind_some, w1]
        · show cd + 1 + 1 + 1 + s ≤ cd + s3 + 0
          omega
        · rw [w3 i (by omega), p7 i (by omega), c7, a7 i hi]
        · have t1 : tells (fun i => μ4.2 0 (168 + i)) cd (cd + 1) va := tells_cg a8 (fun i h1 h2 => by
            show μ4.2 0 (168 + i) = μ1.2 0 (168 + i)
            rw [w3 _ (by omega), p7 _ (by omega), c7])
          have t2 : tells (fun i => μ4.2 0 (168 + i)) (cd + 1) (cd + 1 + 1) vb := tells_cg p8 (fun i h1 h2 => w3 _ (by omega))
          refine tells_ev (tells_op t1 t2 ?_ ?_) (fun fv => ?_)
          · show μ4.2 0 (168 + (cd + 1 + 1)) ≤ -10
            rw [w4]; rcases ho with rfl | rfl | rfl <;> decide
          · show μ4.2 0 (168 + (cd + 1 + 1)) ≠ -20
            rw [w4]; rcases ho with rfl | rfl | rfl <;> decide
          · show (if (false ^^ cmpB (nI o) (va fv) (vb fv)) = true then (1 : Int32) else 0) = (if hldB (μ4.2 0 (168 + (cd + 1 + 1))) (va fv) (vb fv) = true then 1 else 0)
            rw [w4, hld_cmp ho, Bool.false_xor]
        · show cmpB (nI o) (va fv) (vb fv) = cmpB (nI o) (va fw) (vb fw)
          rw [a10 fv fw hh, p10 fv fw hh]
        · rw [i2.2.2.1, p12, g3]
          omega
      · refine Or.inr ⟨s3, e3, d3, σ3, μ3, xb_inl p1 p7.2.2, ?_, p3, p4, ⟨(a5.tr c5.E).tr p5, (a6.tr c6').tr p6⟩, (a11.tr g1).tr p7, ?_⟩
        · rw [p2, Option.bind_some, writes_w p3]
        · rw [p8, g3]
          omega
    · have eB : ∀ v, (v ≠ 60 ∧ v ≠ 61 ∧ v ≠ 62) → f0_oneOf_B86 1000 k σ1 d1 q1 v = some (.inl (2, sI σ1 72 (nI s1), d1)) := fun v hv => by
        unfold f0_oneOf_B86
        rw [if_neg hv.1, if_neg hv.2.1, if_neg hv.2.2, a3.1.2.2.1.1]
        rfl
      obtain ⟨μ2, w1, w2, w3, w4⟩ := wants_f a3.1
      refine Or.inr ⟨s1, e1, d1, sI σ1 72 (nI s1), μ2, ?_, ?_, w2, sI_at _ _ _, ⟨a5.tr (eC72 _ _), a6.tr ⟨fun k hk => w3 k (by omega), fun j hj => by rw [w4]⟩⟩, a11, by omega⟩
      · by_cases c1 : (σ1.1 43 - σ1.1 42) = (1 : Int32)
        · rw [if_pos c1] at b1 ⊢
          rw [b1, Option.bind_some, eB v b2]
        · rw [if_neg c1, eB (-1) (by decide)]
      · rw [b3, Option.bind_some]
        unfold m_comparison_B23
        rw [if_neg b4.1, if_neg b4.2.1, if_neg b4.2.2, w1, Option.bind_some, vhere_w w2, Option.bind_some, if_neg b4.1, if_neg b4.2.1, writes_w w2]
        rfl
  · obtain ⟨μ2, w1, w2, w3, w4⟩ := wants_w a3 false
    refine Or.inr ⟨s1, e1, d1, σ1, μ2, xb_inl a1 a7.2.2, ?_, w2, a4, ⟨a5, a6.tr ⟨fun k hk => w3 k (by omega), fun j hj => by rw [w4]⟩⟩, a7, by omega⟩
    rw [a2, Option.bind_some, if_neg (by rw [a3.2.2.2.2.2.2]; decide)]
    unfold m_comparison_B23
    rw [if_neg (by decide), if_neg (by decide), if_neg (by decide), w1, Option.bind_some, vhere_w w2, Option.bind_some, if_neg (by decide), if_neg (by decide), writes_w w2]
    rfl
