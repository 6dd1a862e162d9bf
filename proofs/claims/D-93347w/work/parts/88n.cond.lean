/-! PLAIN LAW: rules read from the tape: conditions -/
set_option maxRecDepth 100000
def eAcc (n : Nat) (t : Nat → Nat) (op : Nat) (x : Bool) (s cd : Nat) (σ : SS) (μ : MS) (d : DS) (s' e' cd' q : Nat) (d' : DS) (σ' : SS) (μ' : MS) (ev : (Nat → Int32) → Bool) (dep : Nat) : Prop := pst n t s' e' op cd' σ' μ' ∧ (s + 3 * dep ≤ s' ∧ 1 ≤ dep ∧ cd < cd' ∧ cd' + s ≤ cd + s' + bN x) ∧ (eC σ σ' ∧ eM μ μ' ∧ ∀ i, i < 168 + cd → μ'.2 0 i = μ.2 0 i) ∧ tells (fun i => μ'.2 0 (168 + i)) cd cd' (fun fv => if (x ^^ ev fv) = true then 1 else 0) ∧ cndL d.2 d' dep q ev ∧ locE ev ∧ grw d d' ∧ d'.2 + 4 * s ≤ d.2 + 4 * s'
theorem goesOn_eq {n : Nat} {t : Nat → Nat} {s e : Nat} {σ : SS} {μ : MS} (h : st n t s e σ μ) {k : Nat} (hk : k < 21) : f0_goesOn 1000 σ k = if wl t s e = nm k then (f0_next 1000 σ).bind fun r2 => some (true, r2) else some (false, σ) := by
  unfold f0_goesOn
  rw [isName_eq h hk, Option.bind_some]
  by_cases c : wl t s e = nm k
  · rw [if_pos (decide_eq_true c), if_pos c]
  · rw [if_neg (by rw [decide_eq_true_eq]; exact c), if_neg c]
theorem name_len {n : Nat} {t : Nat → Nat} {s e k : Nat} (h : wl t s e = nm k) : e - s = (nm k).length := by
  rw [← h, wl_len]
/-- a chain of conditions -/
theorem chain_L {n : Nat} {t : Nat → Nat} {op s0 cd0 nmk ci : Nat} {σ0 : SS} {μ0 : MS} {d0 : DS} {K : Int64} {code : Int32} {cop : Bool → Bool → Bool} {kC : SS → DS → Option (XR (Nat × SS × DS))} {kM : MS → Option MS} {init : SS → DS → Nat → Nat → Nat → Option (SS × DS)} {LC : Nat → SS → DS → Nat → Option (XR (Nat × SS × DS))} {LM : Nat → MS → Option MS}
    (hnm : nmk < 21 ∧ nmk ≠ 15 ∧ nmk ≠ 16 ∧ nmk ≠ 20 ∧ 2 ≤ (nm nmk).length) (hK : lI (hsW (nm nmk) 0) = K) (hcode : code ≤ -10 ∧ code ≠ -20) (hcop : ∀ a b : Bool, hldB code (if a = true then 1 else 0) (if b = true then 1 else 0) = cop a b)
    (hinit : ∀ (d : DS) (q : Nat) (a b : Value) (σ : SS) (x y : Nat), fresh d → dl d q = some (.inr (ci, [a, b])) → ∃ d', dMonV d (init σ d q x y) = some (σ, d') ∧ bui d q (.inr (ci, [.ref x, .ref y])) d')
    (hcnd : ∀ (lo q a b d1 d2 : Nat) (δ : DS) (ea eb : (Nat → Int32) → Bool), dl δ q = some (.inr (ci, [.ref a, .ref b])) → lo ≤ q → cndL lo δ d1 a ea → cndL lo δ d2 b eb → cndL lo δ (max d1 d2 + 1) q (fun fv => cop (ea fv) (eb fv)))
    (hC : ∀ fuel σ d q, LC (fuel + 1) σ d q = (f0_goesOn 1000 σ nmk).bind fun r1 => (if r1.1 = true then (some (dNew d ci [.null, .null])).bind fun d2 => xb xnA d2 (kC r1.2 d2) fun r3 => (dMonV r3.2.2 (init r3.2.1 r3.2.2 d.2 q r3.1)).bind fun r4 => LC fuel r4.1 r4.2 d.2 else some (Sum.inr (q, r1.2, d))))
    (hM : ∀ fuel μ, LM (fuel + 1) μ = (m_word 1000 μ).bind fun r1 => (if (lg_cmp r1 K) = 0 then (m_wants 1000 μ true).bind fun r2 => (kM r2).bind fun r3 => (m_writes r3 code).bind fun r4 => LM fuel r4 else some μ))
    (hc0 : cd0 ≤ s0) (hf0 : fresh d0)
    (hk : ∀ s e cd σ μ d, s0 ≤ s → pst n t s e op cd σ μ → cd ≤ s → fresh d → eRes n t op false s cd σ μ d (kC σ d) (kM μ)) :
    ∀ (m fuel fuel' s e cd q : Nat) (d : DS) (σ : SS) (μ : MS) (ev : (Nat → Int32) → Bool) (dep : Nat), eAcc n t op false s0 cd0 σ0 μ0 d0 s e cd q d σ μ ev dep → n - s ≤ m → m < fuel → m < fuel' → eRes n t op false s0 cd0 σ0 μ0 d0 (LC fuel σ d q) (LM fuel' μ) := by
  intro m
  induction m using Nat.strongRecOn with
  | _ m ih =>
    intro fuel fuel' s e cd q d σ μ ev dep hA hm hfu hfu'
    obtain ⟨N, rfl⟩ : ∃ n, fuel = n + 1 := ⟨fuel - 1, by omega⟩
    obtain ⟨N', rfl⟩ : ∃ n, fuel' = n + 1 := ⟨fuel' - 1, by omega⟩
    have hA0 := hA
    obtain ⟨h3, ⟨h4, h5, h6, h7⟩, ⟨h8, h9, h10⟩, h11, h12, h13, h14, h15⟩ := hA
    have h7' : cd + s0 ≤ cd0 + s := h7
    have hn := h3.1.1.1
    have hsn : s ≤ n := by have := h3.1.2.1.1; have := h3.1.2.1.2.1; omega
    obtain ⟨r, w1, w2⟩ := word_both h3.1
    have w3 := w2 nmk hnm.1 hnm.2.1 hnm.2.2.1 hnm.2.2.2.1
    rw [hK] at w3
    rw [hC, hM, goesOn_eq h3.1 hnm.1, w1, Option.bind_some]
    by_cases c : wl t s e = nm nmk
    · have hlen := name_len (n := n) c
      have hl2 := hnm.2.2.2.2
      have hen := h3.1.2.1.2.1
      obtain ⟨s2, e2, σ2, μ2, c1, c2, c3, c4, c5, c6, c7⟩ := next_st h3.1
      have hs2n : s2 ≤ n := by have := c4.2.1.1; have := c4.2.1.2.1; omega
      rw [if_pos c, if_pos (w3.mpr c), c2, c3, Option.bind_some, Option.bind_some, Option.bind_some, if_pos rfl, Option.bind_some]
      dsimp only
      have hp2 : pst n t s2 e2 op cd σ2 μ2 := pst_n h3 c4 (fun k hk => c6 k (by omega) (by omega) (by omega))
      have c6' : eM μ μ2 := ⟨fun k hk => c6 k (by omega) (by omega) (by omega), fun j hj => by rw [c7]⟩
      obtain ⟨g1, g2, g3⟩ := grw_new h14.2.1 ci [.null, .null]
      rcases hk s2 e2 cd σ2 μ2 _ (by omega) hp2 (by omega) g1.2.1 with ⟨s3, e3, cd3, q3, d3, σ3, μ3, ev3, dep3, p1, p2, p3, ⟨p4, p5, p6, p7⟩, ⟨p8, p9, p10⟩, p11, p12, p13, p14, p15⟩ | ⟨s3, e3, d3, σ3, μ3, p1, p2, p3, p4, ⟨p5, p6⟩, p7, p8⟩
      · have p7' : cd3 + s2 ≤ cd + s3 := p7
        have hs3n : s3 ≤ n := by have := p3.1.2.1.1; have := p3.1.2.1.2.1; omega
        obtain ⟨μ4, v1, v2, v3, v4, v5⟩ := writes_p p3 (by omega) code
        obtain ⟨d4, i1, i2⟩ := hinit d3 d.2 .null .null σ3 q q3 p14.2.1 (p14.1 _ _ g2)
        have hgr : grw d d4 := grw_bui h14.2.1 (g1.tr p14) i2
        have hlo : d0.2 ≤ d.2 := h14.2.2
        have hag : ∀ c, agL d0.2 d4 c → agL d0.2 d c := fun c hc => agL_grw hgr hc
        have hag3 : ∀ c, agL d0.2 d4 c → agL (dNew d ci [.null, .null]).2 d3 c := fun c hc q e hq he => hc q e (by rw [g3] at hq; omega) (by rw [i2.2.1 q (by rw [g3] at hq; omega)]; exact he)
        have hcn := hcnd d0.2 d.2 q q3 dep dep3 d4 ev ev3 i2.1 hlo (h12.mono hag (Nat.le_refl _)) (p12.mono hag3 (Nat.le_refl _))
        rw [xb_inr p1 p14.2.2, p2, Option.bind_some, v1, Option.bind_some]
        dsimp only
        rw [i1, Option.bind_some]
        refine ih (n - s3) (by omega) N N' s3 e3 (cd3 + 1) d.2 d4 σ3 μ4 (fun fv => cop (ev fv) (ev3 fv)) (max dep dep3 + 1) ⟨v2, ⟨by omega, by omega, by omega, ?_⟩, ⟨(h8.tr c5.E).tr p8, ((h9.tr c6').tr p9).tr v5, fun i hi => ?_⟩, ?_, hcn, fun fv fw hh => ?_, h14.tr hgr, ?_⟩ (Nat.le_refl _) (by omega) (by omega)
        · show cd3 + 1 + s0 ≤ cd0 + s3 + 0
          omega
        · rw [v3 i (by omega), p10 i (by omega), c7, h10 i hi]
        · have t1 : tells (fun i => μ4.2 0 (168 + i)) cd0 cd (fun fv => if (false ^^ ev fv) = true then 1 else 0) := tells_cg h11 (fun i h1 h2 => by
            show μ4.2 0 (168 + i) = μ.2 0 (168 + i)
            rw [v3 _ (by omega), p10 _ (by omega), c7])
          have t2 : tells (fun i => μ4.2 0 (168 + i)) cd cd3 (fun fv => if (false ^^ ev3 fv) = true then 1 else 0) := tells_cg p11 (fun i h1 h2 => v3 _ (by omega))
          refine tells_ev (tells_op t1 t2 ?_ ?_) (fun fv => ?_)
          · show μ4.2 0 (168 + cd3) ≤ -10
            rw [v4]; exact hcode.1
          · show μ4.2 0 (168 + cd3) ≠ -20
            rw [v4]; exact hcode.2
          · show (if (false ^^ cop (ev fv) (ev3 fv)) = true then (1 : Int32) else 0) = (if hldB (μ4.2 0 (168 + cd3)) (if (false ^^ ev fv) = true then 1 else 0) (if (false ^^ ev3 fv) = true then 1 else 0) = true then 1 else 0)
            rw [v4, Bool.false_xor, Bool.false_xor, Bool.false_xor, hcop]
        · show cop (ev fv) (ev3 fv) = cop (ev fw) (ev3 fw)
          rw [h13 fv fw hh, p13 fv fw hh]
        · have q1 : d4.2 = d3.2 := i2.2.2.1
          rw [g3] at p15
          omega
      · have e0 : ∀ f, LM (f + 1) μ3 = some μ3 := fun f => by
          rw [hM, word_w p3, Option.bind_some, if_neg (by
            rw [lg0, ← hK, show (0 : Int64) = lI 0 from rfl]
            have := nm_hs ⟨nmk, hnm.1⟩ hnm.2.1 hnm.2.2.1 hnm.2.2.2.1
            have g1' : 1 ≤ hsW (nm nmk) 0 := this.1.1
            have g2' : hsW (nm nmk) 0 < 36028797018963967 := this.1.2
            rw [lI_eq (by decide) (by omega)]
            omega)]
        obtain ⟨N'', rfl⟩ : ∃ n, N' = n + 1 := ⟨N' - 1, by omega⟩
        rw [xb_inl p1 p7.2.2, p2, Option.bind_some, writes_w p3, Option.bind_some, e0]
        rw [g3] at p8
        exact Or.inr ⟨s3, e3, d3, σ3, μ3, rfl, rfl, p3, p4, ⟨(h8.tr c5.E).tr p5, (h9.tr c6').tr p6⟩, (h14.tr g1).tr p7, by omega⟩
    · rw [if_neg c, if_neg (fun z => c (w3.mp z)), Option.bind_some, if_neg (show ¬ (false, σ).1 = true from Bool.false_ne_true)]
      exact Or.inl ⟨s, e, cd, q, d, σ, μ, ev, dep, rfl, rfl, hA0⟩

theorem all_eq {n : Nat} {t : Nat → Nat} {op s0 : Nat} {kC : SS → DS → Int32 → Option (XR (Nat × SS × DS))} {kM : MS → Option MS} (hk : ∀ s e cd σ μ d, s0 ≤ s → pst n t s e op cd σ μ → cd ≤ s → fresh d → eRes n t op false s cd σ μ d (kC σ d (nI op)) (m_one 1000 kM μ)) : ∀ s e cd σ μ d, s0 ≤ s → pst n t s e op cd σ μ → cd ≤ s → fresh d → eRes n t op false s cd σ μ d (f0_all 1000 kC σ d (nI op)) (m_all 1000 kM μ) := by
  intro s e cd σ μ d hs hp hc hf
  have hn := hp.1.1.1
  unfold f0_all m_all
  rcases hk s e cd σ μ d hs hp hc hf with ⟨s3, e3, cd3, q3, d3, σ3, μ3, ev3, dep3, p1, p2, hA⟩ | ⟨s3, e3, d3, σ3, μ3, p1, p2, p3, p4, p5, p7, p8⟩
  · rw [xb_inr p1 hA.2.2.2.2.2.2.1.2.2, p2, Option.bind_some]
    exact chain_L (nmk := 17) (ci := 14) (K := 1476) (code := -21) (cop := fun a b => a && b) (kC := fun σ d => kC σ d (nI op)) (kM := m_one 1000 kM) (init := f17_init) (LC := fun f σ d q => f0_all_L6 1000 kC f σ d (nI op) q) (LM := m_all_L4 1000 kM) (by decide) rfl (by decide) (fun a b => by cases a <;> cases b <;> rfl) (fun d q a b σ x y hf hd => i17 hf hd σ x y) (fun lo q a b d1 d2 δ ea eb h1 h2 h3 h4 => cnd_and h1 h2 h3 h4) (fun fuel σ d q => rfl) (fun fuel μ => rfl) hc hf (fun s' e cd σ μ d h1 h2 h3 h4 => hk s' e cd σ μ d (by omega) h2 h3 h4) (n - s3) 1000 1000 s3 e3 cd3 q3 d3 σ3 μ3 ev3 dep3 hA (Nat.le_refl _) (by omega) (by omega)
  · refine Or.inr ⟨s3, e3, d3, σ3, μ3, xb_inl p1 p7.2.2, ?_, p3, p4, p5, p7, p8⟩
    rw [p2, Option.bind_some]
    show (m_word 1000 μ3).bind _ = _
    rw [word_w p3]
    rfl
theorem cond_eq {n : Nat} {t : Nat → Nat} {op s0 dm : Nat} {kC : SS → DS → Int32 → Option (XR (Nat × SS × DS))} (hk : ∀ s e cd σ μ d, s0 ≤ s → pst n t s e op cd σ μ → cd ≤ s → fresh d → eRes n t op false s cd σ μ d (kC σ d (nI op)) (m_one 1000 (m_condition 1000 dm) μ)) : ∀ s e cd σ μ d, s0 ≤ s → pst n t s e op cd σ μ → cd ≤ s → fresh d → eRes n t op false s cd σ μ d (f0_cond 1000 kC σ d (nI op)) (m_condition 1000 (dm + 1) μ) := by
  intro s e cd σ μ d hs hp hc hf
  have hn := hp.1.1.1
  have eM0 : m_condition 1000 (dm + 1) μ = (m_all 1000 (m_condition 1000 dm) μ).bind fun r1 => m_condition_L12 1000 (m_condition 1000 dm) 1000 r1 := by
    show (if (μ.1 29) = 0 then _ else _) = _
    rw [if_pos hp.1.2.2.2.2.2]
  rw [eM0]
  unfold f0_cond
  rcases all_eq hk s e cd σ μ d hs hp hc hf with ⟨s3, e3, cd3, q3, d3, σ3, μ3, ev3, dep3, p1, p2, hA⟩ | ⟨s3, e3, d3, σ3, μ3, p1, p2, p3, p4, p5, p7, p8⟩
  · rw [xb_inr p1 hA.2.2.2.2.2.2.1.2.2, p2, Option.bind_some]
    exact chain_L (nmk := 18) (ci := 15) (K := 498) (code := -22) (cop := fun a b => a || b) (kC := fun σ d => f0_all 1000 kC σ d (nI op)) (kM := m_all 1000 (m_condition 1000 dm)) (init := f18_init) (LC := fun f σ d q => f0_cond_L6 1000 kC f σ d (nI op) q) (LM := m_condition_L12 1000 (m_condition 1000 dm)) (by decide) rfl (by decide) (fun a b => by cases a <;> cases b <;> rfl) (fun d q a b σ x y hf hd => i18 hf hd σ x y) (fun lo q a b d1 d2 δ ea eb h1 h2 h3 h4 => cnd_or h1 h2 h3 h4) (fun fuel σ d q => rfl) (fun fuel μ => rfl) hc hf (fun s' e cd σ μ d h1 h2 h3 h4 => all_eq hk s' e cd σ μ d (by omega) h2 h3 h4) (n - s3) 1000 1000 s3 e3 cd3 q3 d3 σ3 μ3 ev3 dep3 hA (Nat.le_refl _) (by omega) (by omega)
  · refine Or.inr ⟨s3, e3, d3, σ3, μ3, xb_inl p1 p7.2.2, ?_, p3, p4, p5, p7, p8⟩
    rw [p2, Option.bind_some]
    show (m_word 1000 μ3).bind _ = _
    rw [word_w p3]
    rfl
/-- a sign of one byte -/
theorem par_both {n : Nat} {t : Nat → Nat} {s e : Nat} {σ : SS} {μ : MS} (h : st n t s e σ μ) {k c : Nat} (hk : nm k = [c]) (hL : isL c = false) (hG : isG c = false) (hc : c < 256) : ∃ w, m_byteAt μ (μ.1 24) = some w ∧ (w = nI c ↔ wl t s e = nm k) := by
  have hn := h.1.1
  have hen := h.2.1.2.1
  have hse := h.2.1.1
  refine ⟨_, by rw [h.2.2.2.1]; exact byteAt_eq h.1 (by omega), ?_⟩
  rw [hk, wl_eq]
  by_cases hsn : s < n
  · obtain ⟨b1, b2, b3⟩ := h.1.2.2.2 s hsn
    rw [if_pos hsn, nN_eq (by omega) (by omega)]
    constructor
    · intro z
      have hlt : s < e := by rcases h.2.1.2.2 with c | c <;> omega
      refine ⟨?_, fun j hj => ?_⟩
      · show e - s = 1
        rcases h.2.1.2.2 with g | ⟨-, g | g | g⟩
        · omega
        · have := g s (Nat.le_refl _) hlt
          rw [z, hL] at this; cases this
        · have := g s (Nat.le_refl _) hlt
          rw [z, hG] at this; cases this
        · omega
      · have : j = 0 := by
          have : j < 1 := hj
          omega
        subst this
        exact z
    · intro z
      exact z.2 0 (by show 0 < 1; decide)
  · rw [if_neg hsn]
    constructor
    · intro z
      exact absurd (z ▸ (by decide : (-1 : Int32) < 0)) (nN_neg (by omega))
    · intro z
      have : e - s = 1 := z.1
      omega
theorem cond_w {n s e dm : Nat} {μ : MS} (h : wr n s e μ) : m_condition 1000 (dm + 1) μ = some μ := by
  show (if (μ.1 29) = 0 then _ else _) = _
  rw [if_neg (by rw [h.2.2.2.2.2.2]; decide)]
