/-! PLAIN LAW: who is late, what falls, lots -/
set_option maxRecDepth 100000
def lateS (T : Tw) : Nat → Int32
  | 0 => 0
  | d + 1 => if tA T 7 d = 1 ∧ due T d < tE T - 1 then lateS T d ||| ((1 : Int32) <<< (nI (tA T 3 d) &&& 31)) else lateS T d ||| (0 : Int32)
theorem f_late_L {T : Tw} {σ : SS} {δ : DS} (hC : simC T 0 σ) (hI : Inv T) (hH : hnd δ (σ.2.2.2 0) T) (N : Nat) {w : Nat} (hw : w < 2 ^ 31) : ∀ (r d fuel : Nat), d + r = tD T → r < fuel → f0_lateSet_L22 N δ fuel σ (nI w) (lateS T d) (nI d) = (f3_become σ 0 2).bind fun r1 => some (lateS T (tD T), r1) := by
  have hd10 : tD T ≤ 10 := hI.1.2.1
  have he1 : 1 ≤ tE T := hI.1.2.2.1
  have he : tE T ≤ 16 := hI.1.2.2.2.1
  intro r
  induction r with
  | zero =>
    intro d fuel h1 h2
    obtain ⟨n, rfl⟩ : ∃ n, fuel = n + 1 := ⟨fuel - 1, by omega⟩
    show (if (σ.1 1) ≤ nI d then _ else _) = _
    rw [show σ.1 1 = nI (tD T) from hC.1.2.1, if_pos ((nN_le (by omega) (by omega)).mpr (by omega)), show d = tD T by omega]
  | succ r ih =>
    intro d fuel h1 h2
    obtain ⟨n, rfl⟩ : ∃ n, fuel = n + 1 := ⟨fuel - 1, by omega⟩
    have hn := ih (d + 1) n (by omega) (by omega)
    have hs : lateS T (d + 1) = if tA T 7 d = 1 ∧ due T d < tE T - 1 then lateS T d ||| ((1 : Int32) <<< (nI (tA T 3 d) &&& 31)) else lateS T d ||| (0 : Int32) := rfl
    show (if (σ.1 1) ≤ nI d then _ else _) = _
    rw [show σ.1 1 = nI (tD T) from hC.1.2.1, if_neg (fun z => by have := (nN_le (by omega) (by omega)).mp z; omega), if_neg (nN_neg hw), show σ.1 2 = nI (tE T) from hC.1.2.2.1, show nI (tE T) - (1 : Int32) = nI (tE T - 1) from nN_sub (b := 1) he1, f_overdue_eq hC hI hH (by omega) (by omega), cD_whose hC (by omega)]
    simp only [Option.bind_some]
    rw [nI_1]
    by_cases hl : tA T 7 d = 1 ∧ due T d < tE T - 1
    · rw [if_pos hl] at hs
      rw [if_pos (decide_eq_true hl), ← hs]
      exact hn
    · rw [if_neg hl] at hs
      rw [if_neg (by rw [decide_eq_true_eq]; exact hl), ← hs]
      exact hn
theorem m_late_L {T : Tw} {μ : MS} (hM : simM T (μ.2 0)) (hI : Inv T) (N : Nat) : ∀ (r d fuel : Nat), d + r = tD T → r < fuel → m_late_L4 N μ fuel (lateS T d) (nI d) = some (lateS T (tD T)) := by
  have hd10 : tD T ≤ 10 := hI.1.2.1
  have he1 : 1 ≤ tE T := hI.1.2.2.1
  have he : tE T ≤ 16 := hI.1.2.2.2.1
  intro r
  induction r with
  | zero =>
    intro d fuel h1 h2
    obtain ⟨n, rfl⟩ : ∃ n, fuel = n + 1 := ⟨fuel - 1, by omega⟩
    show (ldM μ 0 (5 : Int32)).bind _ = _
    rw [mF_deeds hM]
    simp only [Option.bind_some]
    rw [if_pos ((nN_le (by omega) (by omega)).mpr (by omega)), show d = tD T by omega]
  | succ r ih =>
    intro d fuel h1 h2
    obtain ⟨n, rfl⟩ : ∃ n, fuel = n + 1 := ⟨fuel - 1, by omega⟩
    have hn := ih (d + 1) n (by omega) (by omega)
    have hdue := due_le hI (d := d) (by omega)
    have h4 := so_lt hI (d := d) (by omega)
    have hs : lateS T (d + 1) = if tA T 7 d = 1 ∧ due T d < tE T - 1 then lateS T d ||| ((1 : Int32) <<< (nI (tA T 3 d) &&& 31)) else lateS T d ||| (0 : Int32) := rfl
    show (ldM μ 0 (5 : Int32)).bind _ = _
    rw [mF_deeds hM]
    simp only [Option.bind_some]
    rw [if_neg (fun z => by have := (nN_le (by omega) (by omega)).mp z; omega), mD_so hM (by omega), m_due_eq hM hI (by omega), mF_end hM, mD_whose hM (by omega)]
    simp only [Option.bind_some]
    rw [nI_1, show nI (tE T) - (1 : Int32) = nI (tE T - 1) from nN_sub (b := 1) he1]
    by_cases h7 : tA T 7 d = 1
    · rw [if_pos (show nI (tA T 7 d) = (1 : Int32) by rw [h7]; rfl)]
      by_cases hl : due T d < tE T - 1
      · rw [if_pos ⟨h7, hl⟩] at hs
        rw [if_neg (fun z => by have := (nN_le (by omega) (by omega)).mp z; omega), ← hs]
        exact hn
      · rw [if_neg (fun z => hl z.2)] at hs
        rw [if_pos ((nN_le (by omega) (by omega)).mpr (by omega)), ← hs]
        exact hn
    · rw [if_neg (fun z => h7 z.1)] at hs
      rw [if_neg (show ¬ nI (tA T 7 d) = (1 : Int32) from fun q => h7 ((nN_eq (b := 1) (by omega) (by decide)).mp q)), ← hs]
      exact hn
theorem lateS_sc (T : Tw) (S : Int32) (d : Nat) : lateS (wI T 0 S) d = lateS T d := by
  induction d with
  | zero => rfl
  | succ d ih =>
    show (if tA T 7 d = 1 ∧ due T d < tE T - 1 then lateS (wI T 0 S) d ||| ((1 : Int32) <<< (nI (tA T 3 d) &&& 31)) else lateS (wI T 0 S) d ||| (0 : Int32)) = (if tA T 7 d = 1 ∧ due T d < tE T - 1 then lateS T d ||| ((1 : Int32) <<< (nI (tA T 3 d) &&& 31)) else lateS T d ||| (0 : Int32))
    rw [ih]
/-- both programs' sets of late ones -/
theorem late_both {T : Tw} {S : Int32} {RS : Rls} {δ : DS} {σ : SS} {μ : MS} (h : cor T S RS δ σ μ) {w : Nat} (hw : w < 2 ^ 31) : f0_lateSet_L22 1000 δ 1000 σ (nI w) (0 : Int32) (0 : Int32) = ((f3_become σ 0 2).bind fun r1 => some (lateS T (tD T), r1)) ∧ m_late 1000 μ = some (lateS T (tD T)) := by
  have hd10 : tD T ≤ 10 := h.2.1.1.1.2.1
  constructor
  · exact f_late_L h.1.1 h.2.1.1 h.2.2.1.1 1000 hw (tD T) 0 1000 (by omega) (by omega)
  · have := m_late_L (T := wI T 0 S) h.1.2 h.2.1.1 1000 (tD T) 0 1000 (by show 0 + tD T = tD T; omega) (by omega)
    rw [lateS_sc, lateS_sc] at this
    exact this
theorem late_top {T : Tw} {RS : Rls} {δ : DS} {σ : SS} {μ : MS} (h : cor T (tS T) RS δ σ μ) : ∃ σ1 μ1 S' σ2 μ2, f3_become σ 2 0 = some σ1 ∧ m_puts 1000 μ = some μ1 ∧ cor T (tS T) RS δ σ1 μ1 ∧ sav T (σ.2.2.1 0) (μ.2 0) σ1 μ1 ∧ σ1.2.2.2 = σ.2.2.2 ∧ FC σ σ1 ∧ FM μ μ1 ∧ f0_runs 1000 δ σ1 (16 : Int32) = some (nI (runW RS 16 T), σ2) ∧ m_rest 1000 μ1 (16 : Int32) = some (nI (runW RS 16 T), μ2) ∧ cor (runT RS 16 T) S' RS δ σ2 μ2 ∧ frC σ1 σ2 ∧ frM μ1 μ2 ∧ (∃ x, f0_lateSet_L22 1000 δ 1000 σ2 (nI (runW RS 16 T)) (0 : Int32) (0 : Int32) = ((f3_become σ2 0 2).bind fun r1 => some (x, r1)) ∧ m_late 1000 μ2 = some x) := by
  obtain ⟨σ1, μ1, a1, a2, a3, a4, a5, a6, a7, a8⟩ := trial_in h
  obtain ⟨S', σ2, μ2, g1, g2, g3, g4, g5⟩ := runs_top (n := 16) (by decide) a3
  have hw := runW_le (RS := RS) 16 h.2.1.1
  obtain ⟨l1, l2⟩ := late_both g3 (w := runW RS 16 T) (by omega)
  exact ⟨σ1, μ1, S', σ2, μ2, a1, a2, a3, a4, a5, a6, a7, g1, g2, g3, g4, g5, _, l1, l2⟩
theorem pl_16 (a b c d : Int32) (σ : SS) (δ : DS) (μ : MS) (H : Rel σ δ μ) : pLaw Rel 16 a b c d σ δ μ := by
  obtain ⟨T, RS, h⟩ := H.1
  obtain ⟨σ1, μ1, S', σ2, μ2, a1, a2, a3, a4, a5, a6, a7, g1, g2, g3, g4, g5, x, l1, l2⟩ := late_top h
  obtain ⟨σ3, μ3, b1, b2, b3⟩ := back_both (U := T) (S := S') H h a4 a5 a6 a7 g4 g5
  have hl : f0_lateSet 1000 δ σ = some (x, σ3) := by
    unfold f0_lateSet
    rw [a1, Option.bind_some, g1, Option.bind_some]
    exact l1.trans (by rw [b1]; rfl)
  refine pl_0 (r := x) (σ' := σ3) (μ' := μ3) ?_ ?_ b3
  · rw [cc16]
    unfold f0_overdue
    rw [hl]
    rfl
  · rw [mc16]
    unfold m_overdue
    rw [a2]
    simp only [Option.bind_some]
    rw [g2]
    simp only [Option.bind_some]
    rw [l2]
    simp only [Option.bind_some]
    rw [b2]
    rfl
/-! arrays copied -/
theorem cpC_n {σ : SS} {j1 j2 a b n : Nat} (h1 : a + n ≤ lenC j1) (h2 : b + n ≤ lenC j2) (hs : a + b + n < 1000) : cpC σ j1 (nI a) j2 (nI b) (nI n) = some (sA σ j2 (va_cpy (σ.2.1 j1) (σ.2.1 j2) a b n)) := by
  unfold cpC
  rw [nI_clamp (by omega), nI_clamp (by omega), nI_clamp (by omega), if_pos ⟨nN_neg (by omega), nN_neg (by omega), nN_neg (by omega), h1, h2⟩]
/-- how deeds were saved at a place -/
def svd (T : Tw) (k : Nat) (σ : SS) : Prop := ∀ d, d < 10 → σ.2.1 40 (10 * k + d) = nI (tA T 7 d)
theorem saves_eq {T : Tw} {σ : SS} (hC : simC T 0 σ) {k : Nat} (hk : k ≤ 4) : ∃ f, f0_saves σ (nI k) = some (sA σ 40 f) ∧ (∀ d, d < 10 → f (10 * k + d) = nI (tA T 7 d)) ∧ ∀ i, i < 10 * k → f i = σ.2.1 40 i := by
  refine ⟨va_cpy (σ.2.1 7) (σ.2.1 40) 0 (10 * k) 10, ?_, fun d hd => ?_, fun i hi => ?_⟩
  · unfold f0_saves
    rw [show (10 : Int32) * nI k = nI (10 * k) from nN_mul 10 k]
    have := cpC_n (σ := σ) (j1 := 7) (j2 := 40) (a := 0) (b := 10 * k) (n := 10) (by decide) (by show 10 * k + 10 ≤ 50; omega) (by omega)
    rw [show cpC σ 7 (0 : Int32) 40 (nI (10 * k)) (10 : Int32) = _ from this]
    rfl
  · unfold va_cpy
    rw [if_pos (by omega), show 0 + (10 * k + d - 10 * k) = d by omega]
    exact (hC.2.2.1 d hd).2.2.2.2
  · unfold va_cpy
    rw [if_neg (by omega)]
theorem simC_40 {T : Tw} {σ : SS} (hC : simC T 0 σ) {j : Nat} (hj : 39 ≤ j) (f : Nat → Int32) : simC T 0 (sA σ j f) := simC_cg hC (fun k hk => rfl) (fun i hi n hn => by rw [sA_ne (by omega)])
theorem back_so {T U : Tw} {σ : SS} (hC : simC U 0 σ) {k : Nat} (hk : k ≤ 4) (hs : svd T k σ) (e : aliS T U) : ∃ σ', cpC σ 40 (nI (10 * k)) 7 (0 : Int32) (10 : Int32) = some σ' ∧ simC T 0 σ' ∧ ∃ f, σ' = sA σ 7 f := by
  have := cpC_n (σ := σ) (j1 := 40) (j2 := 7) (a := 10 * k) (b := 0) (n := 10) (by show 10 * k + 10 ≤ 50; omega) (by decide) (by omega)
  refine ⟨_, this, ?_, _, rfl⟩
  obtain ⟨a, b, c, o, r⟩ := hC
  obtain ⟨e1, e2, e3, e4, e5, e6, e7, e8⟩ := e.nums
  have er : ∀ j, j ≠ 7 → tA U j = tA T j := fun j hj => e.2.1 j hj
  have ec : ∀ j f, j ≠ 7 → (sA σ 7 f).2.1 j = σ.2.1 j := fun j f hj => sA_ne hj
  refine ⟨by rw [← e1, ← e2, ← e3, ← e4, ← e5, ← e7, ← e8]; exact a, fun p hp => ?_, fun d hd => ?_, fun i hi => ?_, fun i hi => ?_⟩
  · rw [ec _ _ (by decide), ec _ _ (by decide), ec _ _ (by decide), ← er 0 (by decide), ← er 1 (by decide), ← er 2 (by decide)]; exact b p hp
  · rw [ec _ _ (by decide), ec _ _ (by decide), ec _ _ (by decide), ec _ _ (by decide), ← er 3 (by decide), ← er 4 (by decide), ← er 5 (by decide), ← e6]
    obtain ⟨c0, c1, c2, c3, c4⟩ := c d hd
    refine ⟨c0, c1, c2, c3, ?_⟩
    show (sA σ 7 _).2.1 7 d = _
    rw [sA_at]
    unfold va_cpy
    rw [if_pos (by omega), show 10 * k + (d - 0) = 10 * k + d by omega]
    exact hs d hd
  · rw [ec _ _ (by decide), ← er 8 (by decide)]; exact o i hi
  · rw [ec _ _ (by decide), ec _ _ (by decide), ec _ _ (by decide), ec _ _ (by decide), ← er 9 (by decide), ← er 10 (by decide), ← er 11 (by decide), ← er 12 (by decide)]; exact r i hi
theorem pl_17 (a b c d : Int32) (σ : SS) (δ : DS) (μ : MS) (H : Rel σ δ μ) : pLaw Rel 17 a b c d σ δ μ := by
  obtain ⟨T, RS, h⟩ := H.1
  have hC := h.1.1
  have hM := h.M
  have hI := h.2.1.1
  have hd10 : tD T ≤ 10 := hI.1.2.1
  rcases isD_both hC hM hI a with ⟨d, hd, rfl, e1, e2⟩ | ⟨e1, e2⟩
  · have h4 := so_lt hI hd
    by_cases h7 : tA T 7 d = 1
    · have h7' : nI (tA T 7 d) = (1 : Int32) := by rw [h7]; rfl
      obtain ⟨f, s1, s2, s3⟩ := saves_eq hC (k := 0) (by decide)
      have c1 := simC_40 hC (show 39 ≤ 40 by decide) f
      obtain ⟨σ2, u1, u2, u3⟩ := f_undo_eq c1 hI (N := 1000) (by decide) hd
      have ha := aliS_undoT T d
      obtain ⟨σ3, v1, v2, fv, v3⟩ := back_so u2 (k := 0) (T := T) (by decide) (fun d hd => by rw [u3.2.1 40 (by decide) (by decide), sA_at]; exact s2 d hd) ha
      obtain ⟨μ1, p1, p2, p3, p4⟩ := m_puts_eq μ (N := 1000) (by decide)
      have hM1 : simM T (μ1.2 0) := by rw [p2]; exact hM
      obtain ⟨μ2, q1, q2, q3⟩ := m_undo_eq hM1 hI (N := 1000) (by decide) hd
      obtain ⟨μ3, b1, b2, b3, b4⟩ := m_back_eq (μ := μ2) (f := μ.2 0) (fun k hk => by rw [frM2 q3]; exact p3 k hk) (N := 1000) (by decide)
      have hd10' : tD (undoT T d) ≤ 10 := by rw [ha.nums.2.1]; exact hd10
      have t1 := f_set_eq c1 hd10 (N := 1000) (by decide) (3 : Int32)
      have t2 := f_set_eq u2 hd10' (N := 1000) (by decide) (3 : Int32)
      have t3 := m_set_eq hM1 hd10 (N := 1000) (by decide) (3 : Int32)
      have t4 := m_set_eq q2 hd10' (N := 1000) (by decide) (3 : Int32)
      have hfc : FC σ σ3 := by
        rw [v3]
        exact ((FC_sA (by decide)).tr u3.FC).tr (FC_sA (by decide))
      refine pl_0 (r := setS (undoT T d) (3 : Int32) (tD (undoT T d)) &&& (setS T (3 : Int32) (tD T) ^^^ (-1 : Int32))) (σ' := σ3) (μ' := μ3) ?_ ?_ (Rel_cor H (T := T) (RS := RS) hfc ((p4.tr q3.FM).tr b4) (cor_up h v2 (simM_cg hM (fun i hi _ => b2 i (by omega))) hI rfl rfl rfl (by rw [v3]; exact u3.1) (fun i hi _ => b2 i hi)))
      · rw [cc17]
        unfold f0_falls
        rw [e1]
        simp only [Option.bind_some, if_true]
        rw [cD_so hC (by omega)]
        simp only [Option.bind_some]
        rw [if_pos h7', show f0_saves σ (0 : Int32) = _ from s1]
        simp only [Option.bind_some]
        rw [t1]
        simp only [Option.bind_some]
        rw [u1]
        simp only [Option.bind_some]
        rw [t2]
        simp only [Option.bind_some]
        rw [show cpC σ2 40 (0 : Int32) 7 (0 : Int32) (10 : Int32) = some σ3 from v1]
        rfl
      · rw [mc17]
        unfold m_falls
        rw [e2]
        simp only [Option.bind_some, if_true]
        rw [mD_so hM (by omega)]
        simp only [Option.bind_some]
        rw [if_pos h7', p1]
        simp only [Option.bind_some]
        rw [t3]
        simp only [Option.bind_some]
        rw [q1]
        simp only [Option.bind_some]
        rw [t4]
        simp only [Option.bind_some]
        rw [b1]
        rfl
    · have h7' : ¬ nI (tA T 7 d) = (1 : Int32) := fun q => h7 ((nN_eq (b := 1) (by omega) (by decide)).mp q)
      refine pl_0 (r := -4) (σ' := σ) (μ' := μ) ?_ ?_ H
      · rw [cc17]
        unfold f0_falls
        rw [e1]
        simp only [Option.bind_some, if_true]
        rw [cD_so hC (by omega)]
        simp only [Option.bind_some]
        rw [if_neg h7']
        rfl
      · rw [mc17]
        unfold m_falls
        rw [e2]
        simp only [Option.bind_some, if_true]
        rw [mD_so hM (by omega)]
        simp only [Option.bind_some]
        rw [if_neg h7']
  · exact pl_0 (r := -1) (σ' := σ) (μ' := μ) (by rw [cc17]; unfold f0_falls; rw [e1]; rfl) (by rw [mc17]; unfold m_falls; rw [e2]; rfl) H
/-! lots -/
theorem sh16 (v : Int32) : ∃ k, k < 65536 ∧ ((v.toUInt32 >>> ((16 : Int32).toUInt32 &&& Int32.toUInt32 31)).toInt32) = nI k := by
  refine ⟨v.toUInt32.toNat >>> 16, ?_, ?_⟩
  · have : v.toUInt32.toNat < 4294967296 := v.toUInt32.toNat_lt
    rw [Nat.shiftRight_eq_div_pow]
    omega
  · have e : ((16 : Int32).toUInt32 &&& Int32.toUInt32 31).toNat % 32 = 16 := by decide
    have hv : v.toUInt32.toNat < 4294967296 := v.toUInt32.toNat_lt
    have hl : v.toUInt32.toNat >>> 16 < 2 ^ 32 := by
      rw [Nat.shiftRight_eq_div_pow]
      omega
    apply Int32.toBitVec_inj.mp
    apply BitVec.eq_of_toNat_eq
    show (v.toUInt32 >>> ((16 : Int32).toUInt32 &&& Int32.toUInt32 31)).toNat = (BitVec.ofNat 32 (v.toUInt32.toNat >>> 16)).toNat
    rw [UInt32.toNat_shiftRight, e, BitVec.toNat_ofNat, Nat.mod_eq_of_lt hl]
def lotZ (T : Tw) : Int32 := tZ T * (1103515245 : Int32) + (12345 : Int32)
/-- a year by lot, of both -/
theorem drawn_both {T : Tw} {RS : Rls} {δ : DS} {σ : SS} {μ : MS} (h : cor T (tS T) RS δ σ μ) (hy : tY T < tE T) : ∃ (a : Nat) (σ' : SS) (μ' : MS), f0_drawn 1000 δ σ = some (nI (passW (wI T 1 (lotZ T)) RS a), σ') ∧ m_byLot 1000 μ = some (nI (passW (wI T 1 (lotZ T)) RS a), μ') ∧ cor (goneT (wI T 1 (lotZ T)) RS a) (tS (goneT (wI T 1 (lotZ T)) RS a)) RS δ σ' μ' ∧ FC σ σ' ∧ F2 σ σ' ∧ σ'.2.2 = σ.2.2 ∧ FM μ μ' ∧ μ'.2 2 = μ.2 2 := by
  have hC := h.1.1
  have hM := h.M
  have hp6 : tP T ≤ 6 := h.2.1.1.1.1
  obtain ⟨k, hk, ek⟩ := sh16 (lotZ T)
  have c1 := simC_z hC (lotZ T)
  have m1 : simM (wI T 1 (lotZ T)) ((setA μ 0 (upd (μ.2 0) 7 (lotZ T))).2 0) := by rw [setA_at]; exact simM_z hM _
  have h1 : cor (wI T 1 (lotZ T)) (tS (wI T 1 (lotZ T))) RS δ (sI σ 6 (lotZ T)) (setA μ 0 (upd (μ.2 0) 7 (lotZ T))) := cor_up (U := wI T 1 (lotZ T)) h c1 m1 h.2.1.1 rfl rfl rfl rfl (fun i _ hi => by rw [setA_at]; exact upd_ne (by omega))
  have hmod : nI k - nI k / nI (tP T + 1) * nI (tP T + 1) = nI (k % (tP T + 1)) := nN_mod (by omega) (by omega)
  have hlt : k % (tP T + 1) < tP T + 1 := Nat.mod_lt _ (by omega)
  have hne : ¬ nI (tP T + 1) = 0 := fun q => by have := (nN_eq (a := tP T + 1) (b := 0) (by omega) (by decide)).mp q; omega
  obtain ⟨σ1, μ1, g1, g2, g3, g4, g5, g6, g7⟩ := cor_goes h1 hy (a := k % (tP T + 1)) (by omega)
  refine ⟨k % (tP T + 1), σ1, μ1, ?_, ?_, g3, (FC_sI (by decide)).tr g4, (F2_sI (by decide)).tr g5, g6, (FM_sA (by decide)).tr g7.FM, by rw [frM2 g7, setA_o _ _ _ (by decide)]⟩
  · have e6 : (sI σ 6 (lotZ T)).1 6 = lotZ T := rfl
    have e0 : (sI σ 6 (lotZ T)).1 0 = nI (tP T) := hC.1.1
    unfold f0_drawn
    rw [show σ.1 6 * (1103515245 : Int32) + (12345 : Int32) = lotZ T from by rw [show σ.1 6 = tZ T from hC.1.2.2.2.2.2.2]; rfl]
    simp only [Option.bind_some]
    rw [e6, e0, show nI (tP T) + (1 : Int32) = nI (tP T + 1) from nI_1 _, if_neg hne, ek, hmod, g1]
    rfl
  · unfold m_byLot
    rw [mF_seed hM]
    simp only [Option.bind_some]
    rw [show (7 : Int32) = nI 7 from rfl, mS_at (by decide)]
    simp only [Option.bind_some]
    rw [mF_at (by decide), setA_at, show (0 : Int32) = nI 0 from rfl, mF_at (by decide), setA_at, show upd (μ.2 0) 7 (tZ T * 1103515245 + 12345) 7 = lotZ T from rfl, upd_ne (by decide), hM.1.1]
    simp only [Option.bind_some]
    rw [show nI (tP T) + (1 : Int32) = nI (tP T + 1) from nI_1 _, if_neg (show ¬ nI (tP T + 1) = nI 0 from hne), ek, hmod]
    rw [show m_goes 1000 (setA μ 0 (upd (μ.2 0) 7 (tZ T * 1103515245 + 12345))) (nI (k % (tP T + 1))) = _ from g2]
    rfl
theorem pl_37 (a b c d : Int32) (σ : SS) (δ : DS) (μ : MS) (H : Rel σ δ μ) : pLaw Rel 37 a b c d σ δ μ := by
  obtain ⟨T, RS, h⟩ := H.1
  obtain ⟨o1, o2⟩ := cor_over h
  by_cases ho : tE T ≤ tY T
  · refine pl_0 (r := -4) (σ' := σ) (μ' := μ) ?_ ?_ H
    · rw [cc37]
      unfold f0_lot
      rw [o1, decide_eq_true ho]
      rfl
    · rw [mc37]
      unfold m_lot
      rw [o2, decide_eq_true ho]
      rfl
  · obtain ⟨q, σ1, μ1, g1, g2, g3, g4, -, -, g5, -⟩ := drawn_both h (by omega)
    refine pl_0 (r := nI (passW (wI T 1 (lotZ T)) RS q)) (σ' := σ1) (μ' := μ1) ?_ ?_ (Rel_cor H g4 g5 g3)
    · rw [cc37]
      unfold f0_lot
      rw [o1, decide_eq_false ho]
      simp only [Option.bind_some, Bool.false_eq_true, if_false]
      rw [g1]
      rfl
    · rw [mc37]
      unfold m_lot
      rw [o2, decide_eq_false ho]
      simp only [Option.bind_some, Bool.false_eq_true, if_false]
      rw [g2]
      rfl
