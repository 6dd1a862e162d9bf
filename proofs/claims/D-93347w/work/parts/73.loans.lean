/-! PLAIN LAW: anew; loans: owe, owes, net, ring, how many -/
set_option maxRecDepth 100000
/-- deeds below a number are as they will be -/
def zR (T : Tw) (k : Nat) : Tw := wA T 7 (fun d => if d < k then 0 else tA T 7 d)
theorem zR_succ (T : Tw) (k : Nat) : eA (zR T k) 7 k 0 = zR T (k + 1) := by
  unfold eA zR wA
  refine congrArg (fun z => (T.1, z, T.2.2)) (funext fun j => ?_)
  dsimp only
  by_cases hj : j = 7
  · rw [if_pos hj, if_pos hj]
    funext d
    show (if d = k then 0 else (if 7 = 7 then (fun d => if d < k then 0 else tA T 7 d) else T.2.1 7) d) = if d < k + 1 then 0 else tA T 7 d
    rw [if_pos rfl]
    by_cases h1 : d = k
    · rw [if_pos h1, if_pos (by omega)]
    · rw [if_neg h1]
      by_cases h2 : d < k
      · rw [if_pos h2, if_pos (by omega)]
      · rw [if_neg h2, if_neg (by omega)]
  · rw [if_neg hj, if_neg hj, if_neg hj]
theorem simC_zR0 {T : Tw} {σ : SS} (hC : simC T 0 σ) : simC (zR T 0) 0 σ := by
  obtain ⟨a, b, c, o, r⟩ := hC
  refine ⟨a, b, fun d hd => ?_, o, r⟩
  obtain ⟨c0, c1, c2, c3, c4⟩ := c d hd
  refine ⟨c0, c1, c2, c3, ?_⟩
  show _ = nI (if d < 0 then 0 else tA T 7 d)
  rw [if_neg (by omega)]
  exact c4
theorem simM_zR0 {T : Tw} {f : Nat → Int32} (hM : simM T f) : simM (zR T 0) f := by
  obtain ⟨a, b, c, o, r⟩ := hM
  refine ⟨a, b, fun d hd => ?_, o, r⟩
  obtain ⟨c0, c1, c2, c3, c4⟩ := c d hd
  refine ⟨c0, c1, c2, c3, ?_⟩
  show _ = nI (if d < 0 then 0 else tA T 7 d)
  rw [if_neg (by omega)]
  exact c4
theorem f_anew_L {N : Nat} {T : Tw} (hd10 : tD T ≤ 10) (x1 : Int32) : ∀ (r d fuel : Nat) (σ : SS), simC (zR T d) 0 σ → d + r = tD T → r < fuel → ∃ σ', f0_anew_L26 N fuel σ x1 (nI d) = some (x1, σ') ∧ simC (zR T (tD T)) 0 σ' ∧ frC σ σ' := by
  intro r
  induction r with
  | zero =>
    intro d fuel σ hC h1 h2
    obtain ⟨n, rfl⟩ : ∃ n, fuel = n + 1 := ⟨fuel - 1, by omega⟩
    refine ⟨σ, ?_, by rw [← show d = tD T by omega]; exact hC, frC.rf σ⟩
    show (if (σ.1 1) ≤ nI d then _ else _) = _
    rw [show σ.1 1 = nI (tD T) from hC.1.2.1, if_pos ((nN_le (by omega) (by omega)).mpr (by omega))]
  | succ r ih =>
    intro d fuel σ hC h1 h2
    obtain ⟨n, rfl⟩ : ∃ n, fuel = n + 1 := ⟨fuel - 1, by omega⟩
    have hc := simC_eA hC (j := 7) (by decide) d 0
    rw [zR_succ] at hc
    obtain ⟨σ', g1, g2, g3⟩ := ih (d + 1) n _ hc (by omega) (by omega)
    refine ⟨σ', ?_, g2, (frC_so σ _).tr g3⟩
    show (if (σ.1 1) ≤ nI d then _ else _) = _
    rw [show σ.1 1 = nI (tD T) from hC.1.2.1, if_neg (fun q => by have := (nN_le (by omega) (by omega)).mp q; omega), cS_at (by show d < 10; omega) (by omega)]
    simp only [Option.bind_some]
    rw [nI_1]
    exact g1
theorem m_anew_L {N : Nat} {T : Tw} (hd10 : tD T ≤ 10) : ∀ (r d fuel : Nat) (μ : MS), simM (zR T d) (μ.2 0) → d + r = tD T → r < fuel → ∃ μ', m_anew_L2 N fuel μ (nI d) = ((stM μ' 0 (4 : Int32) (0 : Int32)).bind fun μ2 => (m_becomes μ2 (3 : Int32) (0 : Int32)).bind fun r3 => some (r3.1, r3.2)) ∧ simM (zR T (tD T)) (μ'.2 0) ∧ frM μ μ' := by
  intro r
  induction r with
  | zero =>
    intro d fuel μ hM h1 h2
    obtain ⟨n, rfl⟩ : ∃ n, fuel = n + 1 := ⟨fuel - 1, by omega⟩
    refine ⟨μ, ?_, by rw [← show d = tD T by omega]; exact hM, frM.rf μ⟩
    show (ldM μ 0 (5 : Int32)).bind _ = _
    rw [show ldM μ 0 (5 : Int32) = some (nI (tD T)) from mF_deeds (T := zR T d) hM]
    simp only [Option.bind_some]
    rw [if_pos ((nN_le (by omega) (by omega)).mpr (by omega))]
  | succ r ih =>
    intro d fuel μ hM h1 h2
    obtain ⟨n, rfl⟩ : ∃ n, fuel = n + 1 := ⟨fuel - 1, by omega⟩
    have hc := simM_deedR hM (j := 7) (off := 4) (d := d) (by decide) (by omega) 0
    rw [zR_succ] at hc
    obtain ⟨μ', g1, g2, g3⟩ := ih (d + 1) n (setA μ 0 (upd (μ.2 0) (26 + 5 * d + 4) (nI 0))) (by rw [setA_at]; exact hc) (by omega) (by omega)
    refine ⟨μ', ?_, g2, (frM_so μ (by omega) _).tr g3⟩
    show (ldM μ 0 (5 : Int32)).bind _ = _
    rw [show ldM μ 0 (5 : Int32) = some (nI (tD T)) from mF_deeds (T := zR T d) hM]
    simp only [Option.bind_some]
    rw [if_neg (fun q => by have := (nN_le (by omega) (by omega)).mp q; omega), m_spot_so]
    simp only [Option.bind_some]
    rw [mS_at (by omega)]
    simp only [Option.bind_some]
    rw [nI_1]
    exact g1
theorem Inv_zR {T : Tw} (hI : Inv T) : Inv (wN (wI (zR T (tD T)) 0 0) 3 0) := by
  obtain ⟨⟨a1, a2, a3, a4, a5, a6⟩, b, c, o, r⟩ := hI
  refine ⟨⟨a1, a2, a3, a4, Nat.zero_le _, a6⟩, b, fun d hd => ?_, o, r⟩
  have hc := c d hd
  have e : tA (wN (wI (zR T (tD T)) 0 0) 3 0) 7 d = 0 := by
    show (if d < tD T then 0 else tA T 7 d) = 0
    exact if_pos hd
  refine ⟨hc.1, hc.2.1, hc.2.2.1, by rw [e]; exact Nat.zero_le _, hc.2.2.2.2.1, fun h1 => ?_⟩
  rw [e] at h1
  omega
theorem wN_wI (T : Tw) (k v j : Nat) (x : Int32) : wN (wI T j x) k v = wI (wN T k v) j x := rfl
theorem zR_wN (T : Tw) (k v d : Nat) : zR (wN T k v) d = wN (zR T d) k v := rfl
theorem zR_wI (T : Tw) (k d : Nat) (x : Int32) : zR (wI T k x) d = wI (zR T d) k x := rfl
theorem pl_7 (a b c d : Int32) (σ : SS) (δ : DS) (μ : MS) (H : Rel σ δ μ) : pLaw Rel 7 a b c d σ δ μ := by
  obtain ⟨T, RS, h⟩ := H.1
  have hC := h.1.1
  have hM := h.M
  have hI := h.2.1.1
  have hd10 : tD T ≤ 10 := hI.1.2.1
  have c1 := simC_sc (simC_wN hC 3 0 (by decide)) 0
  obtain ⟨σ1, g1, g2, g3⟩ := f_anew_L (N := 1000) (T := wI (wN T 3 0) 0 0) hd10 (nI (tY T)) (tD T) 0 1000 _ (simC_zR0 c1) (by show 0 + tD T = tD T; omega) (by omega)
  obtain ⟨μ1, q1, q2, q3⟩ := m_anew_L (N := 1000) (T := T) hd10 (tD T) 0 1000 μ (simM_zR0 hM) (by omega) (by omega)
  have s1 := simM_num (simM_sc q2 0) (k := 3) (m := 3) (by decide) 0
  refine pl_0 (r := nI (tY T)) (σ' := σ1) (μ' := setA μ1 0 (upd (upd (μ1.2 0) 4 0) 3 (nI 0))) ?_ ?_ (Rel_cor H (T := wN (wI (zR T (tD T)) 0 0) 3 0) (RS := RS) (((FC_sI (by decide)).tr (FC_sI (by decide))).tr g3.FC) (q3.FM.tr (FM_sA (by decide))) (cor_up h ?_ (by rw [setA_at]; exact s1) (Inv_zR hI) rfl rfl rfl ?_ (fun i _ hi => by rw [setA_at, upd_ne (by omega), upd_ne (by omega)]; exact q3.2.2 i hi)))
  · rw [cc7]
    unfold f0_anew
    rw [show σ.1 3 = nI (tY T) from hC.1.2.2.2.1]
    simp only [Option.bind_some]
    rw [show (0 : Int32) = nI 0 from rfl]
    have g1' : f0_anew_L26 1000 1000 (sI (sI σ 3 (nI 0)) 4 (nI 0)) (nI (tY T)) (nI 0) = some (nI (tY T), σ1) := g1
    rw [g1']
    rfl
  · rw [mc7]
    unfold m_anew
    rw [show (0 : Int32) = nI 0 from rfl, q1, show (4 : Int32) = nI 4 from rfl, mS_at (by decide)]
    simp only [Option.bind_some]
    rw [show (3 : Int32) = nI 3 from rfl, m_bec (by decide), setA_at, setA_setA, upd_ne (by decide)]
    simp only [Option.bind_some]
    rw [show μ1.2 0 3 = nI (tY T) from q2.1.2.2.1]
    rfl
  · exact g2
  · rw [g3.1]; rfl
theorem two_both {T : Tw} {σ : SS} {μ : MS} (hC : simC T 0 σ) (hM : simM T (μ.2 0)) (hI : Inv T) (a b : Int32) : (∃ p q : Nat, p < tP T ∧ q < tP T ∧ p ≠ q ∧ a = nI p ∧ b = nI q ∧ f0_areTwo σ a b = some true ∧ m_areTwo μ a b = some true) ∨ (f0_areTwo σ a b = some false ∧ m_areTwo μ a b = some false) := by
  have hp6 : tP T ≤ 6 := hI.1.1
  unfold f0_areTwo m_areTwo
  rcases isP_both hC hM hI a with ⟨p, hp, rfl, e1, e2⟩ | ⟨e1, e2⟩
  · rcases isP_both hC hM hI b with ⟨q, hq, rfl, e3, e4⟩ | ⟨e3, e4⟩
    · rw [e1, e2, e3, e4]
      simp only [Option.bind_some, if_true]
      by_cases hpq : p = q
      · right
        subst hpq
        exact ⟨if_pos rfl, if_pos rfl⟩
      · left
        have hne : ¬ nI p = nI q := fun z => hpq ((nN_eq (by omega) (by omega)).mp z)
        exact ⟨p, q, hp, hq, hpq, rfl, rfl, if_neg hne, if_neg hne⟩
    · right
      rw [e1, e2, e3, e4]
      exact ⟨rfl, rfl⟩
  · right
    rw [e1, e2]
    exact ⟨rfl, rfl⟩
theorem simM_owed {T : Tw} {f : Nat → Int32} (hM : simM T f) {k : Nat} (hk : k < 36) (v : Nat) : simM (eA T 8 k v) (upd f (76 + k) (nI v)) := by
  obtain ⟨⟨a0, a1, a2, a3, a4, a5, a6⟩, b, c, o, r⟩ := hM
  have e : ∀ i, (i < 76 ∨ 112 ≤ i) → upd f (76 + k) (nI v) i = f i := fun i hi => upd_ne (by omega)
  have e2 : ∀ j, j ≠ 8 → tA (eA T 8 k v) j = tA T j := fun j hj => eA_ne hj
  refine ⟨⟨by rw [e _ (by decide)]; exact a0, by rw [e _ (by decide)]; exact a1, by rw [e _ (by decide)]; exact a2, by rw [e _ (by decide)]; exact a3, by rw [e _ (by decide)]; exact a4, by rw [e _ (by decide)]; exact a5, by rw [e _ (by decide)]; exact a6⟩, fun n hn => ?_, fun n hn => ?_, fun n hn => ?_, fun n hn => ?_⟩
  · rw [e _ (by omega), e _ (by omega), e _ (by omega), e2 0 (by decide), e2 1 (by decide), e2 2 (by decide)]; exact b n hn
  · rw [e _ (by omega), e _ (by omega), e _ (by omega), e _ (by omega), e _ (by omega), e2 3 (by decide), e2 4 (by decide), e2 5 (by decide), e2 7 (by decide)]; exact c n hn
  · rw [eA_at]
    by_cases hnk : n = k
    · subst hnk
      rw [upd_at, if_pos rfl]
    · rw [upd_ne (by omega), if_neg hnk]; exact o n hn
  · rw [e _ (by omega), e _ (by omega), e _ (by omega), e _ (by omega), e2 9 (by decide), e2 10 (by decide), e2 11 (by decide), e2 12 (by decide)]; exact r n hn
theorem c_owed {T : Tw} {σ : SS} (hC : simC T 0 σ) {k : Nat} (hk : k < 36) : ldC σ 8 (nI k) = some (nI (tA T 8 k)) := by
  rw [ldC_n (by show k < 36; exact hk) (by omega)]
  exact congrArg some (hC.2.2.2.1 k hk)
theorem m_owed {T : Tw} {μ : MS} (hM : simM T (μ.2 0)) {k : Nat} (hk : k < 36) : ldM μ 0 (nI (76 + k)) = some (nI (tA T 8 k)) := by
  rw [mF_at (by omega)]
  exact congrArg some (hM.2.2.2.1 k hk)
theorem ix6 (p q : Nat) : (6 : Int32) * nI p + nI q = nI (6 * p + q) := by
  rw [show (6 : Int32) = nI 6 from rfl, nN_mul, nN_add]
theorem ix76 (p q : Nat) : (76 : Int32) + (6 : Int32) * nI p + nI q = nI (76 + (6 * p + q)) := by
  rw [show (6 : Int32) = nI 6 from rfl, show (76 : Int32) = nI 76 from rfl, nN_mul, nN_add, nN_add, Nat.add_assoc]
theorem Inv_owe {T : Tw} (hI : Inv T) {p q v : Nat} (hp : p < tP T) (hq : q < tP T) (hv : v ≤ 99) : Inv (eA T 8 (6 * p + q) v) := by
  obtain ⟨a, b, c, o, r⟩ := hI
  have hp6 : tP T ≤ 6 := a.1
  have e2 : ∀ j, j ≠ 8 → tA (eA T 8 (6 * p + q) v) j = tA T j := fun j hj => eA_ne hj
  refine ⟨a, fun n hn => ?_, fun n hn => ?_, fun n hn => ?_, fun n hn => ?_⟩
  · rw [e2 0 (by decide), e2 1 (by decide), e2 2 (by decide)]; exact b n hn
  · rw [e2 3 (by decide), e2 4 (by decide), e2 5 (by decide), e2 7 (by decide)]; exact c n hn
  · rw [eA_at]
    have ho := o n hn
    by_cases e : n = 6 * p + q
    · rw [if_pos e]
      refine ⟨hv, fun h => ?_⟩
      have h1 : n / 6 = p := by omega
      have h2 : n % 6 = q := by omega
      rcases h with h | h
      · exact absurd h (by show ¬ tP T ≤ n / 6; omega)
      · exact absurd h (by show ¬ tP T ≤ n % 6; omega)
    · rw [if_neg e]; exact ho
  · rw [e2 9 (by decide), e2 10 (by decide), e2 11 (by decide), e2 12 (by decide)]; exact r n hn
theorem pl_20 (a b c d : Int32) (σ : SS) (δ : DS) (μ : MS) (H : Rel σ δ μ) : pLaw Rel 20 a b c d σ δ μ := by
  obtain ⟨T, RS, h⟩ := H.1
  have hC := h.1.1
  have hM := h.M
  have hI := h.2.1.1
  have hp6 : tP T ≤ 6 := hI.1.1
  rcases two_both hC hM hI a b with ⟨p, q, hp, hq, hpq, rfl, rfl, e1, e2⟩ | ⟨e1, e2⟩
  · rcases in_0_99 c with ⟨v, -, hv, rfl, e3, e4⟩ | ⟨e3, e4⟩
    · have hk : 6 * p + q < 36 := by omega
      refine pl_0 (r := nI (tA T 8 (6 * p + q))) (σ' := sA σ 8 (upd (σ.2.1 8) (6 * p + q) (nI v))) (μ' := setA μ 0 (upd (μ.2 0) (76 + (6 * p + q)) (nI v))) ?_ ?_ (Rel_cor H (T := eA T 8 (6 * p + q) v) (RS := RS) (FC_sA (by decide)) (FM_sA (by decide)) (cor_up h (simC_eA hC (by decide) _ v) (by rw [setA_at]; exact simM_owed hM hk v) (Inv_owe hI hp hq hv) rfl (eA_ne (by decide)) (eA_ne (by decide)) rfl (fun i _ hi => by rw [setA_at]; exact upd_ne (by omega))))
      · rw [cc20]
        unfold f0_owe
        rw [e1]
        simp only [Option.bind_some, if_true]
        rw [e3]
        simp only [Option.bind_some, if_true]
        rw [ix6, c_owed hC hk, cS_at (by show 6 * p + q < 36; exact hk) (by omega)]
        rfl
      · rw [mc20]
        unfold m_owe
        rw [e2]
        simp only [Option.bind_some, if_true]
        rw [e4]
        simp only [Option.bind_some, if_true]
        rw [ix76, m_bec (by omega), show μ.2 0 (76 + (6 * p + q)) = nI (tA T 8 (6 * p + q)) from hM.2.2.2.1 _ hk]
        rfl
    · exact pl_0 (r := -1) (σ' := σ) (μ' := μ) (by rw [cc20]; unfold f0_owe; rw [e1]; simp only [Option.bind_some, if_true]; rw [e3]; rfl) (by rw [mc20]; unfold m_owe; rw [e2]; simp only [Option.bind_some, if_true]; rw [e4]; rfl) H
  · exact pl_0 (r := -1) (σ' := σ) (μ' := μ) (by rw [cc20]; unfold f0_owe; rw [e1]; rfl) (by rw [mc20]; unfold m_owe; rw [e2]; rfl) H
theorem pl_21 (a b c d : Int32) (σ : SS) (δ : DS) (μ : MS) (H : Rel σ δ μ) : pLaw Rel 21 a b c d σ δ μ := by
  obtain ⟨T, RS, h⟩ := H.1
  have hp6 : tP T ≤ 6 := h.2.1.1.1.1
  rcases two_both h.1.1 h.M h.2.1.1 a b with ⟨p, q, hp, hq, hpq, rfl, rfl, e1, e2⟩ | ⟨e1, e2⟩
  · refine pl_0 (r := nI (tA T 8 (6 * p + q))) (σ' := σ) (μ' := μ) ?_ ?_ H
    · rw [cc21]
      unfold f0_owes
      rw [e1]
      simp only [Option.bind_some, if_true]
      rw [ix6, c_owed h.1.1 (by omega)]
      rfl
    · rw [mc21]
      unfold m_owes
      rw [e2]
      simp only [Option.bind_some, if_true]
      rw [ix76, m_owed h.M (by omega)]
      rfl
  · exact pl_0 (r := -1) (σ' := σ) (μ' := μ) (by rw [cc21]; unfold f0_owes; rw [e1]; rfl) (by rw [mc21]; unfold m_owes; rw [e2]; rfl) H
/-- what somebody gets, less what is owed to others, of those below a number -/
def netI (T : Tw) (p : Nat) : Nat → Int32
  | 0 => 0
  | n + 1 => netI T p n + (nI (tA T 8 (6 * n + p)) - nI (tA T 8 (6 * p + n)))
theorem netI_6 {T : Tw} (hI : Inv T) {p : Nat} (hp : p < 6) : ∀ n, tP T + n ≤ 6 → netI T p (tP T + n) = netI T p (tP T) := by
  intro n
  induction n with
  | zero => intro _; rfl
  | succ n ih =>
    intro h
    show netI T p (tP T + n) + (nI (tA T 8 (6 * (tP T + n) + p)) - nI (tA T 8 (6 * p + (tP T + n)))) = _
    have h1 := (hI.2.2.2.1 (6 * (tP T + n) + p) (by omega)).2 (Or.inl (by omega))
    have h2 := (hI.2.2.2.1 (6 * p + (tP T + n)) (by omega)).2 (Or.inr (by omega))
    rw [h1, h2, ih (by omega), Int32.sub_self, Int32.add_zero]
theorem f_net_L {T : Tw} {σ : SS} (hC : simC T 0 σ) (hp6 : tP T ≤ 6) (N : Nat) {p : Nat} (hp : p < 6) : ∀ (r q fuel : Nat), q + r = tP T → r < fuel → f0_netOf_L4 N σ fuel (nI p) (netI T p q) (nI q) = some (netI T p (tP T)) := by
  intro r
  induction r with
  | zero =>
    intro q fuel h1 h2
    obtain ⟨n, rfl⟩ : ∃ n, fuel = n + 1 := ⟨fuel - 1, by omega⟩
    show (if (σ.1 0) ≤ nI q then _ else _) = _
    rw [show σ.1 0 = nI (tP T) from hC.1.1, if_pos ((nN_le (by omega) (by omega)).mpr (by omega)), show q = tP T by omega]
  | succ r ih =>
    intro q fuel h1 h2
    obtain ⟨n, rfl⟩ : ∃ n, fuel = n + 1 := ⟨fuel - 1, by omega⟩
    show (if (σ.1 0) ≤ nI q then _ else _) = _
    rw [show σ.1 0 = nI (tP T) from hC.1.1, if_neg (fun z => by have := (nN_le (by omega) (by omega)).mp z; omega), ix6, ix6, c_owed hC (by omega), c_owed hC (by omega)]
    simp only [Option.bind_some]
    rw [nI_1]
    exact ih (q + 1) n (by omega) (by omega)
theorem m_net_L {T : Tw} {μ : MS} (hM : simM T (μ.2 0)) (N : Nat) {p : Nat} (hp : p < 6) : ∀ (r q fuel : Nat), q + r = 6 → r < fuel → m_netOf_L4 N μ fuel (nI p) (netI T p q) (nI q) = some (netI T p 6) := by
  intro r
  induction r with
  | zero =>
    intro q fuel h1 h2
    obtain ⟨n, rfl⟩ : ∃ n, fuel = n + 1 := ⟨fuel - 1, by omega⟩
    show (if nI 6 ≤ nI q then _ else _) = _
    rw [if_pos ((nN_le (by omega) (by omega)).mpr (by omega)), show q = 6 by omega]
  | succ r ih =>
    intro q fuel h1 h2
    obtain ⟨n, rfl⟩ : ∃ n, fuel = n + 1 := ⟨fuel - 1, by omega⟩
    show (if nI 6 ≤ nI q then _ else _) = _
    rw [if_neg (fun z => by have := (nN_le (by omega) (by omega)).mp z; omega), ix76, ix76, m_owed hM (by omega), m_owed hM (by omega)]
    simp only [Option.bind_some]
    rw [nI_1]
    exact ih (q + 1) n (by omega) (by omega)
theorem net_both {T : Tw} {σ : SS} {μ : MS} (hC : simC T 0 σ) (hM : simM T (μ.2 0)) (hI : Inv T) {p : Nat} (hp : p < 6) : f0_netOf 1000 σ (nI p) = some (netI T p 6) ∧ m_netOf 1000 μ (nI p) = some (netI T p 6) := by
  have hp6 : tP T ≤ 6 := hI.1.1
  constructor
  · have := f_net_L hC hp6 1000 hp (tP T) 0 1000 (by omega) (by omega)
    have e := netI_6 hI hp (6 - tP T) (by omega)
    rw [show tP T + (6 - tP T) = 6 by omega] at e
    rw [e]
    exact this
  · exact m_net_L hM 1000 hp 6 0 1000 (by omega) (by omega)
theorem pl_22 (a b c d : Int32) (σ : SS) (δ : DS) (μ : MS) (H : Rel σ δ μ) : pLaw Rel 22 a b c d σ δ μ := by
  obtain ⟨T, RS, h⟩ := H.1
  have hp6 : tP T ≤ 6 := h.2.1.1.1.1
  rcases isP_both h.1.1 h.M h.2.1.1 a with ⟨p, hp, rfl, e1, e2⟩ | ⟨e1, e2⟩
  · obtain ⟨g1, g2⟩ := net_both h.1.1 h.M h.2.1.1 (p := p) (by omega)
    refine pl_0 (r := (10000 : Int32) + netI T p 6) (σ' := σ) (μ' := μ) ?_ ?_ H
    · rw [cc22]
      unfold f0_net
      rw [e1]
      simp only [Option.bind_some, if_true]
      rw [g1]
      rfl
    · rw [mc22]
      unfold m_net
      rw [e2]
      simp only [Option.bind_some, if_true]
      rw [g2]
      rfl
  · exact pl_0 (r := -1) (σ' := σ) (μ' := μ) (by rw [cc22]; unfold f0_net; rw [e1]; rfl) (by rw [mc22]; unfold m_net; rw [e2]; rfl) H
theorem rch_L {T : Tw} {σ : SS} {μ : MS} (hC : simC T 0 σ) (hM : simM T (μ.2 0)) (N : Nat) (x1 : Int32) : ∀ (r k fuel : Nat) (x2 : Int32), k + r = 36 → r < fuel → ∃ y, f0_reached_L4 N σ fuel x1 x2 (nI k) = some y ∧ m_owedBy_L4 N μ fuel x1 x2 (nI k) = some y := by
  intro r
  induction r with
  | zero =>
    intro k fuel x2 h1 h2
    obtain ⟨n, rfl⟩ : ∃ n, fuel = n + 1 := ⟨fuel - 1, by omega⟩
    refine ⟨x2, ?_, ?_⟩
    · show (if nI 36 ≤ nI k then _ else _) = _
      rw [if_pos ((nN_le (by omega) (by omega)).mpr (by omega))]
    · show (if nI 36 ≤ nI k then _ else _) = _
      rw [if_pos ((nN_le (by omega) (by omega)).mpr (by omega))]
  | succ r ih =>
    intro k fuel x2 h1 h2
    obtain ⟨n, rfl⟩ : ∃ n, fuel = n + 1 := ⟨fuel - 1, by omega⟩
    have hk : ¬ nI 36 ≤ nI k := fun z => by have := (nN_le (by omega) (by omega)).mp z; omega
    have e76 : (76 : Int32) + nI k = nI (76 + k) := nN_add 76 k
    have e1 : nI k + 1 = nI (k + 1) := nI_1 k
    by_cases hb : ((x1 >>> ((nI k / (6 : Int32)) &&& 31)) &&& (1 : Int32)) = (1 : Int32)
    · by_cases hv : nI (tA T 8 k) ≤ 0
      · obtain ⟨y, g1, g2⟩ := ih (k + 1) n (x2 ||| (0 : Int32)) (by omega) (by omega)
        refine ⟨y, ?_, ?_⟩
        · show (if nI 36 ≤ nI k then _ else _) = _
          rw [if_neg hk, if_pos hb, c_owed hC (by omega)]
          simp only [Option.bind_some]
          rw [if_pos hv, e1]
          exact g1
        · show (if nI 36 ≤ nI k then _ else _) = _
          rw [if_neg hk, if_pos hb, e76, m_owed hM (by omega)]
          simp only [Option.bind_some]
          rw [if_pos hv, e1]
          exact g2
      · obtain ⟨y, g1, g2⟩ := ih (k + 1) n (x2 ||| ((1 : Int32) <<< ((nI k - nI k / (6 : Int32) * (6 : Int32)) &&& 31))) (by omega) (by omega)
        refine ⟨y, ?_, ?_⟩
        · show (if nI 36 ≤ nI k then _ else _) = _
          rw [if_neg hk, if_pos hb, c_owed hC (by omega)]
          simp only [Option.bind_some]
          rw [if_neg hv, e1]
          exact g1
        · show (if nI 36 ≤ nI k then _ else _) = _
          rw [if_neg hk, if_pos hb, e76, m_owed hM (by omega)]
          simp only [Option.bind_some]
          rw [if_neg hv, e1]
          exact g2
    · obtain ⟨y, g1, g2⟩ := ih (k + 1) n (x2 ||| (0 : Int32)) (by omega) (by omega)
      refine ⟨y, ?_, ?_⟩
      · show (if nI 36 ≤ nI k then _ else _) = _
        rw [if_neg hk, if_neg hb, e1]
        exact g1
      · show (if nI 36 ≤ nI k then _ else _) = _
        rw [if_neg hk, if_neg hb, e1]
        exact g2
theorem bit1 (x : Int32) : x &&& 1 = 0 ∨ x &&& 1 = 1 := by
  have h : x.toBitVec &&& 1#32 = 0#32 ∨ x.toBitVec &&& 1#32 = 1#32 := by
    rcases Nat.mod_two_eq_zero_or_one x.toBitVec.toNat with h | h
    · left
      apply BitVec.eq_of_toNat_eq
      rw [BitVec.toNat_and]
      show x.toBitVec.toNat &&& 1 = 0
      rw [Nat.and_one_is_mod, h]
    · right
      apply BitVec.eq_of_toNat_eq
      rw [BitVec.toNat_and]
      show x.toBitVec.toNat &&& 1 = 1
      rw [Nat.and_one_is_mod, h]
  rcases h with h | h
  · left; exact Int32.toBitVec_inj.mp h
  · right; exact Int32.toBitVec_inj.mp h
