/-! PLAIN LAW: the host: shelves, what is taken -/
set_option maxRecDepth 100000
theorem ticket_eq {δ : DS} (hf : fresh δ) (σ : SS) (x : Int32) : dMonV (dNew δ 18 [.int 0]) (f20_init σ (dNew δ 18 [.int 0]) δ.2 x) = some (σ, dAdd δ 18 [.int x]) := by
  refine dMonV_eq ?_ (Nat.le_refl _)
  unfold f20_init
  rw [dNew_add]
  show (dPut (δ.1 ++ [(δ.2, .inr (18, [.int 0]))], δ.2 + 1) 18 0 δ.2 (.int x)).bind _ = _
  rw [dPut_last hf (by decide : 0 < 1)]
  rfl
theorem pl_48 (a b c d : Int32) (σ : SS) (δ : DS) (μ : MS) (H : Rel σ δ μ) : pLaw Rel 48 a b c d σ δ μ := by
  obtain ⟨T, RS, h⟩ := H.1
  have hC := h.1.1
  have hM := h.M
  have hI := h.2.1.1
  have hp6 : tP T ≤ 6 := hI.1.1
  have hSh := H.2.2.2.1.1
  have hSf := H.2.2.2.1.2
  have hf := H.2.2.2.2.2
  rcases shelf_both a with ⟨s, hs, rfl, e1, e2, e3⟩ | ⟨e1, e2⟩
  · have st : ∀ (j : Nat) (μ : MS) x, (j = 14 ∨ j = 15 ∨ j = 16) → stM μ j (nI s) x = some (setA μ j (upd (μ.2 j) s x)) := fun j μ x hj => by
      rcases hj with rfl | rfl | rfl
      · exact stM_n (by show s < 4; exact hs) (by omega)
      · exact stM_n (by show s < 4; exact hs) (by omega)
      · exact stM_n (by show s < 4; exact hs) (by omega)
    -- the model's picture with a shelf filled
    have hG : ∀ (x y z : Int32), (∀ j, j ≠ 14 → j ≠ 15 → j ≠ 16 → (setA (setA (setA μ 14 (upd (μ.2 14) s x)) 15 (upd (μ.2 15) s y)) 16 (upd (μ.2 16) s z)).2 j = μ.2 j) := fun x y z j h1 h2 h3 => by rw [setA_o _ _ _ h3, setA_o _ _ _ h2, setA_o _ _ _ h1]
    have h14 : ∀ (x y z : Int32), (setA (setA (setA μ 14 (upd (μ.2 14) s x)) 15 (upd (μ.2 15) s y)) 16 (upd (μ.2 16) s z)).2 14 = upd (μ.2 14) s x := fun x y z => by rw [setA_o _ _ _ (by decide), setA_o _ _ _ (by decide), setA_at]
    have h15 : ∀ (x y z : Int32), (setA (setA (setA μ 14 (upd (μ.2 14) s x)) 15 (upd (μ.2 15) s y)) 16 (upd (μ.2 16) s z)).2 15 = upd (μ.2 15) s y := fun x y z => by rw [setA_o _ _ _ (by decide), setA_at]
    have h16 : ∀ (x y z : Int32), (setA (setA (setA μ 14 (upd (μ.2 14) s x)) 15 (upd (μ.2 15) s y)) 16 (upd (μ.2 16) s z)).2 16 = upd (μ.2 16) s z := fun x y z => setA_at _ _ _
    have mk : ∀ (x y z : Int32) (ro : Option Nat) (δ' : DS), exA δ δ' → fresh δ' → (∀ s', s' = s → ((ro = none ∧ x = 0) ∨ (∃ q n, ro = some q ∧ n < 6 ∧ dl δ' q = some (.inr (18, [.int (nI n)])) ∧ x = 1 ∧ y = nI n) ∨ ∃ q t n, ro = some q ∧ t ≤ 4 ∧ n ≤ 40 ∧ (∃ e f, dl δ' q = some e ∧ rowE t n f e) ∧ x = 2 ∧ y = nI n ∧ z = nI t)) → Rel (sF σ (3 + s) ro) δ' (setA (setA (setA μ 14 (upd (μ.2 14) s x)) 15 (upd (μ.2 15) s y)) 16 (upd (μ.2 16) s z)) := fun x y z ro δ' hE hf' hx => by
      refine Rel_host H (fun _ _ => rfl) rfl (fun k hk => sF_ne (by omega)) rfl hE.ext hf' rfl (fun j hj => hG x y z j (by omega) (by omega) (by omega)) ?_ (fun s' hs' => ?_)
      · refine ⟨fun s' hs' => ?_, fun s1 s2 q g1 g2 g3 g4 => hSh.2 s1 s2 q g1 g2 (by rw [← g3, sF_ne (by omega)]) (by rw [← g4, sF_ne (by omega)])⟩
        rw [sF_ne (by omega), hG x y z 11 (by decide) (by decide) (by decide), hG x y z 12 (by decide) (by decide) (by decide), hG x y z 13 (by decide) (by decide) (by decide)]
        rcases hSh.1 s' hs' with g | ⟨q, t, n, x1, x2, x3, x4, x5, x6, x7, f, x8, x9⟩
        · exact Or.inl g
        · exact Or.inr ⟨q, t, n, x1, x2, x3, x4, x5, x6, hE _ _ x7, f, x8, x9⟩
      · rw [h14, h15, h16]
        by_cases e : s' = s
        · rw [e, sF_at, upd_at, upd_at, upd_at]
          exact hx s rfl
        · rw [sF_ne (by omega), upd_ne e, upd_ne e, upd_ne e]
          rcases hSf s' hs' with g | ⟨q, n', x1, x2, x3, x4⟩ | ⟨q, t', n', x1, x2, x3, ⟨ee, f, x4, x5⟩, x6⟩
          · exact Or.inl g
          · exact Or.inr (Or.inl ⟨q, n', x1, x2, hE _ _ x3, x4⟩)
          · exact Or.inr (Or.inr ⟨q, t', n', x1, x2, x3, ⟨ee, f, hE _ _ x4, x5⟩, x6⟩)
    rcases in_0_2 b with ⟨w, -, hw, rfl, e4, e5⟩ | ⟨e4, e5⟩
    · rcases (show w = 0 ∨ w = 1 ∨ w = 2 by omega) with rfl | rfl | rfl
      · rcases isP_both hC hM hI c with ⟨p, hp, rfl, e6, e7⟩ | ⟨e6, e7⟩
        · have hE := exA_add δ 18 [.int (nI p)]
          refine pl_d (r := 1) (σ' := sF σ (3 + s) (some δ.2)) (δ' := dAdd δ 18 [.int (nI p)]) (μ' := setA (setA (setA μ 14 (upd (μ.2 14) s 1)) 15 (upd (μ.2 15) s (nI p))) 16 (upd (μ.2 16) s 0)) ?_ ?_ (mk 1 (nI p) 0 (some δ.2) _ hE (fresh_add hf _ _) (fun s' _ => Or.inr (Or.inl ⟨δ.2, p, rfl, by omega, dl_add hf _ _, rfl, rfl⟩))) (Nat.le_succ _) (by rw [dAdd_2]; omega)
          · rw [cc48]
            unfold f0_shelf
            rw [e1, Option.bind_some, if_pos rfl, e4, Option.bind_some, if_pos rfl, if_neg (by decide)]
            unfold f0_shelf_B28
            rw [if_pos (show nI 0 = (0 : Int32) from rfl), e6, Option.bind_some, if_pos rfl, e3, Option.bind_some, if_pos (show nI 0 = (0 : Int32) from rfl), Option.bind_some, ticket_eq hf]
            rfl
          · rw [mc48]
            unfold m_shelf
            rw [e2, Option.bind_some, if_pos rfl, e5, Option.bind_some, if_pos rfl, if_pos (show nI 0 = (0 : Int32) from rfl), e7, Option.bind_some, if_pos rfl]
            unfold m_shelf_B31
            rw [if_neg (by decide), if_pos (show nI 0 = (0 : Int32) from rfl)]
            unfold m_shelf_B77
            rw [st 14 _ _ (by decide), Option.bind_some, if_pos (show nI 0 = (0 : Int32) from rfl), st 15 _ _ (by decide), Option.bind_some, if_neg (by decide), st 16 _ _ (by decide), setA_o _ _ _ (show 15 ≠ 14 by decide), setA_o _ _ _ (show 16 ≠ 15 by decide), setA_o _ _ _ (show 16 ≠ 14 by decide)]
            rfl
        · refine pl_0 (r := -1) (σ' := σ) (μ' := μ) ?_ ?_ H
          · rw [cc48]
            unfold f0_shelf
            rw [e1, Option.bind_some, if_pos rfl, e4, Option.bind_some, if_pos rfl, if_neg (by decide)]
            unfold f0_shelf_B28
            rw [if_pos (show nI 0 = (0 : Int32) from rfl), e6]
            rfl
          · rw [mc48]
            unfold m_shelf
            rw [e2, Option.bind_some, if_pos rfl, e5, Option.bind_some, if_pos rfl, if_pos (show nI 0 = (0 : Int32) from rfl), e7]
            rfl
      · rcases shelf_both c with ⟨i, hi, rfl, e6, e7, e8⟩ | ⟨e6, e7⟩
        · have l11 : ∀ μ' : MS, μ'.2 11 = μ.2 11 → ldM μ' 11 (nI i) = some (μ.2 11 i) := fun μ' hμ => by rw [ldM_n (by show i < 4; exact hi) (by omega), hμ]
          have l12 : ∀ μ' : MS, μ'.2 12 = μ.2 12 → ldM μ' 12 (nI i) = some (μ.2 12 i) := fun μ' hμ => by rw [ldM_n (by show i < 4; exact hi) (by omega), hμ]
          have mval : ∀ y0, m_shelf_B77 μ (nI s) (nI 1) (nI i) y0 (nI s) = some (1, setA (setA (setA μ 14 (upd (μ.2 14) s y0)) 15 (upd (μ.2 15) s (μ.2 12 i))) 16 (upd (μ.2 16) s (μ.2 11 i))) := fun y0 => by
            unfold m_shelf_B77
            rw [st 14 _ _ (by decide), Option.bind_some, if_neg (by decide), if_pos (show nI 1 = (1 : Int32) from rfl), l12 _ (setA_o _ _ _ (by decide)), Option.bind_some, st 15 _ _ (by decide), Option.bind_some, if_pos (show nI 1 = (1 : Int32) from rfl), l11 _ (by rw [setA_o _ _ _ (by decide), setA_o _ _ _ (by decide)]), Option.bind_some, st 16 _ _ (by decide), setA_o _ _ _ (show 15 ≠ 14 by decide), setA_o _ _ _ (show 16 ≠ 15 by decide), setA_o _ _ _ (show 16 ≠ 14 by decide)]
            rfl
          have fM : m_shelf μ (nI s) (nI 1) (nI i) = if μ.2 11 i < 0 then m_shelf_B77 μ (nI s) (nI 1) (nI i) (0 : Int32) (nI s) else m_shelf_B77 μ (nI s) (nI 1) (nI i) (2 : Int32) (nI s) := by
            unfold m_shelf
            rw [e2, Option.bind_some, if_pos rfl, e5, Option.bind_some, if_pos rfl, if_neg (by decide)]
            unfold m_shelf_B31
            rw [if_pos (show nI 1 = (1 : Int32) from rfl), e7, Option.bind_some, if_pos rfl, if_neg (by decide), if_pos (show nI 1 = (1 : Int32) from rfl), l11 μ rfl, Option.bind_some]
          have fC : f0_shelf σ δ (nI s) (nI 1) (nI i) = some (1, sF σ (3 + s) (σ.2.2.1 (7 + i)), δ) := by
            unfold f0_shelf
            rw [e1, Option.bind_some, if_pos rfl, e4, Option.bind_some, if_pos rfl, if_pos (show nI 1 = (1 : Int32) from rfl), e6, Option.bind_some, if_pos rfl]
            unfold f0_shelf_B28
            rw [if_neg (by decide), e3, Option.bind_some, if_neg (by decide), if_pos (show nI 1 = (1 : Int32) from rfl), e8]
            rfl
          rcases hSh.1 i hi with ⟨x1, x2, x3⟩ | ⟨q, t, n, x1, x2, x3, x4, x5, e, x6, f, x7, x8⟩
          · rw [x1] at fC
            rw [x2, if_pos (by decide), mval] at fM
            exact pl_0 (by rw [cc48, fC]) (by rw [mc48, fM]) (mk 0 (μ.2 12 i) (μ.2 11 i) none δ (exA.rf δ) hf (fun _ _ => Or.inl ⟨rfl, rfl⟩))
          · rw [x1] at fC
            rw [x4, if_neg (nN_neg (by omega)), mval] at fM
            exact pl_0 (by rw [cc48, fC]) (by rw [mc48, fM]) (mk 2 (μ.2 12 i) (μ.2 11 i) (some q) δ (exA.rf δ) hf (fun _ _ => Or.inr (Or.inr ⟨q, t, n, rfl, x2, x3, ⟨e, f, x6, x7⟩, rfl, x5, x4⟩)))
        · refine pl_0 (r := -1) (σ' := σ) (μ' := μ) ?_ ?_ H
          · rw [cc48]
            unfold f0_shelf
            rw [e1, Option.bind_some, if_pos rfl, e4, Option.bind_some, if_pos rfl, if_pos (show nI 1 = (1 : Int32) from rfl), e6]
            rfl
          · rw [mc48]
            unfold m_shelf
            rw [e2, Option.bind_some, if_pos rfl, e5, Option.bind_some, if_pos rfl, if_neg (by decide)]
            unfold m_shelf_B31
            rw [if_pos (show nI 1 = (1 : Int32) from rfl), e7]
            rfl
      · refine pl_0 (r := 1) (σ' := sF σ (3 + s) none) (μ' := setA (setA (setA μ 14 (upd (μ.2 14) s 0)) 15 (upd (μ.2 15) s 0)) 16 (upd (μ.2 16) s 0)) ?_ ?_ (mk 0 0 0 none δ (exA.rf δ) hf (fun _ _ => Or.inl ⟨rfl, rfl⟩))
        · rw [cc48]
          unfold f0_shelf
          rw [e1, Option.bind_some, if_pos rfl, e4, Option.bind_some, if_pos rfl, if_neg (by decide)]
          unfold f0_shelf_B28
          rw [if_neg (by decide), e3, Option.bind_some, if_neg (by decide), if_neg (by decide)]
          rfl
        · rw [mc48]
          unfold m_shelf
          rw [e2, Option.bind_some, if_pos rfl, e5, Option.bind_some, if_pos rfl, if_neg (by decide)]
          unfold m_shelf_B31
          rw [if_neg (by decide), if_neg (by decide), if_neg (by decide)]
          unfold m_shelf_B77
          rw [st 14 _ _ (by decide), Option.bind_some, if_neg (by decide), if_neg (by decide), st 15 _ _ (by decide), Option.bind_some, if_neg (by decide), st 16 _ _ (by decide), setA_o _ _ _ (show 15 ≠ 14 by decide), setA_o _ _ _ (show 16 ≠ 15 by decide), setA_o _ _ _ (show 16 ≠ 14 by decide)]
          rfl
    · exact pl_0 (r := -1) (σ' := σ) (μ' := μ) (by rw [cc48]; unfold f0_shelf; rw [e1, Option.bind_some, if_pos rfl, e4]; rfl) (by rw [mc48]; unfold m_shelf; rw [e2, Option.bind_some, if_pos rfl, e5]; rfl) H
  · exact pl_0 (r := -1) (σ' := σ) (μ' := μ) (by rw [cc48]; unfold f0_shelf; rw [e1]; rfl) (by rw [mc48]; unfold m_shelf; rw [e2]; rfl) H
/-! what lies on a shelf -/
def hNames : List String := ["", "LeftUndoes$Clasped", "LeftUndoes$Forger", "LeftUndoes$Twin", "LeftUndoes$Slow", "LeftUndoes$Heir"]
theorem hand_nm {δ : DS} {q k p g : Nat} (h : isHand δ q k p g) (hk : 1 ≤ k ∧ k ≤ 5) : dNm δ q = some (hNames.getD k "") := by
  unfold dNm
  rw [h]
  rcases (show k = 1 ∨ k = 2 ∨ k = 3 ∨ k = 4 ∨ k = 5 by omega) with rfl | rfl | rfl | rfl | rfl <;> rfl
theorem tick_nm {δ : DS} {q : Nat} {x : Int32} (h : dl δ q = some (.inr (18, [.int x]))) : dNm δ q = some "LeftUndoes$Ticket" := by
  unfold dNm
  rw [h]
  rfl
/-- what is held: nobody and nothing, a person, a row -/
def heldC (T : Tw) (s : Nat) (σ : SS) (δ : DS) (μ : MS) : Prop := (f0_held σ δ (nI s) = some (.inr (none, σ, δ)) ∧ m_onShelf μ (nI s) = some (-1) ∧ (μ.2 14 s = 0 ∨ μ.2 14 s = 1)) ∨ (∃ q p, p < tP T ∧ isHand δ q (tA T 0 p) p (tA T 1 p) ∧ f0_held σ δ (nI s) = some (.inr (some q, σ, δ)) ∧ m_onShelf μ (nI s) = some (nI p) ∧ μ.2 14 s = 1 ∧ μ.2 15 s = nI p) ∨ ∃ q t n ar, t ≤ 4 ∧ n ≤ 40 ∧ dl δ q = some (.inl (tIx t, n, ar)) ∧ f0_held σ δ (nI s) = some (.inr (some q, σ, δ)) ∧ m_onShelf μ (nI s) = some (-1) ∧ μ.2 14 s = 2 ∧ μ.2 15 s = nI n ∧ μ.2 16 s = nI t
theorem held_both {T : Tw} {RS : Rls} {δ : DS} {σ σ0 : SS} {μ μ0 : MS} (h : cor T (tS T) RS δ σ μ) (hSf : rShelf σ0 δ μ0) {s : Nat} (hs : s < 4) (q1 : σ.2.2.1 (3 + s) = σ0.2.2.1 (3 + s)) (q2 : ∀ j, 11 ≤ j → j ≠ 17 → μ.2 j = μ0.2 j) : heldC T s σ δ μ := by
  have hI := h.2.1.1
  have hp6 : tP T ≤ 6 := hI.1.1
  have e3 : ldS (nI s) = some s := by
    unfold ldS
    rw [nI_clamp (by omega), if_neg]
    rintro (q | q)
    · exact nN_neg (by omega) q
    · omega
  have e2 : m_isOne (nI s) = some true := by
    rcases shelf_both (nI s) with ⟨_, _, _, _, g, _⟩ | ⟨g, _⟩
    · exact g
    · exfalso
      unfold f0_isShelf at g
      rw [show f0_isIn (nI s) (0 : Int32) (3 : Int32) = some (decide (¬ nI s < 0 ∧ ¬ (3 : Int32) < nI s)) from f_in_eq _ _ _, Option.bind_some] at g
      injection g with g
      rw [decide_eq_false_iff_not] at g
      exact g ⟨nN_neg (by omega), fun z => by have := (nN_lt (a := 3) (b := s) (by decide) (by omega)).mp z; omega⟩
  have l14 : ldM μ 14 (nI s) = some (μ.2 14 s) := ldM_n (by show s < 4; exact hs) (by omega)
  have l15 : ldM μ 15 (nI s) = some (μ.2 15 s) := ldM_n (by show s < 4; exact hs) (by omega)
  have hsf := hSf s hs
  rw [← q1, ← q2 14 (by decide) (by decide), ← q2 15 (by decide) (by decide), ← q2 16 (by decide) (by decide)] at hsf
  rcases hsf with ⟨x1, x2⟩ | ⟨q, n, x1, x2, x3, x4, x5⟩ | ⟨q, t, n, x1, x2, x3, ⟨e, f, x4, x5⟩, x6, x7, x8⟩
  · left
    refine ⟨?_, ?_, Or.inl x2⟩
    · unfold f0_held
      rw [e3, Option.bind_some, x1]
      rfl
    · unfold m_onShelf
      rw [e2, Option.bind_some, if_pos rfl, l14, x2, Option.bind_some, if_neg (by decide)]
  · have hnm := tick_nm x3
    have hti : dIs δ "LeftUndoes$Ticket" (some q) = some true := by
      show (dNm δ q).bind _ = _
      rw [hnm]
      decide
    have hck : dCk δ "LeftUndoes$Ticket" (some q) = some true := hti
    have hdi : ((some q).bind fun q => dInt δ 18 0 q) = some (nI n) := by
      show dInt δ 18 0 q = _
      unfold dInt
      rw [x3]
      rfl
    have fC : f0_held σ δ (nI s) = ((f0_isPerson σ (nI n)).bind fun r4 => (if r4 = true then (ldN σ 0 (nI n)).bind fun q6 => some (Sum.inr (some q6, σ, δ)) else some (Sum.inr (none, σ, δ)))) := by
      unfold f0_held
      rw [e3, Option.bind_some, x1, hti, Option.bind_some, if_pos rfl, hck, Option.bind_some, if_pos rfl, hdi, Option.bind_some]
      rfl
    have fM : m_onShelf μ (nI s) = ((m_isPerson μ (nI n)).bind fun r4 => (if r4 = true then some (nI n) else some (-1 : Int32))) := by
      unfold m_onShelf
      rw [e2, Option.bind_some, if_pos rfl, l14, x4, Option.bind_some, if_pos rfl, l15, x5, Option.bind_some]
      rfl
    rcases isP_both h.1.1 h.M hI (nI n) with ⟨p, hp, hnp, g1, g2⟩ | ⟨g1, g2⟩
    · right; left
      have hnn := (nN_eq (by omega) (by omega)).mp hnp
      subst hnn
      obtain ⟨q', u1, u2⟩ := h.2.2.1.1 n hp
      refine ⟨q', n, hp, u2, ?_, ?_, x4, x5⟩
      · rw [fC, g1, Option.bind_some, if_pos rfl, ldN_h (j := 0) rfl (by show n < 6; omega) (by omega) u1]
        rfl
      · rw [fM, g2, Option.bind_some, if_pos rfl]
    · left
      refine ⟨?_, ?_, Or.inr x4⟩
      · rw [fC, g1, Option.bind_some, if_neg (by decide)]
      · rw [fM, g2, Option.bind_some, if_neg (by decide)]
  · right; right
    obtain ⟨ar, har⟩ := rowE_form x5
    have x4' : dl δ q = some (.inl (tIx t, n, ar)) := by rw [x4, har]
    refine ⟨q, t, n, ar, x2, x3, x4', ?_, ?_, x6, x7, x8⟩
    · have hti : dIs δ "LeftUndoes$Ticket" (some q) = some false := by
        show (dNm δ q).bind _ = _
        rw [row_nm x4' (tIx_lt t)]
        rcases (show t = 0 ∨ t = 1 ∨ t = 2 ∨ t = 3 ∨ t = 4 by omega) with rfl | rfl | rfl | rfl | rfl <;> decide
      unfold f0_held
      rw [e3, Option.bind_some, x1, hti]
      rfl
    · unfold m_onShelf
      rw [e2, Option.bind_some, if_pos rfl, l14, x6, Option.bind_some, if_neg (by decide)]
theorem under_tbl {k a : Nat} (hk : 1 ≤ k ∧ k ≤ 5) (ha : a ≤ 5) : m_isUnder (nI k) (nI a) = some (isOfN k a) := m_isUnder_eq (by omega) ha
def asNames : List String := ["LeftUndoes$Hand", "LeftUndoes$Clasped", "LeftUndoes$Forger", "LeftUndoes$Twin", "LeftUndoes$Slow", "LeftUndoes$Heir"]
theorem hand_ck {δ : DS} {q k p g a : Nat} (h : isHand δ q k p g) (hk : 1 ≤ k ∧ k ≤ 5) (ha : a ≤ 5) : dCk δ (asNames.getD a "") (some q) = some (isOfN k a) := by
  show (dNm δ q).bind _ = _
  rw [hand_nm h hk, Option.bind_some]
  rcases (show k = 1 ∨ k = 2 ∨ k = 3 ∨ k = 4 ∨ k = 5 by omega) with rfl | rfl | rfl | rfl | rfl <;> rcases (show a = 0 ∨ a = 1 ∨ a = 2 ∨ a = 3 ∨ a = 4 ∨ a = 5 by omega) with rfl | rfl | rfl | rfl | rfl | rfl <;> decide
theorem row_ckA {δ : DS} {q t n a : Nat} {ar : (Nat → Int32) ⊕ (Nat → Int64) ⊕ (Nat → UInt32) ⊕ (Nat → UInt64) ⊕ (Nat → Option Nat)} (h : dl δ q = some (.inl (tIx t, n, ar))) (ht : t ≤ 4) (ha : a ≤ 5) : dCk δ (asNames.getD a "") (some q) = some false := by
  show (dNm δ q).bind _ = _
  rw [row_nm h (tIx_lt t), Option.bind_some]
  rcases (show t = 0 ∨ t = 1 ∨ t = 2 ∨ t = 3 ∨ t = 4 by omega) with rfl | rfl | rfl | rfl | rfl <;> rcases (show a = 0 ∨ a = 1 ∨ a = 2 ∨ a = 3 ∨ a = 4 ∨ a = 5 by omega) with rfl | rfl | rfl | rfl | rfl | rfl <;> decide
theorem personAs_eq {δ : DS} {σ : SS} {o : Option Nat} {a : Nat} {b : Bool} (ha : a ≤ 5) (h : dCk δ (asNames.getD a "") o = some b) : f0_personAs σ δ o (nI a) = if b = true then some (.inr (o, σ, δ)) else some (.inl (4, σ, δ)) := by
  unfold f0_personAs
  rcases (show a = 0 ∨ a = 1 ∨ a = 2 ∨ a = 3 ∨ a = 4 ∨ a = 5 by omega) with rfl | rfl | rfl | rfl | rfl | rfl
  · rw [if_pos (show nI 0 = (0 : Int32) from rfl), show dCk δ "LeftUndoes$Hand" o = _ from h]; rfl
  · rw [if_neg (show ¬ nI 1 = (0 : Int32) by decide), if_pos (show nI 1 = (1 : Int32) from rfl), show dCk δ "LeftUndoes$Clasped" o = _ from h]; rfl
  · rw [if_neg (show ¬ nI 2 = (0 : Int32) by decide), if_neg (show ¬ nI 2 = (1 : Int32) by decide), if_pos (show nI 2 = (2 : Int32) from rfl), show dCk δ "LeftUndoes$Forger" o = _ from h]; rfl
  · rw [if_neg (show ¬ nI 3 = (0 : Int32) by decide), if_neg (show ¬ nI 3 = (1 : Int32) by decide), if_neg (show ¬ nI 3 = (2 : Int32) by decide), if_pos (show nI 3 = (3 : Int32) from rfl), show dCk δ "LeftUndoes$Twin" o = _ from h]; rfl
  · rw [if_neg (show ¬ nI 4 = (0 : Int32) by decide), if_neg (show ¬ nI 4 = (1 : Int32) by decide), if_neg (show ¬ nI 4 = (2 : Int32) by decide), if_neg (show ¬ nI 4 = (3 : Int32) by decide), if_pos (show nI 4 = (4 : Int32) from rfl), show dCk δ "LeftUndoes$Slow" o = _ from h]; rfl
  · rw [if_neg (show ¬ nI 5 = (0 : Int32) by decide), if_neg (show ¬ nI 5 = (1 : Int32) by decide), if_neg (show ¬ nI 5 = (2 : Int32) by decide), if_neg (show ¬ nI 5 = (3 : Int32) by decide), if_neg (show ¬ nI 5 = (4 : Int32) by decide), show dCk δ "LeftUndoes$Heir" o = _ from h]; rfl
theorem manyOf_hand {δ : DS} {σ : SS} {q k p g u : Nat} (h : isHand δ q k p g) (hk : 1 ≤ k ∧ k ≤ 5) (hu : u ≤ 4) : f0_manyOf σ δ (some q) (nI u) = some (.inl (4, σ, δ)) := by
  have hck : ∀ s, s ≤ 4 → dCk δ (tNmS s) (some q) = some false := fun s hs => by
    show (dNm δ q).bind _ = _
    rw [hand_nm h hk, Option.bind_some]
    rcases (show k = 1 ∨ k = 2 ∨ k = 3 ∨ k = 4 ∨ k = 5 by omega) with rfl | rfl | rfl | rfl | rfl <;> rcases (show s = 0 ∨ s = 1 ∨ s = 2 ∨ s = 3 ∨ s = 4 by omega) with rfl | rfl | rfl | rfl | rfl <;> decide
  unfold f0_manyOf
  rcases (show u = 0 ∨ u = 1 ∨ u = 2 ∨ u = 3 ∨ u = 4 by omega) with rfl | rfl | rfl | rfl | rfl
  · rw [if_pos (show nI 0 = (0 : Int32) from rfl), show dCk δ "[B" (some q) = _ from hck 0 (by decide)]; rfl
  · rw [if_neg (show ¬ nI 1 = (0 : Int32) by decide), if_pos (show nI 1 = (1 : Int32) from rfl), show dCk δ "[S" (some q) = _ from hck 1 (by decide)]; rfl
  · rw [if_neg (show ¬ nI 2 = (0 : Int32) by decide), if_neg (show ¬ nI 2 = (1 : Int32) by decide), if_pos (show nI 2 = (2 : Int32) from rfl), show dCk δ "[I" (some q) = _ from hck 2 (by decide)]; rfl
  · rw [if_neg (show ¬ nI 3 = (0 : Int32) by decide), if_neg (show ¬ nI 3 = (1 : Int32) by decide), if_neg (show ¬ nI 3 = (2 : Int32) by decide), if_pos (show nI 3 = (3 : Int32) from rfl), show dCk δ "[J" (some q) = _ from hck 3 (by decide)]; rfl
  · rw [if_neg (show ¬ nI 4 = (0 : Int32) by decide), if_neg (show ¬ nI 4 = (1 : Int32) by decide), if_neg (show ¬ nI 4 = (2 : Int32) by decide), if_neg (show ¬ nI 4 = (3 : Int32) by decide), show dCk δ "[Z" (some q) = _ from hck 4 (by decide)]; rfl
theorem hand_num {δ : DS} {q k p g : Nat} (h : isHand δ q k p g) (hk : 1 ≤ k ∧ k ≤ 5) : hNumber δ q = some (nI p) := by
  have h0 := hand_ci h
  have h1 := (hand_int hk h).1
  have h7 : f7_number δ q = some (nI p) := by unfold f7_number; rw [h1]; rfl
  unfold hNumber
  rw [h0, Option.bind_some, h7]
  rcases (show k = 1 ∨ k = 2 ∨ k = 3 ∨ k = 4 ∨ k = 5 by omega) with rfl | rfl | rfl | rfl | rfl <;> rfl
theorem pl_49 (a b c d : Int32) (σ : SS) (δ : DS) (μ : MS) (H : Rel σ δ μ) : pLaw Rel 49 a b c d σ δ μ := by
  obtain ⟨T, RS, h⟩ := H.1
  have hI := h.2.1.1
  have hp6 : tP T ≤ 6 := hI.1.1
  rcases shelf_both a with ⟨s, hs, rfl, e1, e2, e3⟩ | ⟨e1, e2⟩
  · have hh := held_both h H.2.2.2.1.2 hs rfl (fun _ _ _ => rfl)
    have l14 : ldM μ 14 (nI s) = some (μ.2 14 s) := ldM_n (by show s < 4; exact hs) (by omega)
    have l15 : ldM μ 15 (nI s) = some (μ.2 15 s) := ldM_n (by show s < 4; exact hs) (by omega)
    have l16 : ldM μ 16 (nI s) = some (μ.2 16 s) := ldM_n (by show s < 4; exact hs) (by omega)
    -- what is to be shown of a number that asks
    have core : ∀ v : Nat, (v ≤ 5 ∨ (10 ≤ v ∧ v ≤ 14)) → ∃ x, (yh xnA δ (f0_held σ δ (nI s)) (fun y => none) fun r3 => yh xnA r3.2.2 (f0_takenAs r3.2.1 r3.2.2 r3.1 (nI v)) (fun y => (if y.1 = 4 then some ((-13 : Int32), y.2.1) else (if y.1 = 5 then some ((-11 : Int32), y.2.1) else none))) fun r4 => some (r4.1, r4.2.1, r4.2.2)) = some (x, σ, δ) ∧ ((m_onShelf μ (nI s)).bind fun r3 => (if 0 ≤ r3 then m_taken_B58 μ (nI s) (nI v) r3 else (ldM μ 14 (nI s)).bind fun v4 => (if (2 : Int32) ≤ v4 then m_taken_B58 μ (nI s) (nI v) r3 else some (-11 : Int32)))) = some x := fun v hv => by
      have lt10 : (nI v < (10 : Int32)) ↔ v < 10 := nN_lt (b := 10) (by omega) (by decide)
      rcases hh with ⟨g1, g2, g3⟩ | ⟨q, p, hp, g0, g1, g2, g3, g4⟩ | ⟨q, t, n, ar, ht, hn, g0, g1, g2, g3, g4, g5⟩
      · refine ⟨-11, ?_, ?_⟩
        · rw [yh_inr g1 (Nat.le_refl _)]
          dsimp only
          refine yh_inl (y := (5, σ, δ)) ?_ (Nat.le_add_right _ _) rfl
          unfold f0_takenAs
          by_cases h10 : v < 10
          · rw [if_pos (lt10.mpr h10), yb_inr (personAs_eq (o := none) (b := true) (show v ≤ 5 by omega) rfl) (Nat.le_refl _)]
            rfl
          · rw [if_neg (fun z => h10 (lt10.mp z)), show nI v - (10 : Int32) = nI (v - 10) from nN_sub (b := 10) (by omega)]
            exact yb_inl (y := (5, σ, δ)) (manyOf_none σ δ (by omega)) (Nat.le_add_right _ _)
        · rw [g2, Option.bind_some, if_neg (by decide), l14, Option.bind_some]
          rcases g3 with g3 | g3 <;> (rw [g3, if_neg (by decide)])
      · have hk := (hI.2.1 p hp).1
        have hpos : (0 : Int32) ≤ nI p := by rw [← Int32.not_lt]; exact nN_neg (by omega)
        have hB : m_taken_B58 μ (nI s) (nI v) (nI p) = (if (6 : Int32) ≤ nI v then some (-13 : Int32) else (m_its μ (nI p) (0 : Int32)).bind fun r3 => (m_isUnder r3 (nI v)).bind fun r4 => (if r4 = true then (ldM μ 15 (nI s)).bind fun v5 => some v5 else some (-13 : Int32))) := by
          unfold m_taken_B58
          rw [if_neg (nN_neg (by omega))]
        have le6 : ((6 : Int32) ≤ nI v) ↔ 6 ≤ v := nN_le (a := 6) (by decide) (by omega)
        rw [g2, Option.bind_some, if_pos hpos, hB]
        rw [yh_inr g1 (Nat.le_refl _)]
        dsimp only
        unfold f0_takenAs
        by_cases h10 : v < 10
        · have h5 : v ≤ 5 := by omega
          rw [if_pos (lt10.mpr h10), if_neg (fun z => by have := le6.mp z; omega), mP_kind h.M (by omega), Option.bind_some, under_tbl hk h5, Option.bind_some, l15, g4, Option.bind_some]
          have hpa := personAs_eq (σ := σ) h5 (hand_ck g0 hk h5)
          by_cases hu : isOfN (tA T 0 p) v = true
          · rw [if_pos hu] at hpa
            refine ⟨nI p, ?_, by rw [if_pos hu]⟩
            rw [yb_inr hpa (Nat.le_refl _)]
            dsimp only
            rw [if_neg (show ¬ (some q).isNone = true from fun h => by cases h), show ((some q).bind fun q => hNumber δ q) = _ from hand_num g0 hk, Option.bind_some]
            exact yh_inr rfl (Nat.le_refl _)
          · rw [if_neg hu] at hpa
            refine ⟨-13, ?_, by rw [if_neg hu]⟩
            exact yh_inl (y := (4, σ, δ)) (yb_inl (y := (4, σ, δ)) hpa (Nat.le_add_right _ _)) (Nat.le_add_right _ _) rfl
        · rw [if_neg (fun z => h10 (lt10.mp z)), if_pos (le6.mpr (by omega)), show nI v - (10 : Int32) = nI (v - 10) from nN_sub (b := 10) (by omega)]
          exact ⟨-13, yh_inl (y := (4, σ, δ)) (yb_inl (y := (4, σ, δ)) (manyOf_hand g0 hk (by omega)) (Nat.le_add_right _ _)) (Nat.le_add_right _ _) rfl, rfl⟩
      · rw [g2, Option.bind_some, if_neg (by decide), l14, g3, Option.bind_some, if_pos (by decide)]
        unfold m_taken_B58
        rw [if_pos (by decide), l15, l16, g4, g5, Option.bind_some, Option.bind_some]
        rw [yh_inr g1 (Nat.le_refl _)]
        dsimp only
        unfold f0_takenAs
        by_cases h10 : v < 10
        · have h5 : v ≤ 5 := by omega
          have hpa := personAs_eq (σ := σ) h5 (row_ckA g0 ht h5)
          rw [if_neg (by decide)] at hpa
          have hne : ¬ nI v - (10 : Int32) = nI t := fun z => by
            have h1 : nI v = nI (t + 10) := by
              rw [← nN_add, ← z]
              exact (Int32.sub_add_cancel _ _).symm
            have := (nN_eq (by omega) (by omega)).mp h1
            omega
          rw [if_pos (lt10.mpr h10), if_neg hne]
          exact ⟨-13, yh_inl (y := (4, σ, δ)) (yb_inl (y := (4, σ, δ)) hpa (Nat.le_add_right _ _)) (Nat.le_add_right _ _) rfl, rfl⟩
        · have hm := manyOf_eq (σ := σ) g0 ht (s := v - 10) (by omega)
          rw [if_neg (fun z => h10 (lt10.mp z)), show nI v - (10 : Int32) = nI (v - 10) from nN_sub (b := 10) (by omega)]
          by_cases he : v - 10 = t
          · rw [if_pos he] at hm
            rw [if_pos (by rw [he])]
            refine ⟨nI n, ?_, rfl⟩
            rw [yb_inr hm (Nat.le_refl _)]
            exact yh_inr rfl (Nat.le_refl _)
          · rw [if_neg he] at hm
            rw [if_neg (fun z => he ((nN_eq (by omega) (by omega)).mp z))]
            exact ⟨-13, yh_inl (y := (4, σ, δ)) (yb_inl (y := (4, σ, δ)) hm (Nat.le_add_right _ _)) (Nat.le_add_right _ _) rfl, rfl⟩
    have i5 := in_both b 0 5 (by decide) (by decide)
    rcases (show (∃ n : Nat, 0 ≤ n ∧ n ≤ 5 ∧ b = nI n ∧ f0_isIn b 0 5 = some true ∧ m_in b.toInt64 0 5 = some true) ∨ (f0_isIn b 0 5 = some false ∧ m_in b.toInt64 0 5 = some false) from i5) with ⟨v, -, hv, rfl, e4, e5⟩ | ⟨e4, e5⟩
    · obtain ⟨x, z1, z2⟩ := core v (Or.inl hv)
      refine pl_0 (r := x) (σ' := σ) (μ' := μ) ?_ ?_ H
      · rw [cc49]
        unfold f0_taken
        rw [e1, Option.bind_some, if_pos rfl, e4, Option.bind_some, if_pos rfl]
        exact z1
      · rw [mc49]
        unfold m_taken
        rw [e2, Option.bind_some, if_pos rfl, e5, Option.bind_some, if_pos rfl, z2]
        rfl
    · rcases (show (∃ n : Nat, 10 ≤ n ∧ n ≤ 14 ∧ b = nI n ∧ f0_isIn b 10 14 = some true ∧ m_in b.toInt64 10 14 = some true) ∨ (f0_isIn b 10 14 = some false ∧ m_in b.toInt64 10 14 = some false) from in_both b 10 14 (by decide) (by decide)) with ⟨v, hv1, hv, rfl, e6, e7⟩ | ⟨e6, e7⟩
      · obtain ⟨x, z1, z2⟩ := core v (Or.inr ⟨hv1, hv⟩)
        refine pl_0 (r := x) (σ' := σ) (μ' := μ) ?_ ?_ H
        · rw [cc49]
          unfold f0_taken
          rw [e1, Option.bind_some, if_pos rfl, e4, Option.bind_some, if_neg (by decide), e6, Option.bind_some, if_pos rfl]
          exact z1
        · rw [mc49]
          unfold m_taken
          rw [e2, Option.bind_some, if_pos rfl, e5, Option.bind_some, if_neg (by decide), e7, Option.bind_some, if_pos rfl, z2]
          rfl
      · exact pl_0 (r := -1) (σ' := σ) (μ' := μ) (by rw [cc49]; unfold f0_taken; rw [e1, Option.bind_some, if_pos rfl, e4, Option.bind_some, if_neg (by decide), e6]; rfl) (by rw [mc49]; unfold m_taken; rw [e2, Option.bind_some, if_pos rfl, e5, Option.bind_some, if_neg (by decide), e7]; rfl) H
  · exact pl_0 (r := -1) (σ' := σ) (μ' := μ) (by rw [cc49]; unfold f0_taken; rw [e1]; rfl) (by rw [mc49]; unfold m_taken; rw [e2]; rfl) H
