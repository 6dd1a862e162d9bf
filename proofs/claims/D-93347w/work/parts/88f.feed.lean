/-! PLAIN LAW: bytes fed -/
set_option maxRecDepth 100000
theorem sg_all : ∀ b : Fin 256, Int32.ofBitVec ((BitVec.ofNat 8 b.val).signExtend 32) = sgB b.val ∧ vp_nar .byte (sgB b.val) = sgB b.val := by decide +kernel
theorem byte_both (L : Int64) : ∃ b, b < 256 ∧ vp_nar .byte (L.toInt32.toInt8.toInt32) = sgB b ∧ (L &&& 255).toInt32 = nI b := by
  have hb : L.toBitVec.toNat % 256 < 256 := Nat.mod_lt _ (by decide)
  have h1 : L.toInt32.toInt8.toInt32 = sgB (L.toBitVec.toNat % 256) := by
    rw [← (sg_all ⟨_, hb⟩).1]
    apply Int32.toBitVec_inj.mp
    rw [Int8.toBitVec_toInt32, Int32.toBitVec_toInt8, Int64.toBitVec_toInt32]
    show _ = (BitVec.ofNat 8 (L.toBitVec.toNat % 256)).signExtend 32
    congr 1
    rw [BitVec.signExtend_eq_setWidth_of_le _ (by decide), BitVec.signExtend_eq_setWidth_of_le _ (by decide)]
    apply BitVec.eq_of_toNat_eq
    simp only [BitVec.toNat_setWidth, BitVec.toNat_ofNat]
    omega
  refine ⟨L.toBitVec.toNat % 256, hb, ?_, ?_⟩
  · rw [h1]
    exact (sg_all ⟨_, hb⟩).2
  · apply Int32.toBitVec_inj.mp
    rw [Int64.toBitVec_toInt32, BitVec.signExtend_eq_setWidth_of_le _ (by decide)]
    apply BitVec.eq_of_toNat_eq
    rw [BitVec.toNat_setWidth]
    show (L.toBitVec &&& (255 : Int64).toBitVec).toNat % 2 ^ 32 = (BitVec.ofNat 32 (L.toBitVec.toNat % 256)).toNat
    rw [BitVec.toNat_and, show (255 : Int64).toBitVec.toNat = 2 ^ 8 - 1 from rfl, Nat.and_two_pow_sub_one_eq_mod, BitVec.toNat_ofNat]
/-- all but the tape as it was -/
def tC (σ σ' : SS) : Prop := (∀ k, k ≠ 41 → σ'.1 k = σ.1 k) ∧ (∀ j, j ≠ 46 → σ'.2.1 j = σ.2.1 j) ∧ σ'.2.2 = σ.2.2
def tM (μ μ' : MS) : Prop := (∀ k, k ≠ 23 → μ'.1 k = μ.1 k) ∧ ∀ j, j ≠ 10 → μ'.2 j = μ.2 j
theorem Rel_tape {σ σ' : SS} {δ : DS} {μ μ' : MS} (H : Rel σ δ μ) (hC : tC σ σ') (hM : tM μ μ') (ht : rTape σ' μ') : Rel σ' δ μ' := by
  obtain ⟨⟨T, RS, h⟩, ⟨a, b⟩, ⟨-, d, e⟩, ⟨f, g⟩, hp, i⟩ := H
  obtain ⟨hi, ha, hr⟩ := hC
  obtain ⟨mi, ma⟩ := hM
  refine ⟨⟨T, RS, cor_id (simC_cg h.1.1 (fun k hk => hi _ (by omega)) (fun j hj n hn => by rw [ha _ (by omega)])) (by rw [ma 0 (by decide)]; exact h.M) h.2.1.1 h.2.1.2 (by rw [hr]; exact h.2.2.1.1) (by rw [hr]; exact h.2.2.1.2) (by rw [ma 0 (by decide)]; exact h.2.2.2)⟩, ⟨?_, ?_⟩, ⟨ht, ?_, ?_⟩, ⟨?_, ?_⟩, by unfold rPart; rw [ha 41 (by decide)]; exact hp, i⟩
  · exact rKept_k a ⟨fun k hk => hi k (by omega), fun j hj => ha j (by omega), by rw [hr]⟩ ⟨mi 3 (by decide), ma 1 (by decide)⟩ (exA.rf δ)
  · intro k hk
    rw [hr]
    exact b k hk
  · obtain ⟨n, g1, g2, g3, g4⟩ := d
    exact ⟨n, g1, by rw [hi 58 (by decide)]; exact g2, by rw [mi 21 (by decide)]; exact g3, by rw [ha 44 (by decide), ma 9 (by decide)]; exact g4⟩
  · obtain ⟨n, g1, g2, g3, g4⟩ := e
    exact ⟨n, g1, by rw [hi 70 (by decide)]; exact g2, by rw [mi 37 (by decide)]; exact g3, by rw [ha 45 (by decide), ma 17 (by decide)]; exact g4⟩
  · unfold rSheet
    rw [hr, ma 11 (by decide), ma 12 (by decide), ma 13 (by decide)]
    exact f
  · unfold rShelf
    rw [hr, ma 14 (by decide), ma 15 (by decide), ma 16 (by decide)]
    exact g
theorem stB_n {σ : SS} {j i : Nat} {x : Int32} (h : i < lenC j) (hi : i < 2 ^ 31) : stB σ j (nI i) x = some (sA σ j (upd (σ.2.1 j) i (vp_nar .byte x))) := stC_n (x := vp_nar .byte x) h hi
theorem feed_L {σ0 : SS} {μ0 : MS} {n c : Nat} (hn : n + c ≤ 200) (hc : c ≤ 8) (L : Int64) : ∀ (m k fuel : Nat) (σ : SS) (μ : MS), k + m = c → m < fuel → tC σ0 σ → tM μ0 μ → σ.1 41 = nI n → μ.1 23 = nI (n + k) → (∀ i, i < n + k → ∃ b, b < 256 ∧ σ.2.1 46 i = sgB b ∧ μ.2 10 i = nI b) → ∃ σ' μ', f0_feed_L30 1000 fuel σ L (nI c) (nI k) = some (nI (n + c), σ') ∧ m_feed_L32 1000 fuel μ L (nI c) (nI k) = some (nI (n + c), μ') ∧ tC σ0 σ' ∧ tM μ0 μ' ∧ rTape σ' μ' := by
  intro m
  induction m with
  | zero =>
    intro k fuel σ μ h1 h2 hC hM e1 e2 e3
    obtain ⟨N, rfl⟩ : ∃ n, fuel = n + 1 := ⟨fuel - 1, by omega⟩
    have hk : k = c := by omega
    subst hk
    have hl : nI k ≤ nI k := Int32.le_refl _
    refine ⟨sI σ 41 (nI (n + k)), μ, ?_, ?_, ⟨fun k hk => (upd_ne hk).trans (hC.1 k hk), hC.2.1, hC.2.2⟩, hM, ⟨n + k, hn, upd_at σ.1 41 _, e2, e3⟩⟩
    · show (if nI k ≤ nI k then _ else _) = _
      rw [if_pos hl, e1, nN_add, Option.bind_some, show (sI σ 41 (nI (n + k))).1 41 = nI (n + k) from upd_at σ.1 41 _]
    · show (if nI k ≤ nI k then _ else _) = _
      rw [if_pos hl, e2]
  | succ m ih =>
    intro k fuel σ μ h1 h2 hC hM e1 e2 e3
    obtain ⟨N, rfl⟩ : ∃ n, fuel = n + 1 := ⟨fuel - 1, by omega⟩
    have hl : ¬ nI c ≤ nI k := fun z => by have := (nN_le (by omega) (by omega)).mp z; omega
    obtain ⟨b, hb, b1, b2⟩ := byte_both (L >>> (((8 : Int32) * nI k).toInt64 &&& 63))
    obtain ⟨σ', μ', z1, z2, z3⟩ := ih (k + 1) N (sA σ 46 (upd (σ.2.1 46) (n + k) (sgB b))) (stF (setA μ 10 (upd (μ.2 10) (n + k) (nI b))) 23 (nI (n + (k + 1)))) (by omega) (by omega) ⟨hC.1, fun j hj => (sA_ne hj).trans (hC.2.1 j hj), hC.2.2⟩ ⟨fun k hk => (stF_ne hk).trans (hM.1 k hk), fun j hj => (setA_o _ _ _ hj).trans (hM.2 j hj)⟩ e1 (stF_at _ _ _) (fun i hi => by
      show ∃ b', b' < 256 ∧ (sA σ 46 (upd (σ.2.1 46) (n + k) (sgB b))).2.1 46 i = sgB b' ∧ (setA μ 10 (upd (μ.2 10) (n + k) (nI b))).2 10 i = nI b'
      rw [setA_at, sA_at]
      by_cases e : i = n + k
      · rw [e, upd_at, upd_at]
        exact ⟨b, hb, rfl, rfl⟩
      · rw [upd_ne e, upd_ne e]
        exact e3 i (by omega))
    refine ⟨σ', μ', ?_, ?_, z3⟩
    · show (if nI c ≤ nI k then _ else _) = _
      rw [if_neg hl, e1, nN_add, stB_n (by show n + k < 200; omega) (by omega), b1, Option.bind_some, nI_1]
      exact z1
    · show (if nI c ≤ nI k then _ else _) = _
      rw [if_neg hl, e2, stM_n (by show n + k < 200; omega) (by omega), b2, Option.bind_some, Option.bind_some, show (setA μ 10 (upd (μ.2 10) (n + k) (nI b))).1 23 = nI (n + k) from e2, nI_1, nI_1]
      exact z2
theorem pl_9 (a b c d : Int32) (σ : SS) (δ : DS) (μ : MS) (H : Rel σ δ μ) : pLaw Rel 9 a b c d σ δ μ := by
  obtain ⟨n, hn, e1, e2, e3⟩ := H.2.2.1.1
  rcases in_1_8 c with ⟨k, hk1, hk, rfl, e4, e5⟩ | ⟨e4, e5⟩
  · by_cases h2 : n + k ≤ 200
    · have hl : nI n + nI k ≤ (200 : Int32) := by rw [nN_add]; exact (nN_le (b := 200) (by omega) (by decide)).mpr h2
      obtain ⟨σ', μ', z1, z2, z3, z4, z5⟩ := feed_L (σ0 := σ) (μ0 := μ) h2 hk (lF a b) k 0 1000 σ μ (by omega) (by omega) ⟨fun _ _ => rfl, fun _ _ => rfl, rfl⟩ ⟨fun _ _ => rfl, fun _ _ => rfl⟩ e1 e2 e3
      refine pl_0 (r := nI (n + k)) (σ' := σ') (μ' := μ') ?_ ?_ (Rel_tape H z3 z4 z5)
      · rw [cc9]
        unfold f0_feed
        rw [e4, Option.bind_some, if_pos rfl, e1, if_pos hl, show f0_feed_L30 1000 1000 σ (lF a b) (nI k) (0 : Int32) = _ from z1]
        rfl
      · rw [mc9]
        unfold m_feed
        rw [e5, Option.bind_some, if_pos rfl, e2, if_pos hl]
        exact z2
    · have hl : ¬ nI n + nI k ≤ (200 : Int32) := by rw [nN_add]; exact fun z => h2 ((nN_le (b := 200) (by omega) (by decide)).mp z)
      refine pl_0 (r := -2) (σ' := σ) (μ' := μ) ?_ ?_ H
      · rw [cc9]
        unfold f0_feed
        rw [e4, Option.bind_some, if_pos rfl, e1, if_neg hl]
        rfl
      · rw [mc9]
        unfold m_feed
        rw [e5, Option.bind_some, if_pos rfl, e2, if_neg hl]
  · exact pl_0 (r := -1) (σ' := σ) (μ' := μ) (by rw [cc9]; unfold f0_feed; rw [e4]; rfl) (by rw [mc9]; unfold m_feed; rw [e5]; rfl) H
