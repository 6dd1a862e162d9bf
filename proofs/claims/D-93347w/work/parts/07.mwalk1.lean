/-! THE MODEL's METHODS: contracts, printed by gen/gen.py -/
set_option maxRecDepth 100000
section
variable {p : Program} {l : Launch} {e : Env} {R : Room} {s : State} {m : MethodId} {args : Array Value} {below : List Frame} {meth : Method} {c : Code}
variable {G : jG}
set_option maxHeartbeats 4000000 in
theorem cc_m_at (l : Launch) (G : jG)  (μ : MS) (a0 : Int32) (a1 : Int32) (res : Int32) (hf : m_at a0 a1 = some res) : jM l yX6_at (ws_ yX6_at cX6_at 2 (some .int)) 0 0 [.int a0, .int a1] (mWo G) (mnx G) (mK G) μ (jR μ res) (gA G) (gn G) := by
  refine jj_start [(0, .int a0), (1, .int a1)] (by decide) (Nat.le_of_ble_eq_true rfl) rfl (fun p e R s m args below meth c hk hK hsz => ?_) hf
  have hk : jk p R s m args meth c (gn G) cX6_at 2 RX6 0 0 (some .int) := hk
  unfold m_at
  refine jj_bipush hk (pc := 0) (v := (8 : Int32)) dX6_at_0 (by decide) ?_
  refine jj_iconst hk (pc := 2) (v := (3 : Int32)) dX6_at_2 (by decide) ?_
  refine jj_iload_n hk (pc := 3) dX6_at_3 0 rfl rfl ?_
  refine jj_imul hk (pc := 4) dX6_at_4 ?_
  refine jj_iadd hk (pc := 5) dX6_at_5 ?_
  refine jj_iload_n hk (pc := 6) dX6_at_6 1 rfl rfl ?_
  refine jj_iadd hk (pc := 7) dX6_at_7 ?_
  exact jm_retRi hk (pc := 8) dX6_at_8
end
section
variable {p : Program} {l : Launch} {e : Env} {R : Room} {s : State} {m : MethodId} {args : Array Value} {below : List Frame} {meth : Method} {c : Code}
variable {G : jG}
variable {NX : Nat} {Q : State → Prop} {nL : Nat} {cc : ByteArray} {fr lo frc loc : Nat} {ret : Option FieldType}
variable {pc : Nat} {μ : MS} {lv : List (Nat × Value)} {st : List Value} {ρ : Type} {res : ρ}
theorem kc_m_at (hk : jk p R s m args meth c NX cc nL RX6 fr lo ret) (hK : mK G s) {a0 : Int32} {a1 : Int32} {F : Option Int32} {K : Int32 → Option ρ} (hM : ∀ r, F = some r → jM l yX6_at (ws_ yX6_at cX6_at 2 (some .int)) frc loc [.int a0, .int a1] (mWo G) (mnx G) (mK G) μ (jR μ r) (gA G) (gn G)) (hd : decode cc pc = .ok (.invokestatic 68, 3)) (hr : frc + 1 ≤ fr ∧ 8 + (2 + 11) + loc ≤ lo) (hw : (st.map fun v => v.category).sum ≤ 8) (kk : ∀ r, jj p l e R s m args below meth c (gA G) NX Q (mWo G) (mnx G) nL μ (pc + 3) lv (.int r :: st) (K r = some res)) : jj p l e R s m args below meth c (gA G) NX Q (mWo G) (mnx G) nL μ pc lv (.int a1 :: .int a0 :: st) (F.bind K = some res) :=
  jm_SRi (n := 2) hk hK [.int a0, .int a1] hM (lw_S q1686 q1687 q127 q1688) (by decide +kernel) rfl rfl hd hr hw kk
end
section
variable {p : Program} {l : Launch} {e : Env} {R : Room} {s : State} {m : MethodId} {args : Array Value} {below : List Frame} {meth : Method} {c : Code}
variable {G : jG}
set_option maxHeartbeats 4000000 in
theorem cc_m_in (l : Launch) (G : jG)  (μ : MS) (a0 : Int64) (a1 : Int64) (a2 : Int64) (res : Bool) (hf : m_in a0 a1 a2 = some res) : jM l yX6_in (ws_ yX6_in cX6_in 6 (some .boolean)) 0 0 [.long a0, .long a1, .long a2] (mWo G) (mnx G) (mK G) μ (jRz μ res) (gA G) (gn G) := by
  refine jj_start [(0, .long a0), (2, .long a1), (4, .long a2)] (by decide) (Nat.le_of_ble_eq_true rfl) rfl (fun p e R s m args below meth c hk hK hsz => ?_) hf
  have hk : jk p R s m args meth c (gn G) cX6_in 6 RX6 0 0 (some .boolean) := hk
  unfold m_in
  refine jj_lload_n hk (pc := 0) dX6_in_0 0 rfl rfl ?_
  refine jj_lload_n hk (pc := 1) dX6_in_1 1 rfl rfl ?_
  refine jj_lcmp hk (pc := 2) dX6_in_2 ?_
  refine jj_if_lt hk (pc := 3) 17 dX6_in_3 (by decide) ?_ ?_
  · refine jj_iconst hk (pc := 17) (v := (0 : Int32)) dX6_in_17 (by decide) ?_
    exact jm_retRz hk (pc := 18) (b := false) dX6_in_18
  · refine jj_lload_n hk (pc := 6) dX6_in_6 0 rfl rfl ?_
    refine jj_lload hk (pc := 7) dX6_in_7 2 rfl ?_
    refine jj_lcmp hk (pc := 9) dX6_in_9 ?_
    refine jj_if_gt hk (pc := 10) 17 dX6_in_10 (by decide) ?_ ?_
    · refine jj_iconst hk (pc := 17) (v := (0 : Int32)) dX6_in_17 (by decide) ?_
      exact jm_retRz hk (pc := 18) (b := false) dX6_in_18
    · refine jj_iconst hk (pc := 13) (v := (1 : Int32)) dX6_in_13 (by decide) ?_
      refine jj_goto hk (pc := 14) 18 dX6_in_14 (by decide) ?_
      exact jm_retRz hk (pc := 18) (b := true) dX6_in_18
end
section
variable {p : Program} {l : Launch} {e : Env} {R : Room} {s : State} {m : MethodId} {args : Array Value} {below : List Frame} {meth : Method} {c : Code}
variable {G : jG}
variable {NX : Nat} {Q : State → Prop} {nL : Nat} {cc : ByteArray} {fr lo frc loc : Nat} {ret : Option FieldType}
variable {pc : Nat} {μ : MS} {lv : List (Nat × Value)} {st : List Value} {ρ : Type} {res : ρ}
theorem kc_m_in (hk : jk p R s m args meth c NX cc nL RX6 fr lo ret) (hK : mK G s) {a0 : Int64} {a1 : Int64} {a2 : Int64} {F : Option Bool} {K : Bool → Option ρ} (hM : ∀ r, F = some r → jM l yX6_in (ws_ yX6_in cX6_in 6 (some .boolean)) frc loc [.long a0, .long a1, .long a2] (mWo G) (mnx G) (mK G) μ (jRz μ r) (gA G) (gn G)) (hd : decode cc pc = .ok (.invokestatic 64, 3)) (hr : frc + 1 ≤ fr ∧ 8 + (6 + 11) + loc ≤ lo) (hw : (st.map fun v => v.category).sum ≤ 8) (kk : ∀ r, jj p l e R s m args below meth c (gA G) NX Q (mWo G) (mnx G) nL μ (pc + 3) lv (.int (bI r) :: st) (K r = some res)) : jj p l e R s m args below meth c (gA G) NX Q (mWo G) (mnx G) nL μ pc lv (.long a2 :: .long a1 :: .long a0 :: st) (F.bind K = some res) :=
  jm_SRz (n := 3) hk hK [.long a0, .long a1, .long a2] hM (lw_S q1682 q1683 q127 q1684) (by decide +kernel) rfl rfl hd hr hw kk
end
section
variable {p : Program} {l : Launch} {e : Env} {R : Room} {s : State} {m : MethodId} {args : Array Value} {below : List Frame} {meth : Method} {c : Code}
variable {G : jG}
set_option maxHeartbeats 4000000 in
theorem cc_m_isKind (l : Launch) (G : jG)  (μ : MS) (a0 : Int32) (res : Bool) (hf : m_isKind a0 = some res) : jM l yX6_isKind (ws_ yX6_isKind cX6_isKind 1 (some .boolean)) 1 25 [.int a0] (mWo G) (mnx G) (mK G) μ (jRz μ res) (gA G) (gn G) := by
  refine jj_start [(0, .int a0)] (by decide) (Nat.le_of_ble_eq_true rfl) rfl (fun p e R s m args below meth c hk hK hsz => ?_) hf
  have hk : jk p R s m args meth c (gn G) cX6_isKind 1 RX6 1 25 (some .boolean) := hk
  unfold m_isKind
  refine jj_iload_n hk (pc := 0) dX6_isKind_0 0 rfl rfl ?_
  refine jj_i2l hk (pc := 1) dX6_isKind_1 ?_
  refine jj_lconst hk (pc := 2) (v := (1 : Int64)) dX6_isKind_2 (by decide) ?_
  refine jj_ldc2_w hk (pc := 3) q1681 dX6_isKind_3 ?_
  refine kc_m_in hk hK (pc := 6) (a0 := a0.toInt64) (a1 := (1 : Int64)) (a2 := (5 : Int64)) (fun r h => cc_m_in l G μ a0.toInt64 (1 : Int64) (5 : Int64) r h) dX6_isKind_6 ⟨Nat.le_of_ble_eq_true rfl, Nat.le_of_ble_eq_true rfl⟩ (Nat.le_of_ble_eq_true rfl) (fun r1 => ?_)
  exact jm_retRz hk (pc := 9) (b := r1) dX6_isKind_9
end
section
variable {p : Program} {l : Launch} {e : Env} {R : Room} {s : State} {m : MethodId} {args : Array Value} {below : List Frame} {meth : Method} {c : Code}
variable {G : jG}
variable {NX : Nat} {Q : State → Prop} {nL : Nat} {cc : ByteArray} {fr lo frc loc : Nat} {ret : Option FieldType}
variable {pc : Nat} {μ : MS} {lv : List (Nat × Value)} {st : List Value} {ρ : Type} {res : ρ}
theorem kc_m_isKind (hk : jk p R s m args meth c NX cc nL RX6 fr lo ret) (hK : mK G s) {a0 : Int32} {F : Option Bool} {K : Bool → Option ρ} (hM : ∀ r, F = some r → jM l yX6_isKind (ws_ yX6_isKind cX6_isKind 1 (some .boolean)) frc loc [.int a0] (mWo G) (mnx G) (mK G) μ (jRz μ r) (gA G) (gn G)) (hd : decode cc pc = .ok (.invokestatic 77, 3)) (hr : frc + 1 ≤ fr ∧ 8 + (1 + 11) + loc ≤ lo) (hw : (st.map fun v => v.category).sum ≤ 8) (kk : ∀ r, jj p l e R s m args below meth c (gA G) NX Q (mWo G) (mnx G) nL μ (pc + 3) lv (.int (bI r) :: st) (K r = some res)) : jj p l e R s m args below meth c (gA G) NX Q (mWo G) (mnx G) nL μ pc lv (.int a0 :: st) (F.bind K = some res) :=
  jm_SRz (n := 1) hk hK [.int a0] hM (lw_S q1678 q1679 q127 q1680) (by decide +kernel) rfl rfl hd hr hw kk
end
section
variable {p : Program} {l : Launch} {e : Env} {R : Room} {s : State} {m : MethodId} {args : Array Value} {below : List Frame} {meth : Method} {c : Code}
variable {G : jG}
set_option maxHeartbeats 4000000 in
theorem cc_m_person (l : Launch) (G : jG)  (μ : MS) (a0 : Int32) (a1 : Int32) (a2 : Int32) (res : (Int32 × MS)) (hf : m_person μ a0 a1 a2 = some res) : jM l yX6_person (ws_ yX6_person cX6_person 5 (some .int)) 2 45 [.ref (gh G), .int a0, .int a1, .int a2] (mWo G) (mnx G) (mK G) μ (jU res) (gA G) (gn G) := by
  refine jj_start [(0, .ref (gh G)), (1, .int a0), (2, .int a1), (3, .int a2)] (by decide) (Nat.le_of_ble_eq_true rfl) rfl (fun p e R s m args below meth c hk hK hsz => ?_) hf
  have hk : jk p R s m args meth c (gn G) cX6_person 5 RX6 2 45 (some .int) := hk
  unfold m_person
  refine jj_iload_n hk (pc := 0) dX6_person_0 1 rfl rfl ?_
  refine kc_m_isKind hk hK (pc := 1) (a0 := a0) (fun r h => cc_m_isKind l G μ a0 r h) dX6_person_1 ⟨Nat.le_of_ble_eq_true rfl, Nat.le_of_ble_eq_true rfl⟩ (Nat.le_of_ble_eq_true rfl) (fun r1 => ?_)
  refine jj_if_eq_b hk (pc := 4) 31 dX6_person_4 (by decide) ?_ ?_
  · refine jj_iconst hk (pc := 31) (v := (-1 : Int32)) dX6_person_31 (by decide) ?_
    exact jm_retUi hk (pc := 32) dX6_person_32
  · refine jj_iload_n hk (pc := 7) dX6_person_7 2 rfl rfl ?_
    refine jj_i2l hk (pc := 8) dX6_person_8 ?_
    refine jj_lconst hk (pc := 9) (v := (1 : Int64)) dX6_person_9 (by decide) ?_
    refine jj_ldc2_w hk (pc := 10) q1685 dX6_person_10 ?_
    refine kc_m_in hk hK (pc := 13) (a0 := a1.toInt64) (a1 := (1 : Int64)) (a2 := (9 : Int64)) (fun r h => cc_m_in l G μ a1.toInt64 (1 : Int64) (9 : Int64) r h) dX6_person_13 ⟨Nat.le_of_ble_eq_true rfl, Nat.le_of_ble_eq_true rfl⟩ (Nat.le_of_ble_eq_true rfl) (fun r2 => ?_)
    refine jj_if_eq_b hk (pc := 16) 31 dX6_person_16 (by decide) ?_ ?_
    · refine jj_iconst hk (pc := 31) (v := (-1 : Int32)) dX6_person_31 (by decide) ?_
      exact jm_retUi hk (pc := 32) dX6_person_32
    · refine jj_iload_n hk (pc := 19) dX6_person_19 3 rfl rfl ?_
      refine jj_i2l hk (pc := 20) dX6_person_20 ?_
      refine jj_lconst hk (pc := 21) (v := (1 : Int64)) dX6_person_21 (by decide) ?_
      refine jj_ldc2_w hk (pc := 22) q1685 dX6_person_22 ?_
      refine kc_m_in hk hK (pc := 25) (a0 := a2.toInt64) (a1 := (1 : Int64)) (a2 := (9 : Int64)) (fun r h => cc_m_in l G μ a2.toInt64 (1 : Int64) (9 : Int64) r h) dX6_person_25 ⟨Nat.le_of_ble_eq_true rfl, Nat.le_of_ble_eq_true rfl⟩ (Nat.le_of_ble_eq_true rfl) (fun r3 => ?_)
      refine jj_if_ne_b hk (pc := 28) 33 dX6_person_28 (by decide) ?_ ?_
      · refine jj_aload_n hk (pc := 33) dX6_person_33 0 rfl rfl ?_
        refine jm_g_s hk hK (pc := 34) dX6_person_34 ?_
        refine jj_iconst hk (pc := 37) (v := (0 : Int32)) dX6_person_37 (by decide) ?_
        refine jm_ld hk hK (pc := 38) (by decide) dX6_person_38 (fun v4 => ?_)
        refine jj_bipush hk (pc := 39) (v := (6 : Int32)) dX6_person_39 (by decide) ?_
        refine jj_icmp_ne hk (pc := 41) 47 dX6_person_41 (by decide) ?_ ?_
        · refine jj_aload_n hk (pc := 47) dX6_person_47 0 rfl rfl ?_
          refine jm_g_s hk hK (pc := 48) dX6_person_48 ?_
          refine jj_iconst hk (pc := 51) (v := (0 : Int32)) dX6_person_51 (by decide) ?_
          refine jm_ld hk hK (pc := 52) (by decide) dX6_person_52 (fun v5 => ?_)
          refine jj_istore hk (pc := 53) [(4, .int v5), (0, .ref (gh G)), (1, .int a0), (2, .int a1), (3, .int a2)] dX6_person_53 (Nat.le_of_ble_eq_true rfl) rfl ?_
          refine jj_aload_n hk (pc := 55) dX6_person_55 1 rfl rfl ?_
          refine jm_g_s hk hK (pc := 56) dX6_person_56 ?_
          refine jj_iload hk (pc := 59) dX6_person_59 0 rfl ?_
          refine jj_iconst hk (pc := 61) (v := (0 : Int32)) dX6_person_61 (by decide) ?_
          refine kc_m_at hk hK (pc := 62) (a0 := v5) (a1 := (0 : Int32)) (fun r h => cc_m_at l G μ v5 (0 : Int32) r h) dX6_person_62 ⟨Nat.le_of_ble_eq_true rfl, Nat.le_of_ble_eq_true rfl⟩ (Nat.le_of_ble_eq_true rfl) (fun r6 => ?_)
          refine jj_iload_n hk (pc := 65) dX6_person_65 2 rfl rfl ?_
          refine jm_st hk hK (pc := 66) (by decide) dX6_person_66 (fun μ7 => ?_)
          refine jj_aload_n hk (pc := 67) dX6_person_67 1 rfl rfl ?_
          refine jm_g_s hk hK (pc := 68) dX6_person_68 ?_
          refine jj_iload hk (pc := 71) dX6_person_71 0 rfl ?_
          refine jj_iconst hk (pc := 73) (v := (1 : Int32)) dX6_person_73 (by decide) ?_
          refine kc_m_at hk hK (pc := 74) (a0 := v5) (a1 := (1 : Int32)) (fun r h => cc_m_at l G μ7 v5 (1 : Int32) r h) dX6_person_74 ⟨Nat.le_of_ble_eq_true rfl, Nat.le_of_ble_eq_true rfl⟩ (Nat.le_of_ble_eq_true rfl) (fun r8 => ?_)
          refine jj_iload_n hk (pc := 77) dX6_person_77 3 rfl rfl ?_
          refine jm_st hk hK (pc := 78) (by decide) dX6_person_78 (fun μ9 => ?_)
          refine jj_aload_n hk (pc := 79) dX6_person_79 1 rfl rfl ?_
          refine jm_g_s hk hK (pc := 80) dX6_person_80 ?_
          refine jj_iload hk (pc := 83) dX6_person_83 0 rfl ?_
          refine jj_iconst hk (pc := 85) (v := (2 : Int32)) dX6_person_85 (by decide) ?_
          refine kc_m_at hk hK (pc := 86) (a0 := v5) (a1 := (2 : Int32)) (fun r h => cc_m_at l G μ9 v5 (2 : Int32) r h) dX6_person_86 ⟨Nat.le_of_ble_eq_true rfl, Nat.le_of_ble_eq_true rfl⟩ (Nat.le_of_ble_eq_true rfl) (fun r10 => ?_)
          refine jj_iload_n hk (pc := 89) dX6_person_89 4 rfl rfl ?_
          refine jm_st hk hK (pc := 90) (by decide) dX6_person_90 (fun μ11 => ?_)
          refine jj_aload_n hk (pc := 91) dX6_person_91 1 rfl rfl ?_
          refine jm_g_s hk hK (pc := 92) dX6_person_92 ?_
          refine jj_iconst hk (pc := 95) (v := (0 : Int32)) dX6_person_95 (by decide) ?_
          refine jj_dup2 hk (pc := 96) dX6_person_96 rfl rfl ?_
          refine jm_ld hk hK (pc := 97) (by decide) dX6_person_97 (fun v12 => ?_)
          refine jj_iconst hk (pc := 98) (v := (1 : Int32)) dX6_person_98 (by decide) ?_
          refine jj_iadd hk (pc := 99) dX6_person_99 ?_
          refine jm_st hk hK (pc := 100) (by decide) dX6_person_100 (fun μ13 => ?_)
          refine jj_iload hk (pc := 101) dX6_person_101 0 rfl ?_
          exact jm_retUi hk (pc := 103) dX6_person_103
        · refine jj_bipush hk (pc := 44) (v := (-2 : Int32)) dX6_person_44 (by decide) ?_
          exact jm_retUi hk (pc := 46) dX6_person_46
      · refine jj_iconst hk (pc := 31) (v := (-1 : Int32)) dX6_person_31 (by decide) ?_
        exact jm_retUi hk (pc := 32) dX6_person_32
end
section
variable {p : Program} {l : Launch} {e : Env} {R : Room} {s : State} {m : MethodId} {args : Array Value} {below : List Frame} {meth : Method} {c : Code}
variable {G : jG}
set_option maxHeartbeats 4000000 in
theorem cc_m_spot (l : Launch) (G : jG)  (μ : MS) (a0 : Int32) (a1 : Int32) (res : Int32) (hf : m_spot a0 a1 = some res) : jM l yX6_spot (ws_ yX6_spot cX6_spot 2 (some .int)) 0 0 [.int a0, .int a1] (mWo G) (mnx G) (mK G) μ (jR μ res) (gA G) (gn G) := by
  refine jj_start [(0, .int a0), (1, .int a1)] (by decide) (Nat.le_of_ble_eq_true rfl) rfl (fun p e R s m args below meth c hk hK hsz => ?_) hf
  have hk : jk p R s m args meth c (gn G) cX6_spot 2 RX6 0 0 (some .int) := hk
  unfold m_spot
  refine jj_bipush hk (pc := 0) (v := (26 : Int32)) dX6_spot_0 (by decide) ?_
  refine jj_iconst hk (pc := 2) (v := (5 : Int32)) dX6_spot_2 (by decide) ?_
  refine jj_iload_n hk (pc := 3) dX6_spot_3 0 rfl rfl ?_
  refine jj_imul hk (pc := 4) dX6_spot_4 ?_
  refine jj_iadd hk (pc := 5) dX6_spot_5 ?_
  refine jj_iload_n hk (pc := 6) dX6_spot_6 1 rfl rfl ?_
  refine jj_iadd hk (pc := 7) dX6_spot_7 ?_
  exact jm_retRi hk (pc := 8) dX6_spot_8
end
section
variable {p : Program} {l : Launch} {e : Env} {R : Room} {s : State} {m : MethodId} {args : Array Value} {below : List Frame} {meth : Method} {c : Code}
variable {G : jG}
variable {NX : Nat} {Q : State → Prop} {nL : Nat} {cc : ByteArray} {fr lo frc loc : Nat} {ret : Option FieldType}
variable {pc : Nat} {μ : MS} {lv : List (Nat × Value)} {st : List Value} {ρ : Type} {res : ρ}
theorem kc_m_spot (hk : jk p R s m args meth c NX cc nL RX6 fr lo ret) (hK : mK G s) {a0 : Int32} {a1 : Int32} {F : Option Int32} {K : Int32 → Option ρ} (hM : ∀ r, F = some r → jM l yX6_spot (ws_ yX6_spot cX6_spot 2 (some .int)) frc loc [.int a0, .int a1] (mWo G) (mnx G) (mK G) μ (jR μ r) (gA G) (gn G)) (hd : decode cc pc = .ok (.invokestatic 72, 3)) (hr : frc + 1 ≤ fr ∧ 8 + (2 + 11) + loc ≤ lo) (hw : (st.map fun v => v.category).sum ≤ 8) (kk : ∀ r, jj p l e R s m args below meth c (gA G) NX Q (mWo G) (mnx G) nL μ (pc + 3) lv (.int r :: st) (K r = some res)) : jj p l e R s m args below meth c (gA G) NX Q (mWo G) (mnx G) nL μ pc lv (.int a1 :: .int a0 :: st) (F.bind K = some res) :=
  jm_SRi (n := 2) hk hK [.int a0, .int a1] hM (lw_S q1709 q1710 q127 q1711) (by decide +kernel) rfl rfl hd hr hw kk
end
section
variable {p : Program} {l : Launch} {e : Env} {R : Room} {s : State} {m : MethodId} {args : Array Value} {below : List Frame} {meth : Method} {c : Code}
variable {G : jG}
set_option maxHeartbeats 4000000 in
theorem cc_m_deedIs (l : Launch) (G : jG)  (μ : MS) (a0 : Int32) (a1 : Int32) (res : Int32) (hf : m_deedIs μ a0 a1 = some res) : jM l yX6_deedIs (ws_ yX6_deedIs cX6_deedIs 3 (some .int)) 1 21 [.ref (gh G), .int a0, .int a1] (mWo G) (mnx G) (mK G) μ (jR μ res) (gA G) (gn G) := by
  refine jj_start [(0, .ref (gh G)), (1, .int a0), (2, .int a1)] (by decide) (Nat.le_of_ble_eq_true rfl) rfl (fun p e R s m args below meth c hk hK hsz => ?_) hf
  have hk : jk p R s m args meth c (gn G) cX6_deedIs 3 RX6 1 21 (some .int) := hk
  unfold m_deedIs
  refine jj_aload_n hk (pc := 0) dX6_deedIs_0 0 rfl rfl ?_
  refine jm_g_s hk hK (pc := 1) dX6_deedIs_1 ?_
  refine jj_iload_n hk (pc := 4) dX6_deedIs_4 1 rfl rfl ?_
  refine jj_iload_n hk (pc := 5) dX6_deedIs_5 2 rfl rfl ?_
  refine kc_m_spot hk hK (pc := 6) (a0 := a0) (a1 := a1) (fun r h => cc_m_spot l G μ a0 a1 r h) dX6_deedIs_6 ⟨Nat.le_of_ble_eq_true rfl, Nat.le_of_ble_eq_true rfl⟩ (Nat.le_of_ble_eq_true rfl) (fun r1 => ?_)
  refine jm_ld hk hK (pc := 9) (by decide) dX6_deedIs_9 (fun v2 => ?_)
  exact jm_retRi hk (pc := 10) dX6_deedIs_10
end
section
variable {p : Program} {l : Launch} {e : Env} {R : Room} {s : State} {m : MethodId} {args : Array Value} {below : List Frame} {meth : Method} {c : Code}
variable {G : jG}
variable {NX : Nat} {Q : State → Prop} {nL : Nat} {cc : ByteArray} {fr lo frc loc : Nat} {ret : Option FieldType}
variable {pc : Nat} {μ : MS} {lv : List (Nat × Value)} {st : List Value} {ρ : Type} {res : ρ}
theorem kc_m_deedIs (hk : jk p R s m args meth c NX cc nL RX6 fr lo ret) (hK : mK G s) {a0 : Int32} {a1 : Int32} {F : Option Int32} {K : Int32 → Option ρ} (hM : ∀ r, F = some r → jM l yX6_deedIs (ws_ yX6_deedIs cX6_deedIs 3 (some .int)) frc loc [.ref (gh G), .int a0, .int a1] (mWo G) (mnx G) (mK G) μ (jR μ r) (gA G) (gn G)) (hd : decode cc pc = .ok (.invokevirtual 90, 3)) (hr : frc + 1 ≤ fr ∧ 8 + (3 + 11) + loc ≤ lo) (hw : (st.map fun v => v.category).sum ≤ 8) (kk : ∀ r, jj p l e R s m args below meth c (gA G) NX Q (mWo G) (mnx G) nL μ (pc + 3) lv (.int r :: st) (K r = some res)) : jj p l e R s m args below meth c (gA G) NX Q (mWo G) (mnx G) nL μ pc lv (.int a1 :: .int a0 :: .ref (gh G) :: st) (F.bind K = some res) :=
  jm_VRi (n := 2) hk hK [.int a0, .int a1] hM (lw_V q1705 q1707 qs57 q127 q1708) (by decide +kernel) rfl rfl hd hr hw kk
end
section
variable {p : Program} {l : Launch} {e : Env} {R : Room} {s : State} {m : MethodId} {args : Array Value} {below : List Frame} {meth : Method} {c : Code}
variable {G : jG}
set_option maxHeartbeats 4000000 in
theorem cc_m_its (l : Launch) (G : jG)  (μ : MS) (a0 : Int32) (a1 : Int32) (res : Int32) (hf : m_its μ a0 a1 = some res) : jM l yX6_its (ws_ yX6_its cX6_its 3 (some .int)) 1 21 [.ref (gh G), .int a0, .int a1] (mWo G) (mnx G) (mK G) μ (jR μ res) (gA G) (gn G) := by
  refine jj_start [(0, .ref (gh G)), (1, .int a0), (2, .int a1)] (by decide) (Nat.le_of_ble_eq_true rfl) rfl (fun p e R s m args below meth c hk hK hsz => ?_) hf
  have hk : jk p R s m args meth c (gn G) cX6_its 3 RX6 1 21 (some .int) := hk
  unfold m_its
  refine jj_aload_n hk (pc := 0) dX6_its_0 0 rfl rfl ?_
  refine jm_g_s hk hK (pc := 1) dX6_its_1 ?_
  refine jj_iload_n hk (pc := 4) dX6_its_4 1 rfl rfl ?_
  refine jj_iload_n hk (pc := 5) dX6_its_5 2 rfl rfl ?_
  refine kc_m_at hk hK (pc := 6) (a0 := a0) (a1 := a1) (fun r h => cc_m_at l G μ a0 a1 r h) dX6_its_6 ⟨Nat.le_of_ble_eq_true rfl, Nat.le_of_ble_eq_true rfl⟩ (Nat.le_of_ble_eq_true rfl) (fun r1 => ?_)
  refine jm_ld hk hK (pc := 9) (by decide) dX6_its_9 (fun v2 => ?_)
  exact jm_retRi hk (pc := 10) dX6_its_10
end
section
variable {p : Program} {l : Launch} {e : Env} {R : Room} {s : State} {m : MethodId} {args : Array Value} {below : List Frame} {meth : Method} {c : Code}
variable {G : jG}
variable {NX : Nat} {Q : State → Prop} {nL : Nat} {cc : ByteArray} {fr lo frc loc : Nat} {ret : Option FieldType}
variable {pc : Nat} {μ : MS} {lv : List (Nat × Value)} {st : List Value} {ρ : Type} {res : ρ}
theorem kc_m_its (hk : jk p R s m args meth c NX cc nL RX6 fr lo ret) (hK : mK G s) {a0 : Int32} {a1 : Int32} {F : Option Int32} {K : Int32 → Option ρ} (hM : ∀ r, F = some r → jM l yX6_its (ws_ yX6_its cX6_its 3 (some .int)) frc loc [.ref (gh G), .int a0, .int a1] (mWo G) (mnx G) (mK G) μ (jR μ r) (gA G) (gn G)) (hd : decode cc pc = .ok (.invokevirtual 83, 3)) (hr : frc + 1 ≤ fr ∧ 8 + (3 + 11) + loc ≤ lo) (hw : (st.map fun v => v.category).sum ≤ 8) (kk : ∀ r, jj p l e R s m args below meth c (gA G) NX Q (mWo G) (mnx G) nL μ (pc + 3) lv (.int r :: st) (K r = some res)) : jj p l e R s m args below meth c (gA G) NX Q (mWo G) (mnx G) nL μ pc lv (.int a1 :: .int a0 :: .ref (gh G) :: st) (F.bind K = some res) :=
  jm_VRi (n := 2) hk hK [.int a0, .int a1] hM (lw_V q1697 q1699 qs55 q127 q1700) (by decide +kernel) rfl rfl hd hr hw kk
end
section
variable {p : Program} {l : Launch} {e : Env} {R : Room} {s : State} {m : MethodId} {args : Array Value} {below : List Frame} {meth : Method} {c : Code}
variable {G : jG}
set_option maxHeartbeats 4000000 in
theorem cc_m_termOf (l : Launch) (G : jG)  (μ : MS) (a0 : Int32) (a1 : Int32) (res : Int32) (hf : m_termOf a0 a1 = some res) : jM l yX6_termOf (ws_ yX6_termOf cX6_termOf 2 (some .int)) 0 0 [.int a0, .int a1] (mWo G) (mnx G) (mK G) μ (jR μ res) (gA G) (gn G) := by
  refine jj_start [(0, .int a0), (1, .int a1)] (by decide) (Nat.le_of_ble_eq_true rfl) rfl (fun p e R s m args below meth c hk hK hsz => ?_) hf
  have hk : jk p R s m args meth c (gn G) cX6_termOf 2 RX6 0 0 (some .int) := hk
  unfold m_termOf
  refine jj_iload_n hk (pc := 0) dX6_termOf_0 0 rfl rfl ?_
  refine jj_ite (fun c_1_0 => ?_) (fun c_1_0 => ?_)
  · refine jj_tIn hk (pc := 1) (k := (2 : Int32)) (t := 2) 32 c_1_0 dX6_termOf_1 (by decide) rfl rfl (by decide) ?_
    refine jj_iconst hk (pc := 32) (v := (2 : Int32)) dX6_termOf_32 (by decide) ?_
    refine jj_iload_n hk (pc := 33) dX6_termOf_33 1 rfl rfl ?_
    refine jj_imul hk (pc := 34) dX6_termOf_34 ?_
    exact jm_retRi hk (pc := 35) dX6_termOf_35
  refine jj_ite (fun c_1_1 => ?_) (fun c_1_1 => ?_)
  · refine jj_tIn hk (pc := 1) (k := (3 : Int32)) (t := 3) 36 c_1_1 dX6_termOf_1 (by decide) rfl rfl (by decide) ?_
    refine jj_iconst hk (pc := 36) (v := (2 : Int32)) dX6_termOf_36 (by decide) ?_
    refine jj_iload_n hk (pc := 37) dX6_termOf_37 1 rfl rfl ?_
    refine jj_imul hk (pc := 38) dX6_termOf_38 ?_
    refine jj_iconst hk (pc := 39) (v := (1 : Int32)) dX6_termOf_39 (by decide) ?_
    refine jj_isub hk (pc := 40) dX6_termOf_40 ?_
    exact jm_retRi hk (pc := 41) dX6_termOf_41
  refine jj_ite (fun c_1_2 => ?_) (fun c_1_2 => ?_)
  · refine jj_tIn hk (pc := 1) (k := (4 : Int32)) (t := 4) 42 c_1_2 dX6_termOf_1 (by decide) rfl rfl (by decide) ?_
    refine jj_iload_n hk (pc := 42) dX6_termOf_42 1 rfl rfl ?_
    refine jj_iconst hk (pc := 43) (v := (2 : Int32)) dX6_termOf_43 (by decide) ?_
    refine jj_iadd hk (pc := 44) dX6_termOf_44 ?_
    exact jm_retRi hk (pc := 45) dX6_termOf_45
  refine jj_ite (fun c_1_3 => ?_) (fun c_1_3 => ?_)
  · refine jj_tIn hk (pc := 1) (k := (5 : Int32)) (t := 5) 46 c_1_3 dX6_termOf_1 (by decide) rfl rfl (by decide) ?_
    refine jj_iload_n hk (pc := 46) dX6_termOf_46 1 rfl rfl ?_
    refine jj_bipush hk (pc := 47) (v := (11 : Int32)) dX6_termOf_47 (by decide) ?_
    refine jj_iadd hk (pc := 49) dX6_termOf_49 ?_
    exact jm_retRi hk (pc := 50) dX6_termOf_50
  refine jj_tOut hk (pc := 1) 51 dX6_termOf_1 ?_ (by decide) ?_
  · have q0 := lv_neT (a := 2) c_1_0 (by decide); have q1 := lv_neT (a := 3) c_1_1 (by decide); have q2 := lv_neT (a := 4) c_1_2 (by decide); have q3 := lv_neT (a := 5) c_1_3 (by decide); omega
  refine jj_iload_n hk (pc := 51) dX6_termOf_51 1 rfl rfl ?_
  exact jm_retRi hk (pc := 52) dX6_termOf_52
end
section
variable {p : Program} {l : Launch} {e : Env} {R : Room} {s : State} {m : MethodId} {args : Array Value} {below : List Frame} {meth : Method} {c : Code}
variable {G : jG}
variable {NX : Nat} {Q : State → Prop} {nL : Nat} {cc : ByteArray} {fr lo frc loc : Nat} {ret : Option FieldType}
variable {pc : Nat} {μ : MS} {lv : List (Nat × Value)} {st : List Value} {ρ : Type} {res : ρ}
theorem kc_m_termOf (hk : jk p R s m args meth c NX cc nL RX6 fr lo ret) (hK : mK G s) {a0 : Int32} {a1 : Int32} {F : Option Int32} {K : Int32 → Option ρ} (hM : ∀ r, F = some r → jM l yX6_termOf (ws_ yX6_termOf cX6_termOf 2 (some .int)) frc loc [.int a0, .int a1] (mWo G) (mnx G) (mK G) μ (jR μ r) (gA G) (gn G)) (hd : decode cc pc = .ok (.invokestatic 93, 3)) (hr : frc + 1 ≤ fr ∧ 8 + (2 + 11) + loc ≤ lo) (hw : (st.map fun v => v.category).sum ≤ 8) (kk : ∀ r, jj p l e R s m args below meth c (gA G) NX Q (mWo G) (mnx G) nL μ (pc + 3) lv (.int r :: st) (K r = some res)) : jj p l e R s m args below meth c (gA G) NX Q (mWo G) (mnx G) nL μ pc lv (.int a1 :: .int a0 :: st) (F.bind K = some res) :=
  jm_SRi (n := 2) hk hK [.int a0, .int a1] hM (lw_S q1741 q1742 q127 q1743) (by decide +kernel) rfl rfl hd hr hw kk
end
section
variable {p : Program} {l : Launch} {e : Env} {R : Room} {s : State} {m : MethodId} {args : Array Value} {below : List Frame} {meth : Method} {c : Code}
variable {G : jG}
set_option maxHeartbeats 4000000 in
theorem cc_m_due (l : Launch) (G : jG)  (μ : MS) (a0 : Int32) (res : Int32) (hf : m_due μ a0 = some res) : jM l yX6_due (ws_ yX6_due cX6_due 3 (some .int)) 2 43 [.ref (gh G), .int a0] (mWo G) (mnx G) (mK G) μ (jR μ res) (gA G) (gn G) := by
  refine jj_start [(0, .ref (gh G)), (1, .int a0)] (by decide) (Nat.le_of_ble_eq_true rfl) rfl (fun p e R s m args below meth c hk hK hsz => ?_) hf
  have hk : jk p R s m args meth c (gn G) cX6_due 3 RX6 2 43 (some .int) := hk
  unfold m_due
  refine jj_aload_n hk (pc := 0) dX6_due_0 0 rfl rfl ?_
  refine jj_iload_n hk (pc := 1) dX6_due_1 1 rfl rfl ?_
  refine jj_iconst hk (pc := 2) (v := (0 : Int32)) dX6_due_2 (by decide) ?_
  refine kc_m_deedIs hk hK (pc := 3) (a0 := a0) (a1 := (0 : Int32)) (fun r h => cc_m_deedIs l G μ a0 (0 : Int32) r h) dX6_due_3 ⟨Nat.le_of_ble_eq_true rfl, Nat.le_of_ble_eq_true rfl⟩ (Nat.le_of_ble_eq_true rfl) (fun r1 => ?_)
  refine jj_istore_n hk (pc := 6) [(2, .int r1), (0, .ref (gh G)), (1, .int a0)] dX6_due_6 rfl (Nat.le_of_ble_eq_true rfl) rfl ?_
  refine jj_aload_n hk (pc := 7) dX6_due_7 1 rfl rfl ?_
  refine jj_iload_n hk (pc := 8) dX6_due_8 2 rfl rfl ?_
  refine jj_iconst hk (pc := 9) (v := (1 : Int32)) dX6_due_9 (by decide) ?_
  refine kc_m_deedIs hk hK (pc := 10) (a0 := a0) (a1 := (1 : Int32)) (fun r h => cc_m_deedIs l G μ a0 (1 : Int32) r h) dX6_due_10 ⟨Nat.le_of_ble_eq_true rfl, Nat.le_of_ble_eq_true rfl⟩ (Nat.le_of_ble_eq_true rfl) (fun r2 => ?_)
  refine jj_aload_n hk (pc := 13) dX6_due_13 1 rfl rfl ?_
  refine jj_iload_n hk (pc := 14) dX6_due_14 0 rfl rfl ?_
  refine jj_iconst hk (pc := 15) (v := (0 : Int32)) dX6_due_15 (by decide) ?_
  refine kc_m_its hk hK (pc := 16) (a0 := r1) (a1 := (0 : Int32)) (fun r h => cc_m_its l G μ r1 (0 : Int32) r h) dX6_due_16 ⟨Nat.le_of_ble_eq_true rfl, Nat.le_of_ble_eq_true rfl⟩ (Nat.le_of_ble_eq_true rfl) (fun r3 => ?_)
  refine jj_aload_n hk (pc := 19) dX6_due_19 1 rfl rfl ?_
  refine jj_iload_n hk (pc := 20) dX6_due_20 0 rfl rfl ?_
  refine jj_iconst hk (pc := 21) (v := (1 : Int32)) dX6_due_21 (by decide) ?_
  refine kc_m_its hk hK (pc := 22) (a0 := r1) (a1 := (1 : Int32)) (fun r h => cc_m_its l G μ r1 (1 : Int32) r h) dX6_due_22 ⟨Nat.le_of_ble_eq_true rfl, Nat.le_of_ble_eq_true rfl⟩ (Nat.le_of_ble_eq_true rfl) (fun r4 => ?_)
  refine kc_m_termOf hk hK (pc := 25) (a0 := r3) (a1 := r4) (fun r h => cc_m_termOf l G μ r3 r4 r h) dX6_due_25 ⟨Nat.le_of_ble_eq_true rfl, Nat.le_of_ble_eq_true rfl⟩ (Nat.le_of_ble_eq_true rfl) (fun r5 => ?_)
  refine jj_iadd hk (pc := 28) dX6_due_28 ?_
  exact jm_retRi hk (pc := 29) dX6_due_29
end
section
variable {p : Program} {l : Launch} {e : Env} {R : Room} {s : State} {m : MethodId} {args : Array Value} {below : List Frame} {meth : Method} {c : Code}
variable {G : jG}
variable {NX : Nat} {Q : State → Prop} {nL : Nat} {cc : ByteArray} {fr lo frc loc : Nat} {ret : Option FieldType}
variable {pc : Nat} {μ : MS} {lv : List (Nat × Value)} {st : List Value} {ρ : Type} {res : ρ}
theorem kc_m_due (hk : jk p R s m args meth c NX cc nL RX6 fr lo ret) (hK : mK G s) {a0 : Int32} {F : Option Int32} {K : Int32 → Option ρ} (hM : ∀ r, F = some r → jM l yX6_due (ws_ yX6_due cX6_due 3 (some .int)) frc loc [.ref (gh G), .int a0] (mWo G) (mnx G) (mK G) μ (jR μ r) (gA G) (gn G)) (hd : decode cc pc = .ok (.invokevirtual 119, 3)) (hr : frc + 1 ≤ fr ∧ 8 + (3 + 11) + loc ≤ lo) (hw : (st.map fun v => v.category).sum ≤ 8) (kk : ∀ r, jj p l e R s m args below meth c (gA G) NX Q (mWo G) (mnx G) nL μ (pc + 3) lv (.int r :: st) (K r = some res)) : jj p l e R s m args below meth c (gA G) NX Q (mWo G) (mnx G) nL μ pc lv (.int a0 :: .ref (gh G) :: st) (F.bind K = some res) :=
  jm_VRi (n := 1) hk hK [.int a0] hM (lw_V q1737 q1739 qs62 q127 q1740) (by decide +kernel) rfl rfl hd hr hw kk
end
section
variable {p : Program} {l : Launch} {e : Env} {R : Room} {s : State} {m : MethodId} {args : Array Value} {below : List Frame} {meth : Method} {c : Code}
variable {G : jG}
set_option maxHeartbeats 4000000 in
theorem wb_m_standWeight_L4 {res : Int32} (hk : jk p R s m args meth c (gn G) cX6_standWeight 4 RX6 2 43 (some .int)) (hK : mK G s) (N : Nat) (μ : MS) : ∀ (n : Nat) (x1 : Int32) (x2 : Int32) (x3 : Int32), jj p l e R s m args below meth c (gA G) (gn G) (jZ below args s (gA G) (gn G) (jR μ res) (mWo G) (mnx G)) (mWo G) (mnx G) 4 μ 4 [(0, .ref (gh G)), (1, .int x1), (2, .int x2), (3, .int x3)] [] (m_standWeight_L4 N μ n x1 x2 x3 = some res) := by
  intro n
  induction n with
  | zero => intro x1 x2 x3; exact jj_eq (fun hz => by rw [m_standWeight_L4] at hz; exact hz) jj_no
  | succ n ih =>
    intro x1 x2 x3
    rw [m_standWeight_L4]
    refine jj_iload_n hk (pc := 4) dX6_standWeight_4 3 rfl rfl ?_
    refine jj_aload_n hk (pc := 5) dX6_standWeight_5 0 rfl rfl ?_
    refine jm_g_s hk hK (pc := 6) dX6_standWeight_6 ?_
    refine jj_iconst hk (pc := 9) (v := (5 : Int32)) dX6_standWeight_9 (by decide) ?_
    refine jm_ld hk hK (pc := 10) (by decide) dX6_standWeight_10 (fun v1 => ?_)
    refine jj_icmp_ge hk (pc := 11) 57 dX6_standWeight_11 (by decide) ?_ ?_
    · refine jj_iload_n hk (pc := 57) dX6_standWeight_57 2 rfl rfl ?_
      exact jm_retRi hk (pc := 58) dX6_standWeight_58
    · refine jj_iload_n hk (pc := 14) dX6_standWeight_14 2 rfl rfl ?_
      refine jj_aload_n hk (pc := 15) dX6_standWeight_15 0 rfl rfl ?_
      refine jj_iload_n hk (pc := 16) dX6_standWeight_16 3 rfl rfl ?_
      refine jj_iconst hk (pc := 17) (v := (4 : Int32)) dX6_standWeight_17 (by decide) ?_
      refine kc_m_deedIs hk hK (pc := 18) (a0 := x3) (a1 := (4 : Int32)) (fun r h => cc_m_deedIs l G μ x3 (4 : Int32) r h) dX6_standWeight_18 ⟨Nat.le_of_ble_eq_true rfl, Nat.le_of_ble_eq_true rfl⟩ (Nat.le_of_ble_eq_true rfl) (fun r2 => ?_)
      refine jj_iconst hk (pc := 21) (v := (1 : Int32)) dX6_standWeight_21 (by decide) ?_
      refine jj_icmp_ne hk (pc := 22) 48 dX6_standWeight_22 (by decide) ?_ ?_
      · refine jj_iconst hk (pc := 48) (v := (0 : Int32)) dX6_standWeight_48 (by decide) ?_
        refine jj_iadd hk (pc := 49) dX6_standWeight_49 ?_
        refine jj_istore_n hk (pc := 50) [(2, .int (x2 + (0 : Int32))), (0, .ref (gh G)), (1, .int x1), (3, .int x3)] dX6_standWeight_50 rfl (Nat.le_of_ble_eq_true rfl) rfl ?_
        refine jj_iinc hk (pc := 51) [(3, .int (x3 + 1)), (2, .int (x2 + (0 : Int32))), (0, .ref (gh G)), (1, .int x1)] dX6_standWeight_51 3 rfl rfl (Nat.le_of_ble_eq_true rfl) rfl ?_
        refine jj_goto hk (pc := 54) 4 dX6_standWeight_54 (by decide) ?_
        refine jj_loc [(0, .ref (gh G)), (1, .int x1), (2, .int (x2 + (0 : Int32))), (3, .int (x3 + 1))] [2, 3, 1, 0] rfl ?_
        exact ih x1 (x2 + (0 : Int32)) (x3 + 1)
      · refine jj_iload_n hk (pc := 25) dX6_standWeight_25 1 rfl rfl ?_
        refine jj_if_lt hk (pc := 26) 39 dX6_standWeight_26 (by decide) ?_ ?_
        · refine jj_aload_n hk (pc := 39) dX6_standWeight_39 0 rfl rfl ?_
          refine jj_iload_n hk (pc := 40) dX6_standWeight_40 3 rfl rfl ?_
          refine jj_iconst hk (pc := 41) (v := (2 : Int32)) dX6_standWeight_41 (by decide) ?_
          refine kc_m_deedIs hk hK (pc := 42) (a0 := x3) (a1 := (2 : Int32)) (fun r h => cc_m_deedIs l G μ x3 (2 : Int32) r h) dX6_standWeight_42 ⟨Nat.le_of_ble_eq_true rfl, Nat.le_of_ble_eq_true rfl⟩ (Nat.le_of_ble_eq_true rfl) (fun r3 => ?_)
          refine jj_goto hk (pc := 45) 49 dX6_standWeight_45 (by decide) ?_
          refine jj_iadd hk (pc := 49) dX6_standWeight_49 ?_
          refine jj_istore_n hk (pc := 50) [(2, .int (x2 + r3)), (0, .ref (gh G)), (1, .int x1), (3, .int x3)] dX6_standWeight_50 rfl (Nat.le_of_ble_eq_true rfl) rfl ?_
          refine jj_iinc hk (pc := 51) [(3, .int (x3 + 1)), (2, .int (x2 + r3)), (0, .ref (gh G)), (1, .int x1)] dX6_standWeight_51 3 rfl rfl (Nat.le_of_ble_eq_true rfl) rfl ?_
          refine jj_goto hk (pc := 54) 4 dX6_standWeight_54 (by decide) ?_
          refine jj_loc [(0, .ref (gh G)), (1, .int x1), (2, .int (x2 + r3)), (3, .int (x3 + 1))] [2, 3, 1, 0] rfl ?_
          exact ih x1 (x2 + r3) (x3 + 1)
        · refine jj_aload_n hk (pc := 29) dX6_standWeight_29 0 rfl rfl ?_
          refine jj_iload_n hk (pc := 30) dX6_standWeight_30 3 rfl rfl ?_
          refine jj_iconst hk (pc := 31) (v := (0 : Int32)) dX6_standWeight_31 (by decide) ?_
          refine kc_m_deedIs hk hK (pc := 32) (a0 := x3) (a1 := (0 : Int32)) (fun r h => cc_m_deedIs l G μ x3 (0 : Int32) r h) dX6_standWeight_32 ⟨Nat.le_of_ble_eq_true rfl, Nat.le_of_ble_eq_true rfl⟩ (Nat.le_of_ble_eq_true rfl) (fun r4 => ?_)
          refine jj_iload_n hk (pc := 35) dX6_standWeight_35 1 rfl rfl ?_
          refine jj_icmp_ne hk (pc := 36) 48 dX6_standWeight_36 (by decide) ?_ ?_
          · refine jj_iconst hk (pc := 48) (v := (0 : Int32)) dX6_standWeight_48 (by decide) ?_
            refine jj_iadd hk (pc := 49) dX6_standWeight_49 ?_
            refine jj_istore_n hk (pc := 50) [(2, .int (x2 + (0 : Int32))), (0, .ref (gh G)), (1, .int x1), (3, .int x3)] dX6_standWeight_50 rfl (Nat.le_of_ble_eq_true rfl) rfl ?_
            refine jj_iinc hk (pc := 51) [(3, .int (x3 + 1)), (2, .int (x2 + (0 : Int32))), (0, .ref (gh G)), (1, .int x1)] dX6_standWeight_51 3 rfl rfl (Nat.le_of_ble_eq_true rfl) rfl ?_
            refine jj_goto hk (pc := 54) 4 dX6_standWeight_54 (by decide) ?_
            refine jj_loc [(0, .ref (gh G)), (1, .int x1), (2, .int (x2 + (0 : Int32))), (3, .int (x3 + 1))] [2, 3, 1, 0] rfl ?_
            exact ih x1 (x2 + (0 : Int32)) (x3 + 1)
          · refine jj_aload_n hk (pc := 39) dX6_standWeight_39 0 rfl rfl ?_
            refine jj_iload_n hk (pc := 40) dX6_standWeight_40 3 rfl rfl ?_
            refine jj_iconst hk (pc := 41) (v := (2 : Int32)) dX6_standWeight_41 (by decide) ?_
            refine kc_m_deedIs hk hK (pc := 42) (a0 := x3) (a1 := (2 : Int32)) (fun r h => cc_m_deedIs l G μ x3 (2 : Int32) r h) dX6_standWeight_42 ⟨Nat.le_of_ble_eq_true rfl, Nat.le_of_ble_eq_true rfl⟩ (Nat.le_of_ble_eq_true rfl) (fun r5 => ?_)
            refine jj_goto hk (pc := 45) 49 dX6_standWeight_45 (by decide) ?_
            refine jj_iadd hk (pc := 49) dX6_standWeight_49 ?_
            refine jj_istore_n hk (pc := 50) [(2, .int (x2 + r5)), (0, .ref (gh G)), (1, .int x1), (3, .int x3)] dX6_standWeight_50 rfl (Nat.le_of_ble_eq_true rfl) rfl ?_
            refine jj_iinc hk (pc := 51) [(3, .int (x3 + 1)), (2, .int (x2 + r5)), (0, .ref (gh G)), (1, .int x1)] dX6_standWeight_51 3 rfl rfl (Nat.le_of_ble_eq_true rfl) rfl ?_
            refine jj_goto hk (pc := 54) 4 dX6_standWeight_54 (by decide) ?_
            refine jj_loc [(0, .ref (gh G)), (1, .int x1), (2, .int (x2 + r5)), (3, .int (x3 + 1))] [2, 3, 1, 0] rfl ?_
            exact ih x1 (x2 + r5) (x3 + 1)
set_option maxHeartbeats 4000000 in
theorem cc_m_standWeight (l : Launch) (G : jG) (N : Nat) (μ : MS) (a0 : Int32) (res : Int32) (hf : m_standWeight N μ a0 = some res) : jM l yX6_standWeight (ws_ yX6_standWeight cX6_standWeight 4 (some .int)) 2 43 [.ref (gh G), .int a0] (mWo G) (mnx G) (mK G) μ (jR μ res) (gA G) (gn G) := by
  refine jj_start [(0, .ref (gh G)), (1, .int a0)] (by decide) (Nat.le_of_ble_eq_true rfl) rfl (fun p e R s m args below meth c hk hK hsz => ?_) hf
  have hk : jk p R s m args meth c (gn G) cX6_standWeight 4 RX6 2 43 (some .int) := hk
  unfold m_standWeight
  refine jj_iconst hk (pc := 0) (v := (0 : Int32)) dX6_standWeight_0 (by decide) ?_
  refine jj_istore_n hk (pc := 1) [(2, .int (0 : Int32)), (0, .ref (gh G)), (1, .int a0)] dX6_standWeight_1 rfl (Nat.le_of_ble_eq_true rfl) rfl ?_
  refine jj_iconst hk (pc := 2) (v := (0 : Int32)) dX6_standWeight_2 (by decide) ?_
  refine jj_istore_n hk (pc := 3) [(3, .int (0 : Int32)), (2, .int (0 : Int32)), (0, .ref (gh G)), (1, .int a0)] dX6_standWeight_3 rfl (Nat.le_of_ble_eq_true rfl) rfl ?_
  refine jj_loc [(0, .ref (gh G)), (1, .int a0), (2, .int (0 : Int32)), (3, .int (0 : Int32))] [2, 3, 1, 0] rfl ?_
  exact wb_m_standWeight_L4 hk hK N μ N a0 (0 : Int32) (0 : Int32)
end
section
variable {p : Program} {l : Launch} {e : Env} {R : Room} {s : State} {m : MethodId} {args : Array Value} {below : List Frame} {meth : Method} {c : Code}
variable {G : jG}
variable {NX : Nat} {Q : State → Prop} {nL : Nat} {cc : ByteArray} {fr lo frc loc : Nat} {ret : Option FieldType}
variable {pc : Nat} {μ : MS} {lv : List (Nat × Value)} {st : List Value} {ρ : Type} {res : ρ}
theorem kc_m_standWeight (hk : jk p R s m args meth c NX cc nL RX6 fr lo ret) (hK : mK G s) {a0 : Int32} {F : Option Int32} {K : Int32 → Option ρ} (hM : ∀ r, F = some r → jM l yX6_standWeight (ws_ yX6_standWeight cX6_standWeight 4 (some .int)) frc loc [.ref (gh G), .int a0] (mWo G) (mnx G) (mK G) μ (jR μ r) (gA G) (gn G)) (hd : decode cc pc = .ok (.invokevirtual 99, 3)) (hr : frc + 1 ≤ fr ∧ 8 + (4 + 11) + loc ≤ lo) (hw : (st.map fun v => v.category).sum ≤ 8) (kk : ∀ r, jj p l e R s m args below meth c (gA G) NX Q (mWo G) (mnx G) nL μ (pc + 3) lv (.int r :: st) (K r = some res)) : jj p l e R s m args below meth c (gA G) NX Q (mWo G) (mnx G) nL μ pc lv (.int a0 :: .ref (gh G) :: st) (F.bind K = some res) :=
  jm_VRi (n := 1) hk hK [.int a0] hM (lw_V q1701 q1703 qs56 q127 q1704) (by decide +kernel) rfl rfl hd hr hw kk
end
section
variable {p : Program} {l : Launch} {e : Env} {R : Room} {s : State} {m : MethodId} {args : Array Value} {below : List Frame} {meth : Method} {c : Code}
variable {G : jG}
set_option maxHeartbeats 4000000 in
theorem cc_m_fact (l : Launch) (G : jG) (N : Nat) (μ : MS) (a0 : Int32) (a1 : Int32) (res : Int32) (hf : m_fact N μ a0 a1 = some res) : jM l yX6_fact (ws_ yX6_fact cX6_fact 3 (some .int)) 3 66 [.ref (gh G), .int a0, .int a1] (mWo G) (mnx G) (mK G) μ (jR μ res) (gA G) (gn G) := by
  refine jj_start [(0, .ref (gh G)), (1, .int a0), (2, .int a1)] (by decide) (Nat.le_of_ble_eq_true rfl) rfl (fun p e R s m args below meth c hk hK hsz => ?_) hf
  have hk : jk p R s m args meth c (gn G) cX6_fact 3 RX6 3 66 (some .int) := hk
  unfold m_fact
  refine jj_iload_n hk (pc := 0) dX6_fact_0 1 rfl rfl ?_
  refine jj_ite (fun c_1_0 => ?_) (fun c_1_0 => ?_)
  · refine jj_tIn hk (pc := 1) (k := (-5 : Int32)) (t := -5) 63 c_1_0 dX6_fact_1 (by decide) rfl rfl (by decide) ?_
    refine jj_iload_n hk (pc := 63) dX6_fact_63 2 rfl rfl ?_
    exact jm_retRi hk (pc := 64) dX6_fact_64
  refine jj_ite (fun c_1_1 => ?_) (fun c_1_1 => ?_)
  · refine jj_tIn hk (pc := 1) (k := (-4 : Int32)) (t := -4) 56 c_1_1 dX6_fact_1 (by decide) rfl rfl (by decide) ?_
    refine jj_aload_n hk (pc := 56) dX6_fact_56 0 rfl rfl ?_
    refine jj_iload_n hk (pc := 57) dX6_fact_57 2 rfl rfl ?_
    refine jj_iconst hk (pc := 58) (v := (2 : Int32)) dX6_fact_58 (by decide) ?_
    refine kc_m_its hk hK (pc := 59) (a0 := a1) (a1 := (2 : Int32)) (fun r h => cc_m_its l G μ a1 (2 : Int32) r h) dX6_fact_59 ⟨Nat.le_of_ble_eq_true rfl, Nat.le_of_ble_eq_true rfl⟩ (Nat.le_of_ble_eq_true rfl) (fun r1 => ?_)
    exact jm_retRi hk (pc := 62) dX6_fact_62
  refine jj_ite (fun c_1_2 => ?_) (fun c_1_2 => ?_)
  · refine jj_tIn hk (pc := 1) (k := (-3 : Int32)) (t := -3) 49 c_1_2 dX6_fact_1 (by decide) rfl rfl (by decide) ?_
    refine jj_aload_n hk (pc := 49) dX6_fact_49 0 rfl rfl ?_
    refine jj_iload_n hk (pc := 50) dX6_fact_50 2 rfl rfl ?_
    refine jj_iconst hk (pc := 51) (v := (1 : Int32)) dX6_fact_51 (by decide) ?_
    refine kc_m_its hk hK (pc := 52) (a0 := a1) (a1 := (1 : Int32)) (fun r h => cc_m_its l G μ a1 (1 : Int32) r h) dX6_fact_52 ⟨Nat.le_of_ble_eq_true rfl, Nat.le_of_ble_eq_true rfl⟩ (Nat.le_of_ble_eq_true rfl) (fun r2 => ?_)
    exact jm_retRi hk (pc := 55) dX6_fact_55
  refine jj_ite (fun c_1_3 => ?_) (fun c_1_3 => ?_)
  · refine jj_tIn hk (pc := 1) (k := (-2 : Int32)) (t := -2) 43 c_1_3 dX6_fact_1 (by decide) rfl rfl (by decide) ?_
    refine jj_aload_n hk (pc := 43) dX6_fact_43 0 rfl rfl ?_
    refine jj_iload_n hk (pc := 44) dX6_fact_44 2 rfl rfl ?_
    refine kc_m_standWeight hk hK (pc := 45) (a0 := a1) (fun r h => cc_m_standWeight l G N μ a1 r h) dX6_fact_45 ⟨Nat.le_of_ble_eq_true rfl, Nat.le_of_ble_eq_true rfl⟩ (Nat.le_of_ble_eq_true rfl) (fun r3 => ?_)
    exact jm_retRi hk (pc := 48) dX6_fact_48
  refine jj_ite (fun c_1_4 => ?_) (fun c_1_4 => ?_)
  · refine jj_tIn hk (pc := 1) (k := (-1 : Int32)) (t := -1) 36 c_1_4 dX6_fact_1 (by decide) rfl rfl (by decide) ?_
    refine jj_aload_n hk (pc := 36) dX6_fact_36 0 rfl rfl ?_
    refine jm_g_s hk hK (pc := 37) dX6_fact_37 ?_
    refine jj_iconst hk (pc := 40) (v := (3 : Int32)) dX6_fact_40 (by decide) ?_
    refine jm_ld hk hK (pc := 41) (by decide) dX6_fact_41 (fun v4 => ?_)
    exact jm_retRi hk (pc := 42) dX6_fact_42
  refine jj_tOut hk (pc := 1) 65 dX6_fact_1 ?_ (by decide) ?_
  · have q0 := lv_neT (a := -5) c_1_0 (by decide); have q1 := lv_neT (a := -4) c_1_1 (by decide); have q2 := lv_neT (a := -3) c_1_2 (by decide); have q3 := lv_neT (a := -2) c_1_3 (by decide); have q4 := lv_neT (a := -1) c_1_4 (by decide); omega
  refine jj_iload_n hk (pc := 65) dX6_fact_65 1 rfl rfl ?_
  exact jm_retRi hk (pc := 66) dX6_fact_66
end
section
variable {p : Program} {l : Launch} {e : Env} {R : Room} {s : State} {m : MethodId} {args : Array Value} {below : List Frame} {meth : Method} {c : Code}
variable {G : jG}
variable {NX : Nat} {Q : State → Prop} {nL : Nat} {cc : ByteArray} {fr lo frc loc : Nat} {ret : Option FieldType}
variable {pc : Nat} {μ : MS} {lv : List (Nat × Value)} {st : List Value} {ρ : Type} {res : ρ}
theorem kc_m_fact (hk : jk p R s m args meth c NX cc nL RX6 fr lo ret) (hK : mK G s) {a0 : Int32} {a1 : Int32} {F : Option Int32} {K : Int32 → Option ρ} (hM : ∀ r, F = some r → jM l yX6_fact (ws_ yX6_fact cX6_fact 3 (some .int)) frc loc [.ref (gh G), .int a0, .int a1] (mWo G) (mnx G) (mK G) μ (jR μ r) (gA G) (gn G)) (hd : decode cc pc = .ok (.invokevirtual 128, 3)) (hr : frc + 1 ≤ fr ∧ 8 + (3 + 11) + loc ≤ lo) (hw : (st.map fun v => v.category).sum ≤ 8) (kk : ∀ r, jj p l e R s m args below meth c (gA G) NX Q (mWo G) (mnx G) nL μ (pc + 3) lv (.int r :: st) (K r = some res)) : jj p l e R s m args below meth c (gA G) NX Q (mWo G) (mnx G) nL μ pc lv (.int a1 :: .int a0 :: .ref (gh G) :: st) (F.bind K = some res) :=
  jm_VRi (n := 2) hk hK [.int a0, .int a1] hM (lw_V q1730 q1732 qs61 q127 q1733) (by decide +kernel) rfl rfl hd hr hw kk
end
section
variable {p : Program} {l : Launch} {e : Env} {R : Room} {s : State} {m : MethodId} {args : Array Value} {below : List Frame} {meth : Method} {c : Code}
variable {G : jG}
set_option maxHeartbeats 4000000 in
theorem cc_m_isHolding (l : Launch) (G : jG)  (μ : MS) (a0 : Int32) (a1 : Int32) (a2 : Int32) (res : Bool) (hf : m_isHolding a0 a1 a2 = some res) : jM l yX6_isHolding (ws_ yX6_isHolding cX6_isHolding 3 (some .boolean)) 0 0 [.int a0, .int a1, .int a2] (mWo G) (mnx G) (mK G) μ (jRz μ res) (gA G) (gn G) := by
  refine jj_start [(0, .int a0), (1, .int a1), (2, .int a2)] (by decide) (Nat.le_of_ble_eq_true rfl) rfl (fun p e R s m args below meth c hk hK hsz => ?_) hf
  have hk : jk p R s m args meth c (gn G) cX6_isHolding 3 RX6 0 0 (some .boolean) := hk
  unfold m_isHolding
  refine jj_iload_n hk (pc := 0) dX6_isHolding_0 0 rfl rfl ?_
  refine jj_ite (fun c_1_0 => ?_) (fun c_1_0 => ?_)
  · refine jj_look hk (pc := 1) (off := 76) 77 dX6_isHolding_1 (by decide) (by rw [c_1_0]; decide) (by decide) ?_
    refine jj_iload_n hk (pc := 77) dX6_isHolding_77 1 rfl rfl ?_
    refine jj_iconst hk (pc := 78) (v := (1 : Int32)) dX6_isHolding_78 (by decide) ?_
    refine jj_icmp_ne hk (pc := 79) 91 dX6_isHolding_79 (by decide) ?_ ?_
    · refine jj_iconst hk (pc := 91) (v := (0 : Int32)) dX6_isHolding_91 (by decide) ?_
      exact jm_retRz hk (pc := 92) (b := false) dX6_isHolding_92
    · refine jj_iload_n hk (pc := 82) dX6_isHolding_82 2 rfl rfl ?_
      refine jj_iconst hk (pc := 83) (v := (1 : Int32)) dX6_isHolding_83 (by decide) ?_
      refine jj_icmp_ne hk (pc := 84) 91 dX6_isHolding_84 (by decide) ?_ ?_
      · refine jj_iconst hk (pc := 91) (v := (0 : Int32)) dX6_isHolding_91 (by decide) ?_
        exact jm_retRz hk (pc := 92) (b := false) dX6_isHolding_92
      · refine jj_iconst hk (pc := 87) (v := (1 : Int32)) dX6_isHolding_87 (by decide) ?_
        refine jj_goto hk (pc := 88) 92 dX6_isHolding_88 (by decide) ?_
        exact jm_retRz hk (pc := 92) (b := true) dX6_isHolding_92
  refine jj_ite (fun c_1_1 => ?_) (fun c_1_1 => ?_)
  · refine jj_look hk (pc := 1) (off := 65) 66 dX6_isHolding_1 (by decide) (by rw [c_1_1]; decide) (by decide) ?_
    refine jj_iload_n hk (pc := 66) dX6_isHolding_66 1 rfl rfl ?_
    refine jj_iload_n hk (pc := 67) dX6_isHolding_67 2 rfl rfl ?_
    refine jj_icmp_le hk (pc := 68) 75 dX6_isHolding_68 (by decide) ?_ ?_
    · refine jj_iconst hk (pc := 75) (v := (0 : Int32)) dX6_isHolding_75 (by decide) ?_
      exact jm_retRz hk (pc := 76) (b := false) dX6_isHolding_76
    · refine jj_iconst hk (pc := 71) (v := (1 : Int32)) dX6_isHolding_71 (by decide) ?_
      refine jj_goto hk (pc := 72) 76 dX6_isHolding_72 (by decide) ?_
      exact jm_retRz hk (pc := 76) (b := true) dX6_isHolding_76
  refine jj_ite (fun c_1_2 => ?_) (fun c_1_2 => ?_)
  · refine jj_look hk (pc := 1) (off := 54) 55 dX6_isHolding_1 (by decide) (by rw [c_1_2]; decide) (by decide) ?_
    refine jj_iload_n hk (pc := 55) dX6_isHolding_55 1 rfl rfl ?_
    refine jj_iload_n hk (pc := 56) dX6_isHolding_56 2 rfl rfl ?_
    refine jj_icmp_ne hk (pc := 57) 64 dX6_isHolding_57 (by decide) ?_ ?_
    · refine jj_iconst hk (pc := 64) (v := (0 : Int32)) dX6_isHolding_64 (by decide) ?_
      exact jm_retRz hk (pc := 65) (b := false) dX6_isHolding_65
    · refine jj_iconst hk (pc := 60) (v := (1 : Int32)) dX6_isHolding_60 (by decide) ?_
      refine jj_goto hk (pc := 61) 65 dX6_isHolding_61 (by decide) ?_
      exact jm_retRz hk (pc := 65) (b := true) dX6_isHolding_65
  refine jj_ite (fun c_1_3 => ?_) (fun c_1_3 => ?_)
  · refine jj_look hk (pc := 1) (off := 43) 44 dX6_isHolding_1 (by decide) (by rw [c_1_3]; decide) (by decide) ?_
    refine jj_iload_n hk (pc := 44) dX6_isHolding_44 1 rfl rfl ?_
    refine jj_iload_n hk (pc := 45) dX6_isHolding_45 2 rfl rfl ?_
    refine jj_icmp_ge hk (pc := 46) 53 dX6_isHolding_46 (by decide) ?_ ?_
    · refine jj_iconst hk (pc := 53) (v := (0 : Int32)) dX6_isHolding_53 (by decide) ?_
      exact jm_retRz hk (pc := 54) (b := false) dX6_isHolding_54
    · refine jj_iconst hk (pc := 49) (v := (1 : Int32)) dX6_isHolding_49 (by decide) ?_
      refine jj_goto hk (pc := 50) 54 dX6_isHolding_50 (by decide) ?_
      exact jm_retRz hk (pc := 54) (b := true) dX6_isHolding_54
  refine jj_look hk (pc := 1) (off := 92) 93 dX6_isHolding_1 (by decide) (by show Op.lookupswitch.offset [(-21, 76), (-13, 65), (-12, 54), (-11, 43)] 92 _ = _; rw [lv_osw c_1_0 (by decide), lv_osw c_1_1 (by decide), lv_osw c_1_2 (by decide), lv_osw c_1_3 (by decide)]; rfl) (by decide) ?_
  refine jj_iload_n hk (pc := 93) dX6_isHolding_93 1 rfl rfl ?_
  refine jj_iconst hk (pc := 94) (v := (1 : Int32)) dX6_isHolding_94 (by decide) ?_
  refine jj_icmp_eq hk (pc := 95) 103 dX6_isHolding_95 (by decide) ?_ ?_
  · refine jj_iconst hk (pc := 103) (v := (1 : Int32)) dX6_isHolding_103 (by decide) ?_
    refine jj_goto hk (pc := 104) 108 dX6_isHolding_104 (by decide) ?_
    exact jm_retRz hk (pc := 108) (b := true) dX6_isHolding_108
  · refine jj_iload_n hk (pc := 98) dX6_isHolding_98 2 rfl rfl ?_
    refine jj_iconst hk (pc := 99) (v := (1 : Int32)) dX6_isHolding_99 (by decide) ?_
    refine jj_icmp_ne hk (pc := 100) 107 dX6_isHolding_100 (by decide) ?_ ?_
    · refine jj_iconst hk (pc := 107) (v := (0 : Int32)) dX6_isHolding_107 (by decide) ?_
      exact jm_retRz hk (pc := 108) (b := false) dX6_isHolding_108
    · refine jj_iconst hk (pc := 103) (v := (1 : Int32)) dX6_isHolding_103 (by decide) ?_
      refine jj_goto hk (pc := 104) 108 dX6_isHolding_104 (by decide) ?_
      exact jm_retRz hk (pc := 108) (b := true) dX6_isHolding_108
end
section
variable {p : Program} {l : Launch} {e : Env} {R : Room} {s : State} {m : MethodId} {args : Array Value} {below : List Frame} {meth : Method} {c : Code}
variable {G : jG}
variable {NX : Nat} {Q : State → Prop} {nL : Nat} {cc : ByteArray} {fr lo frc loc : Nat} {ret : Option FieldType}
variable {pc : Nat} {μ : MS} {lv : List (Nat × Value)} {st : List Value} {ρ : Type} {res : ρ}
theorem kc_m_isHolding (hk : jk p R s m args meth c NX cc nL RX6 fr lo ret) (hK : mK G s) {a0 : Int32} {a1 : Int32} {a2 : Int32} {F : Option Bool} {K : Bool → Option ρ} (hM : ∀ r, F = some r → jM l yX6_isHolding (ws_ yX6_isHolding cX6_isHolding 3 (some .boolean)) frc loc [.int a0, .int a1, .int a2] (mWo G) (mnx G) (mK G) μ (jRz μ r) (gA G) (gn G)) (hd : decode cc pc = .ok (.invokestatic 131, 3)) (hr : frc + 1 ≤ fr ∧ 8 + (3 + 11) + loc ≤ lo) (hw : (st.map fun v => v.category).sum ≤ 8) (kk : ∀ r, jj p l e R s m args below meth c (gA G) NX Q (mWo G) (mnx G) nL μ (pc + 3) lv (.int (bI r) :: st) (K r = some res)) : jj p l e R s m args below meth c (gA G) NX Q (mWo G) (mnx G) nL μ pc lv (.int a2 :: .int a1 :: .int a0 :: st) (F.bind K = some res) :=
  jm_SRz (n := 3) hk hK [.int a0, .int a1, .int a2] hM (lw_S q1734 q1735 q127 q1736) (by decide +kernel) rfl rfl hd hr hw kk
end
section
variable {p : Program} {l : Launch} {e : Env} {R : Room} {s : State} {m : MethodId} {args : Array Value} {below : List Frame} {meth : Method} {c : Code}
variable {G : jG}
set_option maxHeartbeats 4000000 in
theorem wb_m_isSo_L6 {res : (Bool × MS)} (hk : jk p R s m args meth c (gn G) cX6_isSo 7 RX6 4 88 (some .boolean)) (hK : mK G s) (N : Nat) : ∀ (n : Nat) (μ : MS) (x2 : Int32) (x3 : Int32) (x4 : Int32) (x5 : Int32), jj p l e R s m args below meth c (gA G) (gn G) (jZ below args s (gA G) (gn G) (jUz res) (mWo G) (mnx G)) (mWo G) (mnx G) 7 μ 6 [(0, .ref (gh G)), (2, .int x2), (3, .int x3), (4, .int x4), (5, .int x5)] [] (m_isSo_L6 N n μ x2 x3 x4 x5 = some res) := by
  intro n
  induction n with
  | zero => intro μ x2 x3 x4 x5; exact jj_eq (fun hz => by rw [m_isSo_L6] at hz; exact hz) jj_no
  | succ n ih =>
    intro μ x2 x3 x4 x5
    rw [m_isSo_L6]
    refine jj_iload hk (pc := 6) dX6_isSo_6 4 rfl ?_
    refine jj_iload_n hk (pc := 8) dX6_isSo_8 1 rfl rfl ?_
    refine jj_icmp_ge hk (pc := 9) 129 dX6_isSo_9 (by decide) ?_ ?_
    · refine jj_iload hk (pc := 129) dX6_isSo_129 3 rfl ?_
      refine jj_if_eq hk (pc := 131) 144 dX6_isSo_131 (by decide) ?_ ?_
      · refine jj_iconst hk (pc := 144) (v := (1 : Int32)) dX6_isSo_144 (by decide) ?_
        refine jj_goto hk (pc := 145) 149 dX6_isSo_145 (by decide) ?_
        exact jm_retUz hk (pc := 149) (b := true) dX6_isSo_149
      · refine jj_aload_n hk (pc := 134) dX6_isSo_134 0 rfl rfl ?_
        refine jm_g_stack hk hK (pc := 135) dX6_isSo_135 ?_
        refine jj_iconst hk (pc := 138) (v := (0 : Int32)) dX6_isSo_138 (by decide) ?_
        refine jm_ld hk hK (pc := 139) (by decide) dX6_isSo_139 (fun v1 => ?_)
        refine jj_iconst hk (pc := 140) (v := (1 : Int32)) dX6_isSo_140 (by decide) ?_
        refine jj_icmp_ne hk (pc := 141) 148 dX6_isSo_141 (by decide) ?_ ?_
        · refine jj_iconst hk (pc := 148) (v := (0 : Int32)) dX6_isSo_148 (by decide) ?_
          exact jm_retUz hk (pc := 149) (b := false) dX6_isSo_149
        · refine jj_iconst hk (pc := 144) (v := (1 : Int32)) dX6_isSo_144 (by decide) ?_
          refine jj_goto hk (pc := 145) 149 dX6_isSo_145 (by decide) ?_
          exact jm_retUz hk (pc := 149) (b := true) dX6_isSo_149
    · refine jj_aload_n hk (pc := 12) dX6_isSo_12 0 rfl rfl ?_
      refine jm_g_s hk hK (pc := 13) dX6_isSo_13 ?_
      refine jj_sipush hk (pc := 16) (v := (168 : Int32)) dX6_isSo_16 (by decide) ?_
      refine jj_iload hk (pc := 19) dX6_isSo_19 4 rfl ?_
      refine jj_iadd hk (pc := 21) dX6_isSo_21 ?_
      refine jm_ld hk hK (pc := 22) (by decide) dX6_isSo_22 (fun v2 => ?_)
      refine jj_istore hk (pc := 23) [(6, .int v2), (0, .ref (gh G)), (2, .int x2), (3, .int x3), (4, .int x4), (5, .int x5)] dX6_isSo_23 (Nat.le_of_ble_eq_true rfl) rfl ?_
      refine jj_iload hk (pc := 25) dX6_isSo_25 0 rfl ?_
      refine jj_bipush hk (pc := 27) (v := (-10 : Int32)) dX6_isSo_27 (by decide) ?_
      refine jj_icmp_le hk (pc := 29) 52 dX6_isSo_29 (by decide) ?_ ?_
      · refine jj_iload hk (pc := 52) dX6_isSo_52 0 rfl ?_
        refine jj_bipush hk (pc := 54) (v := (-20 : Int32)) dX6_isSo_54 (by decide) ?_
        refine jj_icmp_ne hk (pc := 56) 82 dX6_isSo_56 (by decide) ?_ ?_
        · refine jj_iinc hk (pc := 82) [(4, .int (x4 + (-1))), (6, .int v2), (0, .ref (gh G)), (2, .int x2), (3, .int x3), (5, .int x5)] dX6_isSo_82 4 rfl rfl (Nat.le_of_ble_eq_true rfl) rfl ?_
          refine jj_aload_n hk (pc := 85) dX6_isSo_85 2 rfl rfl ?_
          refine jm_g_stack hk hK (pc := 86) dX6_isSo_86 ?_
          refine jj_iload hk (pc := 89) dX6_isSo_89 0 rfl ?_
          refine jj_iconst hk (pc := 91) (v := (1 : Int32)) dX6_isSo_91 (by decide) ?_
          refine jj_isub hk (pc := 92) dX6_isSo_92 ?_
          refine jj_iload hk (pc := 93) dX6_isSo_93 1 rfl ?_
          refine jj_aload_n hk (pc := 95) dX6_isSo_95 2 rfl rfl ?_
          refine jm_g_stack hk hK (pc := 96) dX6_isSo_96 ?_
          refine jj_iload hk (pc := 99) dX6_isSo_99 0 rfl ?_
          refine jj_iconst hk (pc := 101) (v := (1 : Int32)) dX6_isSo_101 (by decide) ?_
          refine jj_isub hk (pc := 102) dX6_isSo_102 ?_
          refine jm_ld hk hK (pc := 103) (by decide) dX6_isSo_103 (fun v3 => ?_)
          refine jj_aload_n hk (pc := 104) dX6_isSo_104 2 rfl rfl ?_
          refine jm_g_stack hk hK (pc := 105) dX6_isSo_105 ?_
          refine jj_iload hk (pc := 108) dX6_isSo_108 0 rfl ?_
          refine jm_ld hk hK (pc := 110) (by decide) dX6_isSo_110 (fun v4 => ?_)
          refine kc_m_isHolding hk hK (pc := 111) (a0 := v2) (a1 := v3) (a2 := v4) (fun r h => cc_m_isHolding l G μ v2 v3 v4 r h) dX6_isSo_111 ⟨Nat.le_of_ble_eq_true rfl, Nat.le_of_ble_eq_true rfl⟩ (Nat.le_of_ble_eq_true rfl) (fun r5 => ?_)
          refine jj_if_eq_b hk (pc := 114) 121 dX6_isSo_114 (by decide) ?_ ?_
          · refine jj_iconst hk (pc := 121) (v := (0 : Int32)) dX6_isSo_121 (by decide) ?_
            refine jm_st hk hK (pc := 122) (by decide) dX6_isSo_122 (fun μ6 => ?_)
            refine jj_iinc hk (pc := 123) [(5, .int (x5 + 1)), (4, .int (x4 + (-1))), (6, .int v2), (0, .ref (gh G)), (2, .int x2), (3, .int x3)] dX6_isSo_123 5 rfl rfl (Nat.le_of_ble_eq_true rfl) rfl ?_
            refine jj_goto hk (pc := 126) 6 dX6_isSo_126 (by decide) ?_
            refine jj_loc [(0, .ref (gh G)), (2, .int x2), (3, .int x3), (4, .int (x4 + (-1))), (5, .int (x5 + 1))] [3, 4, 5, 1, 0] rfl ?_
            exact ih μ6 x2 x3 (x4 + (-1)) (x5 + 1)
          · refine jj_iconst hk (pc := 117) (v := (1 : Int32)) dX6_isSo_117 (by decide) ?_
            refine jj_goto hk (pc := 118) 122 dX6_isSo_118 (by decide) ?_
            refine jm_st hk hK (pc := 122) (by decide) dX6_isSo_122 (fun μ7 => ?_)
            refine jj_iinc hk (pc := 123) [(5, .int (x5 + 1)), (4, .int (x4 + (-1))), (6, .int v2), (0, .ref (gh G)), (2, .int x2), (3, .int x3)] dX6_isSo_123 5 rfl rfl (Nat.le_of_ble_eq_true rfl) rfl ?_
            refine jj_goto hk (pc := 126) 6 dX6_isSo_126 (by decide) ?_
            refine jj_loc [(0, .ref (gh G)), (2, .int x2), (3, .int x3), (4, .int (x4 + (-1))), (5, .int (x5 + 1))] [3, 4, 5, 1, 0] rfl ?_
            exact ih μ7 x2 x3 (x4 + (-1)) (x5 + 1)
        · refine jj_aload_n hk (pc := 59) dX6_isSo_59 1 rfl rfl ?_
          refine jm_g_stack hk hK (pc := 60) dX6_isSo_60 ?_
          refine jj_iload hk (pc := 63) dX6_isSo_63 4 rfl ?_
          refine jj_iconst hk (pc := 65) (v := (1 : Int32)) dX6_isSo_65 (by decide) ?_
          refine jj_isub hk (pc := 66) dX6_isSo_66 ?_
          refine jj_iconst hk (pc := 67) (v := (1 : Int32)) dX6_isSo_67 (by decide) ?_
          refine jj_aload_n hk (pc := 68) dX6_isSo_68 1 rfl rfl ?_
          refine jm_g_stack hk hK (pc := 69) dX6_isSo_69 ?_
          refine jj_iload hk (pc := 72) dX6_isSo_72 4 rfl ?_
          refine jj_iconst hk (pc := 74) (v := (1 : Int32)) dX6_isSo_74 (by decide) ?_
          refine jj_isub hk (pc := 75) dX6_isSo_75 ?_
          refine jm_ld hk hK (pc := 76) (by decide) dX6_isSo_76 (fun v8 => ?_)
          refine jj_isub hk (pc := 77) dX6_isSo_77 ?_
          refine jm_st hk hK (pc := 78) (by decide) dX6_isSo_78 (fun μ9 => ?_)
          refine jj_goto hk (pc := 79) 123 dX6_isSo_79 (by decide) ?_
          refine jj_iinc hk (pc := 123) [(5, .int (x5 + 1)), (6, .int v2), (0, .ref (gh G)), (2, .int x2), (3, .int x3), (4, .int x4)] dX6_isSo_123 5 rfl rfl (Nat.le_of_ble_eq_true rfl) rfl ?_
          refine jj_goto hk (pc := 126) 6 dX6_isSo_126 (by decide) ?_
          refine jj_loc [(0, .ref (gh G)), (2, .int x2), (3, .int x3), (4, .int x4), (5, .int (x5 + 1))] [2, 3, 4, 5, 0] rfl ?_
          exact ih μ9 x2 x3 x4 (x5 + 1)
      · refine jj_aload_n hk (pc := 32) dX6_isSo_32 1 rfl rfl ?_
        refine jm_g_stack hk hK (pc := 33) dX6_isSo_33 ?_
        refine jj_iload hk (pc := 36) dX6_isSo_36 4 rfl ?_
        refine jj_aload_n hk (pc := 38) dX6_isSo_38 1 rfl rfl ?_
        refine jj_iload hk (pc := 39) dX6_isSo_39 0 rfl ?_
        refine jj_iload_n hk (pc := 41) dX6_isSo_41 3 rfl rfl ?_
        refine kc_m_fact hk hK (pc := 42) (a0 := v2) (a1 := x3) (fun r h => cc_m_fact l G N μ v2 x3 r h) dX6_isSo_42 ⟨Nat.le_of_ble_eq_true rfl, Nat.le_of_ble_eq_true rfl⟩ (Nat.le_of_ble_eq_true rfl) (fun r10 => ?_)
        refine jm_st hk hK (pc := 45) (by decide) dX6_isSo_45 (fun μ11 => ?_)
        refine jj_iinc hk (pc := 46) [(4, .int (x4 + 1)), (6, .int v2), (0, .ref (gh G)), (2, .int x2), (3, .int x3), (5, .int x5)] dX6_isSo_46 4 rfl rfl (Nat.le_of_ble_eq_true rfl) rfl ?_
        refine jj_goto hk (pc := 49) 123 dX6_isSo_49 (by decide) ?_
        refine jj_iinc hk (pc := 123) [(5, .int (x5 + 1)), (4, .int (x4 + 1)), (6, .int v2), (0, .ref (gh G)), (2, .int x2), (3, .int x3)] dX6_isSo_123 5 rfl rfl (Nat.le_of_ble_eq_true rfl) rfl ?_
        refine jj_goto hk (pc := 126) 6 dX6_isSo_126 (by decide) ?_
        refine jj_loc [(0, .ref (gh G)), (2, .int x2), (3, .int x3), (4, .int (x4 + 1)), (5, .int (x5 + 1))] [3, 4, 5, 1, 0] rfl ?_
        exact ih μ11 x2 x3 (x4 + 1) (x5 + 1)
set_option maxHeartbeats 4000000 in
theorem cc_m_isSo (l : Launch) (G : jG) (N : Nat) (μ : MS) (a0 : Int32) (a1 : Int32) (a2 : Int32) (res : (Bool × MS)) (hf : m_isSo N μ a0 a1 a2 = some res) : jM l yX6_isSo (ws_ yX6_isSo cX6_isSo 7 (some .boolean)) 4 88 [.ref (gh G), .int a0, .int a1, .int a2] (mWo G) (mnx G) (mK G) μ (jUz res) (gA G) (gn G) := by
  refine jj_start [(0, .ref (gh G)), (1, .int a0), (2, .int a1), (3, .int a2)] (by decide) (Nat.le_of_ble_eq_true rfl) rfl (fun p e R s m args below meth c hk hK hsz => ?_) hf
  have hk : jk p R s m args meth c (gn G) cX6_isSo 7 RX6 4 88 (some .boolean) := hk
  unfold m_isSo
  refine jj_iconst hk (pc := 0) (v := (0 : Int32)) dX6_isSo_0 (by decide) ?_
  refine jj_istore hk (pc := 1) [(4, .int (0 : Int32)), (0, .ref (gh G)), (1, .int a0), (2, .int a1), (3, .int a2)] dX6_isSo_1 (Nat.le_of_ble_eq_true rfl) rfl ?_
  refine jj_iload_n hk (pc := 3) dX6_isSo_3 2 rfl rfl ?_
  refine jj_istore hk (pc := 4) [(5, .int a0), (4, .int (0 : Int32)), (0, .ref (gh G)), (1, .int a0), (2, .int a1), (3, .int a2)] dX6_isSo_4 (Nat.le_of_ble_eq_true rfl) rfl ?_
  refine jj_loc [(0, .ref (gh G)), (2, .int a1), (3, .int a2), (4, .int (0 : Int32)), (5, .int a0)] [2, 4, 5, 1, 0] rfl ?_
  exact wb_m_isSo_L6 hk hK N N μ a1 a2 (0 : Int32) a0
end
section
variable {p : Program} {l : Launch} {e : Env} {R : Room} {s : State} {m : MethodId} {args : Array Value} {below : List Frame} {meth : Method} {c : Code}
variable {G : jG}
variable {NX : Nat} {Q : State → Prop} {nL : Nat} {cc : ByteArray} {fr lo frc loc : Nat} {ret : Option FieldType}
variable {pc : Nat} {μ : MS} {lv : List (Nat × Value)} {st : List Value} {ρ : Type} {res : ρ}
theorem kc_m_isSo (hk : jk p R s m args meth c NX cc nL RX6 fr lo ret) (hK : mK G s) {a0 : Int32} {a1 : Int32} {a2 : Int32} {F : Option (Bool × MS)} {K : (Bool × MS) → Option ρ} (hM : ∀ r, F = some r → jM l yX6_isSo (ws_ yX6_isSo cX6_isSo 7 (some .boolean)) frc loc [.ref (gh G), .int a0, .int a1, .int a2] (mWo G) (mnx G) (mK G) μ (jUz r) (gA G) (gn G)) (hd : decode cc pc = .ok (.invokevirtual 139, 3)) (hr : frc + 1 ≤ fr ∧ 8 + (7 + 11) + loc ≤ lo) (hw : (st.map fun v => v.category).sum ≤ 8) (kk : ∀ r, jj p l e R s m args below meth c (gA G) NX Q (mWo G) (mnx G) nL r.2 (pc + 3) lv (.int (bI r.1) :: st) (K r = some res)) : jj p l e R s m args below meth c (gA G) NX Q (mWo G) (mnx G) nL μ pc lv (.int a2 :: .int a1 :: .int a0 :: .ref (gh G) :: st) (F.bind K = some res) :=
  jm_VUz (n := 3) hk hK [.int a0, .int a1, .int a2] hM (lw_V q1726 q1728 qs60 q127 q1729) (by decide +kernel) rfl rfl hd hr hw kk
end
section
variable {p : Program} {l : Launch} {e : Env} {R : Room} {s : State} {m : MethodId} {args : Array Value} {below : List Frame} {meth : Method} {c : Code}
variable {G : jG}
set_option maxHeartbeats 4000000 in
theorem cc_m_isUnder (l : Launch) (G : jG)  (μ : MS) (a0 : Int32) (a1 : Int32) (res : Bool) (hf : m_isUnder a0 a1 = some res) : jM l yX6_isUnder (ws_ yX6_isUnder cX6_isUnder 2 (some .boolean)) 0 0 [.int a0, .int a1] (mWo G) (mnx G) (mK G) μ (jRz μ res) (gA G) (gn G) := by
  refine jj_start [(0, .int a0), (1, .int a1)] (by decide) (Nat.le_of_ble_eq_true rfl) rfl (fun p e R s m args below meth c hk hK hsz => ?_) hf
  have hk : jk p R s m args meth c (gn G) cX6_isUnder 2 RX6 0 0 (some .boolean) := hk
  unfold m_isUnder
  refine jj_iload_n hk (pc := 0) dX6_isUnder_0 1 rfl rfl ?_
  refine jj_if_eq hk (pc := 1) 29 dX6_isUnder_1 (by decide) ?_ ?_
  · refine jj_iconst hk (pc := 29) (v := (1 : Int32)) dX6_isUnder_29 (by decide) ?_
    refine jj_goto hk (pc := 30) 34 dX6_isUnder_30 (by decide) ?_
    exact jm_retRz hk (pc := 34) (b := true) dX6_isUnder_34
  · refine jj_iload_n hk (pc := 4) dX6_isUnder_4 0 rfl rfl ?_
    refine jj_iload_n hk (pc := 5) dX6_isUnder_5 1 rfl rfl ?_
    refine jj_icmp_eq hk (pc := 6) 29 dX6_isUnder_6 (by decide) ?_ ?_
    · refine jj_iconst hk (pc := 29) (v := (1 : Int32)) dX6_isUnder_29 (by decide) ?_
      refine jj_goto hk (pc := 30) 34 dX6_isUnder_30 (by decide) ?_
      exact jm_retRz hk (pc := 34) (b := true) dX6_isUnder_34
    · refine jj_iload_n hk (pc := 9) dX6_isUnder_9 0 rfl rfl ?_
      refine jj_iconst hk (pc := 10) (v := (3 : Int32)) dX6_isUnder_10 (by decide) ?_
      refine jj_icmp_ne hk (pc := 11) 19 dX6_isUnder_11 (by decide) ?_ ?_
      · refine jj_iload_n hk (pc := 19) dX6_isUnder_19 0 rfl rfl ?_
        refine jj_iconst hk (pc := 20) (v := (5 : Int32)) dX6_isUnder_20 (by decide) ?_
        refine jj_icmp_ne hk (pc := 21) 33 dX6_isUnder_21 (by decide) ?_ ?_
        · refine jj_iconst hk (pc := 33) (v := (0 : Int32)) dX6_isUnder_33 (by decide) ?_
          exact jm_retRz hk (pc := 34) (b := false) dX6_isUnder_34
        · refine jj_iload_n hk (pc := 24) dX6_isUnder_24 1 rfl rfl ?_
          refine jj_iconst hk (pc := 25) (v := (4 : Int32)) dX6_isUnder_25 (by decide) ?_
          refine jj_icmp_ne hk (pc := 26) 33 dX6_isUnder_26 (by decide) ?_ ?_
          · refine jj_iconst hk (pc := 33) (v := (0 : Int32)) dX6_isUnder_33 (by decide) ?_
            exact jm_retRz hk (pc := 34) (b := false) dX6_isUnder_34
          · refine jj_iconst hk (pc := 29) (v := (1 : Int32)) dX6_isUnder_29 (by decide) ?_
            refine jj_goto hk (pc := 30) 34 dX6_isUnder_30 (by decide) ?_
            exact jm_retRz hk (pc := 34) (b := true) dX6_isUnder_34
      · refine jj_iload_n hk (pc := 14) dX6_isUnder_14 1 rfl rfl ?_
        refine jj_iconst hk (pc := 15) (v := (2 : Int32)) dX6_isUnder_15 (by decide) ?_
        refine jj_icmp_eq hk (pc := 16) 29 dX6_isUnder_16 (by decide) ?_ ?_
        · refine jj_iconst hk (pc := 29) (v := (1 : Int32)) dX6_isUnder_29 (by decide) ?_
          refine jj_goto hk (pc := 30) 34 dX6_isUnder_30 (by decide) ?_
          exact jm_retRz hk (pc := 34) (b := true) dX6_isUnder_34
        · refine jj_iload_n hk (pc := 19) dX6_isUnder_19 0 rfl rfl ?_
          refine jj_iconst hk (pc := 20) (v := (5 : Int32)) dX6_isUnder_20 (by decide) ?_
          refine jj_icmp_ne hk (pc := 21) 33 dX6_isUnder_21 (by decide) ?_ ?_
          · refine jj_iconst hk (pc := 33) (v := (0 : Int32)) dX6_isUnder_33 (by decide) ?_
            exact jm_retRz hk (pc := 34) (b := false) dX6_isUnder_34
          · refine jj_iload_n hk (pc := 24) dX6_isUnder_24 1 rfl rfl ?_
            refine jj_iconst hk (pc := 25) (v := (4 : Int32)) dX6_isUnder_25 (by decide) ?_
            refine jj_icmp_ne hk (pc := 26) 33 dX6_isUnder_26 (by decide) ?_ ?_
            · refine jj_iconst hk (pc := 33) (v := (0 : Int32)) dX6_isUnder_33 (by decide) ?_
              exact jm_retRz hk (pc := 34) (b := false) dX6_isUnder_34
            · refine jj_iconst hk (pc := 29) (v := (1 : Int32)) dX6_isUnder_29 (by decide) ?_
              refine jj_goto hk (pc := 30) 34 dX6_isUnder_30 (by decide) ?_
              exact jm_retRz hk (pc := 34) (b := true) dX6_isUnder_34
end
section
variable {p : Program} {l : Launch} {e : Env} {R : Room} {s : State} {m : MethodId} {args : Array Value} {below : List Frame} {meth : Method} {c : Code}
variable {G : jG}
variable {NX : Nat} {Q : State → Prop} {nL : Nat} {cc : ByteArray} {fr lo frc loc : Nat} {ret : Option FieldType}
variable {pc : Nat} {μ : MS} {lv : List (Nat × Value)} {st : List Value} {ρ : Type} {res : ρ}
theorem kc_m_isUnder (hk : jk p R s m args meth c NX cc nL RX6 fr lo ret) (hK : mK G s) {a0 : Int32} {a1 : Int32} {F : Option Bool} {K : Bool → Option ρ} (hM : ∀ r, F = some r → jM l yX6_isUnder (ws_ yX6_isUnder cX6_isUnder 2 (some .boolean)) frc loc [.int a0, .int a1] (mWo G) (mnx G) (mK G) μ (jRz μ r) (gA G) (gn G)) (hd : decode cc pc = .ok (.invokestatic 135, 3)) (hr : frc + 1 ≤ fr ∧ 8 + (2 + 11) + loc ≤ lo) (hw : (st.map fun v => v.category).sum ≤ 8) (kk : ∀ r, jj p l e R s m args below meth c (gA G) NX Q (mWo G) (mnx G) nL μ (pc + 3) lv (.int (bI r) :: st) (K r = some res)) : jj p l e R s m args below meth c (gA G) NX Q (mWo G) (mnx G) nL μ pc lv (.int a1 :: .int a0 :: st) (F.bind K = some res) :=
  jm_SRz (n := 2) hk hK [.int a0, .int a1] hM (lw_S q1723 q1724 q127 q1725) (by decide +kernel) rfl rfl hd hr hw kk
end
section
variable {p : Program} {l : Launch} {e : Env} {R : Room} {s : State} {m : MethodId} {args : Array Value} {below : List Frame} {meth : Method} {c : Code}
variable {G : jG}
set_option maxHeartbeats 4000000 in
theorem cc_m_pullOf (l : Launch) (G : jG)  (μ : MS) (a0 : Int32) (a1 : Int32) (a2 : Int32) (res : Int32) (hf : m_pullOf a0 a1 a2 = some res) : jM l yX6_pullOf (ws_ yX6_pullOf cX6_pullOf 3 (some .int)) 0 0 [.int a0, .int a1, .int a2] (mWo G) (mnx G) (mK G) μ (jR μ res) (gA G) (gn G) := by
  refine jj_start [(0, .int a0), (1, .int a1), (2, .int a2)] (by decide) (Nat.le_of_ble_eq_true rfl) rfl (fun p e R s m args below meth c hk hK hsz => ?_) hf
  have hk : jk p R s m args meth c (gn G) cX6_pullOf 3 RX6 0 0 (some .int) := hk
  unfold m_pullOf
  refine jj_iload_n hk (pc := 0) dX6_pullOf_0 0 rfl rfl ?_
  refine jj_ite (fun c_1_0 => ?_) (fun c_1_0 => ?_)
  · refine jj_tIn hk (pc := 1) (k := (1 : Int32)) (t := 1) 36 c_1_0 dX6_pullOf_1 (by decide) rfl rfl (by decide) ?_
    refine jj_iload_n hk (pc := 36) dX6_pullOf_36 2 rfl rfl ?_
    refine jj_iconst hk (pc := 37) (v := (3 : Int32)) dX6_pullOf_37 (by decide) ?_
    refine jj_irem hk (pc := 38) dX6_pullOf_38 (by decide) ?_
    refine jj_iconst hk (pc := 39) (v := (2 : Int32)) dX6_pullOf_39 (by decide) ?_
    refine jj_icmp_ne hk (pc := 40) 47 dX6_pullOf_40 (by decide) ?_ ?_
    · refine jj_iload_n hk (pc := 47) dX6_pullOf_47 1 rfl rfl ?_
      exact jm_retRi hk (pc := 48) dX6_pullOf_48
    · refine jj_iconst hk (pc := 43) (v := (0 : Int32)) dX6_pullOf_43 (by decide) ?_
      refine jj_goto hk (pc := 44) 48 dX6_pullOf_44 (by decide) ?_
      exact jm_retRi hk (pc := 48) dX6_pullOf_48
  refine jj_ite (fun c_1_1 => ?_) (fun c_1_1 => ?_)
  · refine jj_tIn hk (pc := 1) (k := (2 : Int32)) (t := 2) 72 c_1_1 dX6_pullOf_1 (by decide) rfl rfl (by decide) ?_
    refine jj_iload_n hk (pc := 72) dX6_pullOf_72 1 rfl rfl ?_
    exact jm_retRi hk (pc := 73) dX6_pullOf_73
  refine jj_ite (fun c_1_2 => ?_) (fun c_1_2 => ?_)
  · refine jj_tIn hk (pc := 1) (k := (3 : Int32)) (t := 3) 49 c_1_2 dX6_pullOf_1 (by decide) rfl rfl (by decide) ?_
    refine jj_iload_n hk (pc := 49) dX6_pullOf_49 1 rfl rfl ?_
    refine jj_iconst hk (pc := 50) (v := (1 : Int32)) dX6_pullOf_50 (by decide) ?_
    refine jj_iadd hk (pc := 51) dX6_pullOf_51 ?_
    exact jm_retRi hk (pc := 52) dX6_pullOf_52
  refine jj_ite (fun c_1_3 => ?_) (fun c_1_3 => ?_)
  · refine jj_tIn hk (pc := 1) (k := (4 : Int32)) (t := 4) 53 c_1_3 dX6_pullOf_1 (by decide) rfl rfl (by decide) ?_
    refine jj_iload_n hk (pc := 53) dX6_pullOf_53 1 rfl rfl ?_
    refine jj_iconst hk (pc := 54) (v := (2 : Int32)) dX6_pullOf_54 (by decide) ?_
    refine jj_idiv hk (pc := 55) dX6_pullOf_55 (by decide) ?_
    exact jm_retRi hk (pc := 56) dX6_pullOf_56
  refine jj_ite (fun c_1_4 => ?_) (fun c_1_4 => ?_)
  · refine jj_tIn hk (pc := 1) (k := (5 : Int32)) (t := 5) 57 c_1_4 dX6_pullOf_1 (by decide) rfl rfl (by decide) ?_
    refine jj_iload_n hk (pc := 57) dX6_pullOf_57 2 rfl rfl ?_
    refine jj_bipush hk (pc := 58) (v := (9 : Int32)) dX6_pullOf_58 (by decide) ?_
    refine jj_icmp_lt hk (pc := 60) 68 dX6_pullOf_60 (by decide) ?_ ?_
    · refine jj_iload_n hk (pc := 68) dX6_pullOf_68 1 rfl rfl ?_
      refine jj_iconst hk (pc := 69) (v := (2 : Int32)) dX6_pullOf_69 (by decide) ?_
      refine jj_idiv hk (pc := 70) dX6_pullOf_70 (by decide) ?_
      exact jm_retRi hk (pc := 71) dX6_pullOf_71
    · refine jj_bipush hk (pc := 63) (v := (9 : Int32)) dX6_pullOf_63 (by decide) ?_
      refine jj_goto hk (pc := 65) 71 dX6_pullOf_65 (by decide) ?_
      exact jm_retRi hk (pc := 71) dX6_pullOf_71
  refine jj_tOut hk (pc := 1) 72 dX6_pullOf_1 ?_ (by decide) ?_
  · have q0 := lv_neT (a := 1) c_1_0 (by decide); have q1 := lv_neT (a := 2) c_1_1 (by decide); have q2 := lv_neT (a := 3) c_1_2 (by decide); have q3 := lv_neT (a := 4) c_1_3 (by decide); have q4 := lv_neT (a := 5) c_1_4 (by decide); omega
  refine jj_iload_n hk (pc := 72) dX6_pullOf_72 1 rfl rfl ?_
  exact jm_retRi hk (pc := 73) dX6_pullOf_73
end
section
variable {p : Program} {l : Launch} {e : Env} {R : Room} {s : State} {m : MethodId} {args : Array Value} {below : List Frame} {meth : Method} {c : Code}
variable {G : jG}
variable {NX : Nat} {Q : State → Prop} {nL : Nat} {cc : ByteArray} {fr lo frc loc : Nat} {ret : Option FieldType}
variable {pc : Nat} {μ : MS} {lv : List (Nat × Value)} {st : List Value} {ρ : Type} {res : ρ}
theorem kc_m_pullOf (hk : jk p R s m args meth c NX cc nL RX6 fr lo ret) (hK : mK G s) {a0 : Int32} {a1 : Int32} {a2 : Int32} {F : Option Int32} {K : Int32 → Option ρ} (hM : ∀ r, F = some r → jM l yX6_pullOf (ws_ yX6_pullOf cX6_pullOf 3 (some .int)) frc loc [.int a0, .int a1, .int a2] (mWo G) (mnx G) (mK G) μ (jR μ r) (gA G) (gn G)) (hd : decode cc pc = .ok (.invokestatic 86, 3)) (hr : frc + 1 ≤ fr ∧ 8 + (3 + 11) + loc ≤ lo) (hw : (st.map fun v => v.category).sum ≤ 8) (kk : ∀ r, jj p l e R s m args below meth c (gA G) NX Q (mWo G) (mnx G) nL μ (pc + 3) lv (.int r :: st) (K r = some res)) : jj p l e R s m args below meth c (gA G) NX Q (mWo G) (mnx G) nL μ pc lv (.int a2 :: .int a1 :: .int a0 :: st) (F.bind K = some res) :=
  jm_SRi (n := 3) hk hK [.int a0, .int a1, .int a2] hM (lw_S q1716 q1717 q127 q1718) (by decide +kernel) rfl rfl hd hr hw kk
end
section
variable {p : Program} {l : Launch} {e : Env} {R : Room} {s : State} {m : MethodId} {args : Array Value} {below : List Frame} {meth : Method} {c : Code}
variable {G : jG}
set_option maxHeartbeats 4000000 in
theorem cc_m_pulls (l : Launch) (G : jG)  (μ : MS) (a0 : Int32) (res : Int32) (hf : m_pulls μ a0 = some res) : jM l yX6_pulls (ws_ yX6_pulls cX6_pulls 2 (some .int)) 2 43 [.ref (gh G), .int a0] (mWo G) (mnx G) (mK G) μ (jR μ res) (gA G) (gn G) := by
  refine jj_start [(0, .ref (gh G)), (1, .int a0)] (by decide) (Nat.le_of_ble_eq_true rfl) rfl (fun p e R s m args below meth c hk hK hsz => ?_) hf
  have hk : jk p R s m args meth c (gn G) cX6_pulls 2 RX6 2 43 (some .int) := hk
  unfold m_pulls
  refine jj_aload_n hk (pc := 0) dX6_pulls_0 0 rfl rfl ?_
  refine jj_iload_n hk (pc := 1) dX6_pulls_1 1 rfl rfl ?_
  refine jj_iconst hk (pc := 2) (v := (0 : Int32)) dX6_pulls_2 (by decide) ?_
  refine kc_m_its hk hK (pc := 3) (a0 := a0) (a1 := (0 : Int32)) (fun r h => cc_m_its l G μ a0 (0 : Int32) r h) dX6_pulls_3 ⟨Nat.le_of_ble_eq_true rfl, Nat.le_of_ble_eq_true rfl⟩ (Nat.le_of_ble_eq_true rfl) (fun r1 => ?_)
  refine jj_aload_n hk (pc := 6) dX6_pulls_6 0 rfl rfl ?_
  refine jj_iload_n hk (pc := 7) dX6_pulls_7 1 rfl rfl ?_
  refine jj_iconst hk (pc := 8) (v := (2 : Int32)) dX6_pulls_8 (by decide) ?_
  refine kc_m_its hk hK (pc := 9) (a0 := a0) (a1 := (2 : Int32)) (fun r h => cc_m_its l G μ a0 (2 : Int32) r h) dX6_pulls_9 ⟨Nat.le_of_ble_eq_true rfl, Nat.le_of_ble_eq_true rfl⟩ (Nat.le_of_ble_eq_true rfl) (fun r2 => ?_)
  refine jj_aload_n hk (pc := 12) dX6_pulls_12 0 rfl rfl ?_
  refine jm_g_s hk hK (pc := 13) dX6_pulls_13 ?_
  refine jj_iconst hk (pc := 16) (v := (3 : Int32)) dX6_pulls_16 (by decide) ?_
  refine jm_ld hk hK (pc := 17) (by decide) dX6_pulls_17 (fun v3 => ?_)
  refine kc_m_pullOf hk hK (pc := 18) (a0 := r1) (a1 := r2) (a2 := v3) (fun r h => cc_m_pullOf l G μ r1 r2 v3 r h) dX6_pulls_18 ⟨Nat.le_of_ble_eq_true rfl, Nat.le_of_ble_eq_true rfl⟩ (Nat.le_of_ble_eq_true rfl) (fun r4 => ?_)
  exact jm_retRi hk (pc := 21) dX6_pulls_21
end
section
variable {p : Program} {l : Launch} {e : Env} {R : Room} {s : State} {m : MethodId} {args : Array Value} {below : List Frame} {meth : Method} {c : Code}
variable {G : jG}
variable {NX : Nat} {Q : State → Prop} {nL : Nat} {cc : ByteArray} {fr lo frc loc : Nat} {ret : Option FieldType}
variable {pc : Nat} {μ : MS} {lv : List (Nat × Value)} {st : List Value} {ρ : Type} {res : ρ}
theorem kc_m_pulls (hk : jk p R s m args meth c NX cc nL RX6 fr lo ret) (hK : mK G s) {a0 : Int32} {F : Option Int32} {K : Int32 → Option ρ} (hM : ∀ r, F = some r → jM l yX6_pulls (ws_ yX6_pulls cX6_pulls 2 (some .int)) frc loc [.ref (gh G), .int a0] (mWo G) (mnx G) (mK G) μ (jR μ r) (gA G) (gn G)) (hd : decode cc pc = .ok (.invokevirtual 103, 3)) (hr : frc + 1 ≤ fr ∧ 8 + (2 + 11) + loc ≤ lo) (hw : (st.map fun v => v.category).sum ≤ 8) (kk : ∀ r, jj p l e R s m args below meth c (gA G) NX Q (mWo G) (mnx G) nL μ (pc + 3) lv (.int r :: st) (K r = some res)) : jj p l e R s m args below meth c (gA G) NX Q (mWo G) (mnx G) nL μ pc lv (.int a0 :: .ref (gh G) :: st) (F.bind K = some res) :=
  jm_VRi (n := 1) hk hK [.int a0] hM (lw_V q1712 q1714 qs58 q127 q1715) (by decide +kernel) rfl rfl hd hr hw kk
end
section
variable {p : Program} {l : Launch} {e : Env} {R : Room} {s : State} {m : MethodId} {args : Array Value} {below : List Frame} {meth : Method} {c : Code}
variable {G : jG}
set_option maxHeartbeats 4000000 in
theorem wb_m_choice_B243 {res : (Int32 × MS)} (hk : jk p R s m args meth c (gn G) cX6_choice 11 RX6 5 114 (some .int)) (hK : mK G s) (N : Nat) {k169 : MS → Int32 → Int32 → Int32 → Int32 → Int32 → Int32 → Option (Int32 × MS)} (hk169 : ∀ (μ : MS) (x1 : Int32) (x5 : Int32) (x6 : Int32) (x7 : Int32) (x8 : Int32) (x9 : Int32), jj p l e R s m args below meth c (gA G) (gn G) (jZ below args s (gA G) (gn G) (jU res) (mWo G) (mnx G)) (mWo G) (mnx G) 11 μ 169 [(0, .ref (gh G)), (1, .int x1), (5, .int x5), (6, .int x6), (7, .int x7), (8, .int x8), (9, .int x9)] [] (k169 μ x1 x5 x6 x7 x8 x9 = some res)) (μ : MS) (x1 : Int32) (x5 : Int32) (x6 : Int32) (x7 : Int32) (x8 : Int32) (x9 : Int32) (y0 : Bool) : jj p l e R s m args below meth c (gA G) (gn G) (jZ below args s (gA G) (gn G) (jU res) (mWo G) (mnx G)) (mWo G) (mnx G) 11 μ 243 [(0, .ref (gh G)), (1, .int x1), (5, .int x5), (6, .int x6), (7, .int x7), (8, .int x8), (9, .int x9)] [.int (bI y0)] (m_choice_B243 N k169 μ x1 x5 x6 x7 x8 x9 y0 = some res) := by
  unfold m_choice_B243
  refine jj_istore hk (pc := 243) [(10, .int (bI y0)), (0, .ref (gh G)), (1, .int x1), (5, .int x5), (6, .int x6), (7, .int x7), (8, .int x8), (9, .int x9)] dX6_choice_243 (Nat.le_of_ble_eq_true rfl) rfl ?_
  refine jj_iload hk (pc := 245) dX6_choice_245 0 rfl ?_
  refine jj_if_eq_b hk (pc := 247) 277 dX6_choice_247 (by decide) ?_ ?_
  · refine jj_iload hk (pc := 277) dX6_choice_277 6 rfl ?_
    refine jj_istore hk (pc := 279) [(8, .int x8), (10, .int (bI y0)), (0, .ref (gh G)), (1, .int x1), (5, .int x5), (6, .int x6), (7, .int x7), (9, .int x9)] dX6_choice_279 (Nat.le_of_ble_eq_true rfl) rfl ?_
    refine jj_iinc hk (pc := 281) [(9, .int (x9 + 1)), (8, .int x8), (10, .int (bI y0)), (0, .ref (gh G)), (1, .int x1), (5, .int x5), (6, .int x6), (7, .int x7)] dX6_choice_281 7 rfl rfl (Nat.le_of_ble_eq_true rfl) rfl ?_
    refine jj_goto hk (pc := 284) 169 dX6_choice_284 (by decide) ?_
    refine jj_loc [(0, .ref (gh G)), (1, .int x1), (5, .int x5), (6, .int x6), (7, .int x7), (8, .int x8), (9, .int (x9 + 1))] [3, 4, 5, 6, 7, 1, 0] rfl ?_
    exact hk169 μ x1 x5 x6 x7 x8 (x9 + 1)
  · refine jj_iload hk (pc := 250) dX6_choice_250 6 rfl ?_
    refine jj_bipush hk (pc := 252) (v := (10 : Int32)) dX6_choice_252 (by decide) ?_
    refine jj_icmp_eq hk (pc := 254) 272 dX6_choice_254 (by decide) ?_ ?_
    · refine jj_iload hk (pc := 272) dX6_choice_272 7 rfl ?_
      refine jj_goto hk (pc := 274) 279 dX6_choice_274 (by decide) ?_
      refine jj_istore hk (pc := 279) [(8, .int x9), (10, .int (bI y0)), (0, .ref (gh G)), (1, .int x1), (5, .int x5), (6, .int x6), (7, .int x7), (9, .int x9)] dX6_choice_279 (Nat.le_of_ble_eq_true rfl) rfl ?_
      refine jj_iinc hk (pc := 281) [(9, .int (x9 + 1)), (8, .int x9), (10, .int (bI y0)), (0, .ref (gh G)), (1, .int x1), (5, .int x5), (6, .int x6), (7, .int x7)] dX6_choice_281 7 rfl rfl (Nat.le_of_ble_eq_true rfl) rfl ?_
      refine jj_goto hk (pc := 284) 169 dX6_choice_284 (by decide) ?_
      refine jj_loc [(0, .ref (gh G)), (1, .int x1), (5, .int x5), (6, .int x6), (7, .int x7), (8, .int x9), (9, .int (x9 + 1))] [3, 4, 5, 6, 7, 1, 0] rfl ?_
      exact hk169 μ x1 x5 x6 x7 x9 (x9 + 1)
    · refine jj_aload_n hk (pc := 257) dX6_choice_257 1 rfl rfl ?_
      refine jj_iload hk (pc := 258) dX6_choice_258 7 rfl ?_
      refine kc_m_due hk hK (pc := 260) (a0 := x9) (fun r h => cc_m_due l G μ x9 r h) dX6_choice_260 ⟨Nat.le_of_ble_eq_true rfl, Nat.le_of_ble_eq_true rfl⟩ (Nat.le_of_ble_eq_true rfl) (fun r1 => ?_)
      refine jj_aload_n hk (pc := 263) dX6_choice_263 1 rfl rfl ?_
      refine jj_iload hk (pc := 264) dX6_choice_264 6 rfl ?_
      refine kc_m_due hk hK (pc := 266) (a0 := x8) (fun r h => cc_m_due l G μ x8 r h) dX6_choice_266 ⟨Nat.le_of_ble_eq_true rfl, Nat.le_of_ble_eq_true rfl⟩ (Nat.le_of_ble_eq_true rfl) (fun r2 => ?_)
      refine jj_icmp_ge hk (pc := 269) 277 dX6_choice_269 (by decide) ?_ ?_
      · refine jj_iload hk (pc := 277) dX6_choice_277 6 rfl ?_
        refine jj_istore hk (pc := 279) [(8, .int x8), (10, .int (bI y0)), (0, .ref (gh G)), (1, .int x1), (5, .int x5), (6, .int x6), (7, .int x7), (9, .int x9)] dX6_choice_279 (Nat.le_of_ble_eq_true rfl) rfl ?_
        refine jj_iinc hk (pc := 281) [(9, .int (x9 + 1)), (8, .int x8), (10, .int (bI y0)), (0, .ref (gh G)), (1, .int x1), (5, .int x5), (6, .int x6), (7, .int x7)] dX6_choice_281 7 rfl rfl (Nat.le_of_ble_eq_true rfl) rfl ?_
        refine jj_goto hk (pc := 284) 169 dX6_choice_284 (by decide) ?_
        refine jj_loc [(0, .ref (gh G)), (1, .int x1), (5, .int x5), (6, .int x6), (7, .int x7), (8, .int x8), (9, .int (x9 + 1))] [3, 4, 5, 6, 7, 1, 0] rfl ?_
        exact hk169 μ x1 x5 x6 x7 x8 (x9 + 1)
      · refine jj_iload hk (pc := 272) dX6_choice_272 7 rfl ?_
        refine jj_goto hk (pc := 274) 279 dX6_choice_274 (by decide) ?_
        refine jj_istore hk (pc := 279) [(8, .int x9), (10, .int (bI y0)), (0, .ref (gh G)), (1, .int x1), (5, .int x5), (6, .int x6), (7, .int x7), (9, .int x9)] dX6_choice_279 (Nat.le_of_ble_eq_true rfl) rfl ?_
        refine jj_iinc hk (pc := 281) [(9, .int (x9 + 1)), (8, .int x9), (10, .int (bI y0)), (0, .ref (gh G)), (1, .int x1), (5, .int x5), (6, .int x6), (7, .int x7)] dX6_choice_281 7 rfl rfl (Nat.le_of_ble_eq_true rfl) rfl ?_
        refine jj_goto hk (pc := 284) 169 dX6_choice_284 (by decide) ?_
        refine jj_loc [(0, .ref (gh G)), (1, .int x1), (5, .int x5), (6, .int x6), (7, .int x7), (8, .int x9), (9, .int (x9 + 1))] [3, 4, 5, 6, 7, 1, 0] rfl ?_
        exact hk169 μ x1 x5 x6 x7 x9 (x9 + 1)
set_option maxHeartbeats 4000000 in
theorem wb_m_choice_L169 {res : (Int32 × MS)} (hk : jk p R s m args meth c (gn G) cX6_choice 11 RX6 5 114 (some .int)) (hK : mK G s) (N : Nat) : ∀ (n : Nat) (μ : MS) (x1 : Int32) (x5 : Int32) (x6 : Int32) (x7 : Int32) (x8 : Int32) (x9 : Int32), jj p l e R s m args below meth c (gA G) (gn G) (jZ below args s (gA G) (gn G) (jU res) (mWo G) (mnx G)) (mWo G) (mnx G) 11 μ 169 [(0, .ref (gh G)), (1, .int x1), (5, .int x5), (6, .int x6), (7, .int x7), (8, .int x8), (9, .int x9)] [] (m_choice_L169 N n μ x1 x5 x6 x7 x8 x9 = some res) := by
  intro n
  induction n with
  | zero => intro μ x1 x5 x6 x7 x8 x9; exact jj_eq (fun hz => by rw [m_choice_L169] at hz; exact hz) jj_no
  | succ n ih =>
    intro μ x1 x5 x6 x7 x8 x9
    rw [m_choice_L169]
    refine jj_iload hk (pc := 169) dX6_choice_169 6 rfl ?_
    refine jj_aload_n hk (pc := 171) dX6_choice_171 0 rfl rfl ?_
    refine jm_g_s hk hK (pc := 172) dX6_choice_172 ?_
    refine jj_iconst hk (pc := 175) (v := (5 : Int32)) dX6_choice_175 (by decide) ?_
    refine jm_ld hk hK (pc := 176) (by decide) dX6_choice_176 (fun v1 => ?_)
    refine jj_icmp_ge hk (pc := 177) 287 dX6_choice_177 (by decide) ?_ ?_
    · refine jj_iload hk (pc := 287) dX6_choice_287 5 rfl ?_
      exact jm_retUi hk (pc := 289) dX6_choice_289
    · refine jj_iload hk (pc := 180) dX6_choice_180 2 rfl ?_
      refine jj_iconst hk (pc := 182) (v := (2 : Int32)) dX6_choice_182 (by decide) ?_
      refine jj_icmp_eq hk (pc := 183) 287 dX6_choice_183 (by decide) ?_ ?_
      · refine jj_iload hk (pc := 287) dX6_choice_287 5 rfl ?_
        exact jm_retUi hk (pc := 289) dX6_choice_289
      · refine jj_aload_n hk (pc := 186) dX6_choice_186 0 rfl rfl ?_
        refine jj_iload hk (pc := 187) dX6_choice_187 6 rfl ?_
        refine jj_iconst hk (pc := 189) (v := (0 : Int32)) dX6_choice_189 (by decide) ?_
        refine kc_m_deedIs hk hK (pc := 190) (a0 := x9) (a1 := (0 : Int32)) (fun r h => cc_m_deedIs l G μ x9 (0 : Int32) r h) dX6_choice_190 ⟨Nat.le_of_ble_eq_true rfl, Nat.le_of_ble_eq_true rfl⟩ (Nat.le_of_ble_eq_true rfl) (fun r2 => ?_)
        refine jj_iload_n hk (pc := 193) dX6_choice_193 1 rfl rfl ?_
        refine jj_icmp_ne hk (pc := 194) 242 dX6_choice_194 (by decide) ?_ ?_
        · refine jj_iconst hk (pc := 242) (v := (0 : Int32)) dX6_choice_242 (by decide) ?_
          refine jj_loc [(0, .ref (gh G)), (1, .int x1), (5, .int x5), (6, .int x6), (7, .int x7), (8, .int x8), (9, .int x9)] [0, 1, 2, 3, 4, 5, 6] rfl ?_
          exact wb_m_choice_B243 hk hK N ih μ x1 x5 x6 x7 x8 x9 false
        · refine jj_aload_n hk (pc := 197) dX6_choice_197 0 rfl rfl ?_
          refine jj_iload hk (pc := 198) dX6_choice_198 6 rfl ?_
          refine jj_iconst hk (pc := 200) (v := (4 : Int32)) dX6_choice_200 (by decide) ?_
          refine kc_m_deedIs hk hK (pc := 201) (a0 := x9) (a1 := (4 : Int32)) (fun r h => cc_m_deedIs l G μ x9 (4 : Int32) r h) dX6_choice_201 ⟨Nat.le_of_ble_eq_true rfl, Nat.le_of_ble_eq_true rfl⟩ (Nat.le_of_ble_eq_true rfl) (fun r3 => ?_)
          refine jj_iconst hk (pc := 204) (v := (1 : Int32)) dX6_choice_204 (by decide) ?_
          refine jj_icmp_ne hk (pc := 205) 242 dX6_choice_205 (by decide) ?_ ?_
          · refine jj_iconst hk (pc := 242) (v := (0 : Int32)) dX6_choice_242 (by decide) ?_
            refine jj_loc [(0, .ref (gh G)), (1, .int x1), (5, .int x5), (6, .int x6), (7, .int x7), (8, .int x8), (9, .int x9)] [0, 1, 2, 3, 4, 5, 6] rfl ?_
            exact wb_m_choice_B243 hk hK N ih μ x1 x5 x6 x7 x8 x9 false
          · refine jj_aload_n hk (pc := 208) dX6_choice_208 0 rfl rfl ?_
            refine jj_iload hk (pc := 209) dX6_choice_209 6 rfl ?_
            refine jj_iconst hk (pc := 211) (v := (2 : Int32)) dX6_choice_211 (by decide) ?_
            refine kc_m_deedIs hk hK (pc := 212) (a0 := x9) (a1 := (2 : Int32)) (fun r h => cc_m_deedIs l G μ x9 (2 : Int32) r h) dX6_choice_212 ⟨Nat.le_of_ble_eq_true rfl, Nat.le_of_ble_eq_true rfl⟩ (Nat.le_of_ble_eq_true rfl) (fun r4 => ?_)
            refine jj_iload hk (pc := 215) dX6_choice_215 4 rfl ?_
            refine jj_icmp_gt hk (pc := 217) 242 dX6_choice_217 (by decide) ?_ ?_
            · refine jj_iconst hk (pc := 242) (v := (0 : Int32)) dX6_choice_242 (by decide) ?_
              refine jj_loc [(0, .ref (gh G)), (1, .int x1), (5, .int x5), (6, .int x6), (7, .int x7), (8, .int x8), (9, .int x9)] [0, 1, 2, 3, 4, 5, 6] rfl ?_
              exact wb_m_choice_B243 hk hK N ih μ x1 x5 x6 x7 x8 x9 false
            · refine jj_aload_n hk (pc := 220) dX6_choice_220 0 rfl rfl ?_
              refine jj_iload hk (pc := 221) dX6_choice_221 6 rfl ?_
              refine kc_m_due hk hK (pc := 223) (a0 := x9) (fun r h => cc_m_due l G μ x9 r h) dX6_choice_223 ⟨Nat.le_of_ble_eq_true rfl, Nat.le_of_ble_eq_true rfl⟩ (Nat.le_of_ble_eq_true rfl) (fun r5 => ?_)
              refine jj_aload_n hk (pc := 226) dX6_choice_226 0 rfl rfl ?_
              refine jm_g_s hk hK (pc := 227) dX6_choice_227 ?_
              refine jj_iconst hk (pc := 230) (v := (3 : Int32)) dX6_choice_230 (by decide) ?_
              refine jm_ld hk hK (pc := 231) (by decide) dX6_choice_231 (fun v6 => ?_)
              refine jj_iload hk (pc := 232) dX6_choice_232 3 rfl ?_
              refine jj_iadd hk (pc := 234) dX6_choice_234 ?_
              refine jj_icmp_gt hk (pc := 235) 242 dX6_choice_235 (by decide) ?_ ?_
              · refine jj_iconst hk (pc := 242) (v := (0 : Int32)) dX6_choice_242 (by decide) ?_
                refine jj_loc [(0, .ref (gh G)), (1, .int x1), (5, .int x5), (6, .int x6), (7, .int x7), (8, .int x8), (9, .int x9)] [0, 1, 2, 3, 4, 5, 6] rfl ?_
                exact wb_m_choice_B243 hk hK N ih μ x1 x5 x6 x7 x8 x9 false
              · refine jj_iconst hk (pc := 238) (v := (1 : Int32)) dX6_choice_238 (by decide) ?_
                refine jj_goto hk (pc := 239) 243 dX6_choice_239 (by decide) ?_
                refine jj_loc [(0, .ref (gh G)), (1, .int x1), (5, .int x5), (6, .int x6), (7, .int x7), (8, .int x8), (9, .int x9)] [0, 1, 2, 3, 4, 5, 6] rfl ?_
                exact wb_m_choice_B243 hk hK N ih μ x1 x5 x6 x7 x8 x9 true
set_option maxHeartbeats 4000000 in
theorem wb_m_choice_B115 {res : (Int32 × MS)} (hk : jk p R s m args meth c (gn G) cX6_choice 11 RX6 5 114 (some .int)) (hK : mK G s) (N : Nat) (μ : MS) (x1 : Int32) (x3 : Int32) (y0 : Int32) : jj p l e R s m args below meth c (gA G) (gn G) (jZ below args s (gA G) (gn G) (jU res) (mWo G) (mnx G)) (mWo G) (mnx G) 11 μ 115 [(0, .ref (gh G)), (1, .int x1), (3, .int x3)] [.int y0] (m_choice_B115 N μ x1 x3 y0 = some res) := by
  unfold m_choice_B115
  refine jj_istore hk (pc := 115) [(5, .int y0), (0, .ref (gh G)), (1, .int x1), (3, .int x3)] dX6_choice_115 (Nat.le_of_ble_eq_true rfl) rfl ?_
  refine jj_iload hk (pc := 117) dX6_choice_117 0 rfl ?_
  refine jj_if_ne hk (pc := 119) 133 dX6_choice_119 (by decide) ?_ ?_
  · refine jj_iload hk (pc := 133) dX6_choice_133 0 rfl ?_
    refine jj_iconst hk (pc := 135) (v := (1 : Int32)) dX6_choice_135 (by decide) ?_
    refine jj_icmp_ne hk (pc := 136) 152 dX6_choice_136 (by decide) ?_ ?_
    · refine jj_iconst hk (pc := 152) (v := (0 : Int32)) dX6_choice_152 (by decide) ?_
      refine jj_istore hk (pc := 153) [(6, .int (0 : Int32)), (5, .int y0), (0, .ref (gh G)), (1, .int x1), (3, .int x3)] dX6_choice_153 (Nat.le_of_ble_eq_true rfl) rfl ?_
      refine jj_aload_n hk (pc := 155) dX6_choice_155 2 rfl rfl ?_
      refine jj_iload_n hk (pc := 156) dX6_choice_156 3 rfl rfl ?_
      refine kc_m_pulls hk hK (pc := 157) (a0 := x1) (fun r h => cc_m_pulls l G μ x1 r h) dX6_choice_157 ⟨Nat.le_of_ble_eq_true rfl, Nat.le_of_ble_eq_true rfl⟩ (Nat.le_of_ble_eq_true rfl) (fun r1 => ?_)
      refine jj_istore hk (pc := 160) [(7, .int r1), (6, .int (0 : Int32)), (5, .int y0), (0, .ref (gh G)), (1, .int x1), (3, .int x3)] dX6_choice_160 (Nat.le_of_ble_eq_true rfl) rfl ?_
      refine jj_bipush hk (pc := 162) (v := (10 : Int32)) dX6_choice_162 (by decide) ?_
      refine jj_istore hk (pc := 164) [(8, .int (10 : Int32)), (7, .int r1), (6, .int (0 : Int32)), (5, .int y0), (0, .ref (gh G)), (1, .int x1), (3, .int x3)] dX6_choice_164 (Nat.le_of_ble_eq_true rfl) rfl ?_
      refine jj_iconst hk (pc := 166) (v := (0 : Int32)) dX6_choice_166 (by decide) ?_
      refine jj_istore hk (pc := 167) [(9, .int (0 : Int32)), (8, .int (10 : Int32)), (7, .int r1), (6, .int (0 : Int32)), (5, .int y0), (0, .ref (gh G)), (1, .int x1), (3, .int x3)] dX6_choice_167 (Nat.le_of_ble_eq_true rfl) rfl ?_
      refine jj_loc [(0, .ref (gh G)), (1, .int x1), (5, .int y0), (6, .int (0 : Int32)), (7, .int r1), (8, .int (10 : Int32)), (9, .int (0 : Int32))] [5, 6, 4, 3, 2, 1, 0] rfl ?_
      exact wb_m_choice_L169 hk hK N N μ x1 y0 (0 : Int32) r1 (10 : Int32) (0 : Int32)
    · refine jj_iconst hk (pc := 139) (v := (0 : Int32)) dX6_choice_139 (by decide) ?_
      refine jj_aload_n hk (pc := 140) dX6_choice_140 1 rfl rfl ?_
      refine jm_g_s hk hK (pc := 141) dX6_choice_141 ?_
      refine jj_iload_n hk (pc := 144) dX6_choice_144 3 rfl rfl ?_
      refine jj_iconst hk (pc := 145) (v := (2 : Int32)) dX6_choice_145 (by decide) ?_
      refine jj_iadd hk (pc := 146) dX6_choice_146 ?_
      refine jm_ld hk hK (pc := 147) (by decide) dX6_choice_147 (fun v2 => ?_)
      refine jj_isub hk (pc := 148) dX6_choice_148 ?_
      refine jj_goto hk (pc := 149) 153 dX6_choice_149 (by decide) ?_
      refine jj_istore hk (pc := 153) [(6, .int ((0 : Int32) - v2)), (5, .int y0), (0, .ref (gh G)), (1, .int x1), (3, .int x3)] dX6_choice_153 (Nat.le_of_ble_eq_true rfl) rfl ?_
      refine jj_aload_n hk (pc := 155) dX6_choice_155 2 rfl rfl ?_
      refine jj_iload_n hk (pc := 156) dX6_choice_156 3 rfl rfl ?_
      refine kc_m_pulls hk hK (pc := 157) (a0 := x1) (fun r h => cc_m_pulls l G μ x1 r h) dX6_choice_157 ⟨Nat.le_of_ble_eq_true rfl, Nat.le_of_ble_eq_true rfl⟩ (Nat.le_of_ble_eq_true rfl) (fun r3 => ?_)
      refine jj_istore hk (pc := 160) [(7, .int r3), (6, .int ((0 : Int32) - v2)), (5, .int y0), (0, .ref (gh G)), (1, .int x1), (3, .int x3)] dX6_choice_160 (Nat.le_of_ble_eq_true rfl) rfl ?_
      refine jj_bipush hk (pc := 162) (v := (10 : Int32)) dX6_choice_162 (by decide) ?_
      refine jj_istore hk (pc := 164) [(8, .int (10 : Int32)), (7, .int r3), (6, .int ((0 : Int32) - v2)), (5, .int y0), (0, .ref (gh G)), (1, .int x1), (3, .int x3)] dX6_choice_164 (Nat.le_of_ble_eq_true rfl) rfl ?_
      refine jj_iconst hk (pc := 166) (v := (0 : Int32)) dX6_choice_166 (by decide) ?_
      refine jj_istore hk (pc := 167) [(9, .int (0 : Int32)), (8, .int (10 : Int32)), (7, .int r3), (6, .int ((0 : Int32) - v2)), (5, .int y0), (0, .ref (gh G)), (1, .int x1), (3, .int x3)] dX6_choice_167 (Nat.le_of_ble_eq_true rfl) rfl ?_
      refine jj_loc [(0, .ref (gh G)), (1, .int x1), (5, .int y0), (6, .int ((0 : Int32) - v2)), (7, .int r3), (8, .int (10 : Int32)), (9, .int (0 : Int32))] [5, 6, 4, 3, 2, 1, 0] rfl ?_
      exact wb_m_choice_L169 hk hK N N μ x1 y0 ((0 : Int32) - v2) r3 (10 : Int32) (0 : Int32)
  · refine jj_aload_n hk (pc := 122) dX6_choice_122 1 rfl rfl ?_
    refine jm_g_s hk hK (pc := 123) dX6_choice_123 ?_
    refine jj_iload_n hk (pc := 126) dX6_choice_126 3 rfl rfl ?_
    refine jj_iconst hk (pc := 127) (v := (2 : Int32)) dX6_choice_127 (by decide) ?_
    refine jj_iadd hk (pc := 128) dX6_choice_128 ?_
    refine jm_ld hk hK (pc := 129) (by decide) dX6_choice_129 (fun v4 => ?_)
    refine jj_goto hk (pc := 130) 153 dX6_choice_130 (by decide) ?_
    refine jj_istore hk (pc := 153) [(6, .int v4), (5, .int y0), (0, .ref (gh G)), (1, .int x1), (3, .int x3)] dX6_choice_153 (Nat.le_of_ble_eq_true rfl) rfl ?_
    refine jj_aload_n hk (pc := 155) dX6_choice_155 2 rfl rfl ?_
    refine jj_iload_n hk (pc := 156) dX6_choice_156 3 rfl rfl ?_
    refine kc_m_pulls hk hK (pc := 157) (a0 := x1) (fun r h => cc_m_pulls l G μ x1 r h) dX6_choice_157 ⟨Nat.le_of_ble_eq_true rfl, Nat.le_of_ble_eq_true rfl⟩ (Nat.le_of_ble_eq_true rfl) (fun r5 => ?_)
    refine jj_istore hk (pc := 160) [(7, .int r5), (6, .int v4), (5, .int y0), (0, .ref (gh G)), (1, .int x1), (3, .int x3)] dX6_choice_160 (Nat.le_of_ble_eq_true rfl) rfl ?_
    refine jj_bipush hk (pc := 162) (v := (10 : Int32)) dX6_choice_162 (by decide) ?_
    refine jj_istore hk (pc := 164) [(8, .int (10 : Int32)), (7, .int r5), (6, .int v4), (5, .int y0), (0, .ref (gh G)), (1, .int x1), (3, .int x3)] dX6_choice_164 (Nat.le_of_ble_eq_true rfl) rfl ?_
    refine jj_iconst hk (pc := 166) (v := (0 : Int32)) dX6_choice_166 (by decide) ?_
    refine jj_istore hk (pc := 167) [(9, .int (0 : Int32)), (8, .int (10 : Int32)), (7, .int r5), (6, .int v4), (5, .int y0), (0, .ref (gh G)), (1, .int x1), (3, .int x3)] dX6_choice_167 (Nat.le_of_ble_eq_true rfl) rfl ?_
    refine jj_loc [(0, .ref (gh G)), (1, .int x1), (5, .int y0), (6, .int v4), (7, .int r5), (8, .int (10 : Int32)), (9, .int (0 : Int32))] [5, 6, 4, 3, 2, 1, 0] rfl ?_
    exact wb_m_choice_L169 hk hK N N μ x1 y0 v4 r5 (10 : Int32) (0 : Int32)
set_option maxHeartbeats 4000000 in
theorem wb_m_choice_L15 {res : (Int32 × MS)} (hk : jk p R s m args meth c (gn G) cX6_choice 11 RX6 5 114 (some .int)) (hK : mK G s) (N : Nat) : ∀ (n : Nat) (μ : MS) (x1 : Int32) (x2 : Int32) (x3 : Int32) (x4 : Int32) (x5 : Int32), jj p l e R s m args below meth c (gA G) (gn G) (jZ below args s (gA G) (gn G) (jU res) (mWo G) (mnx G)) (mWo G) (mnx G) 11 μ 15 [(0, .ref (gh G)), (1, .int x1), (2, .int x2), (3, .int x3), (4, .int x4), (5, .int x5)] [] (m_choice_L15 N n μ x1 x2 x3 x4 x5 = some res) := by
  intro n
  induction n with
  | zero => intro μ x1 x2 x3 x4 x5; exact jj_eq (fun hz => by rw [m_choice_L15] at hz; exact hz) jj_no
  | succ n ih =>
    intro μ x1 x2 x3 x4 x5
    rw [m_choice_L15]
    refine jj_iload hk (pc := 15) dX6_choice_15 5 rfl ?_
    refine jj_aload_n hk (pc := 17) dX6_choice_17 0 rfl rfl ?_
    refine jm_g_s hk hK (pc := 18) dX6_choice_18 ?_
    refine jj_iconst hk (pc := 21) (v := (1 : Int32)) dX6_choice_21 (by decide) ?_
    refine jm_ld hk hK (pc := 22) (by decide) dX6_choice_22 (fun v1 => ?_)
    refine jj_icmp_ge hk (pc := 23) 99 dX6_choice_23 (by decide) ?_ ?_
    · refine jj_iload_n hk (pc := 99) dX6_choice_99 3 rfl rfl ?_
      refine jj_if_ge hk (pc := 100) 107 dX6_choice_100 (by decide) ?_ ?_
      · refine jj_aload_n hk (pc := 107) dX6_choice_107 0 rfl rfl ?_
        refine jm_g_s hk hK (pc := 108) dX6_choice_108 ?_
        refine jj_iload_n hk (pc := 111) dX6_choice_111 3 rfl rfl ?_
        refine jj_iconst hk (pc := 112) (v := (1 : Int32)) dX6_choice_112 (by decide) ?_
        refine jj_iadd hk (pc := 113) dX6_choice_113 ?_
        refine jm_ld hk hK (pc := 114) (by decide) dX6_choice_114 (fun v2 => ?_)
        refine jj_loc [(0, .ref (gh G)), (1, .int x1), (3, .int x3)] [0, 1, 3] rfl ?_
        exact wb_m_choice_B115 hk hK N μ x1 x3 v2
      · refine jj_iconst hk (pc := 103) (v := (-1 : Int32)) dX6_choice_103 (by decide) ?_
        refine jj_goto hk (pc := 104) 115 dX6_choice_104 (by decide) ?_
        refine jj_loc [(0, .ref (gh G)), (1, .int x1), (3, .int x3)] [0, 1, 3] rfl ?_
        exact wb_m_choice_B115 hk hK N μ x1 x3 (-1 : Int32)
    · refine jj_iload_n hk (pc := 26) dX6_choice_26 3 rfl rfl ?_
      refine jj_if_ge hk (pc := 27) 99 dX6_choice_27 (by decide) ?_ ?_
      · refine jj_iload_n hk (pc := 99) dX6_choice_99 3 rfl rfl ?_
        refine jj_if_ge hk (pc := 100) 107 dX6_choice_100 (by decide) ?_ ?_
        · refine jj_aload_n hk (pc := 107) dX6_choice_107 0 rfl rfl ?_
          refine jm_g_s hk hK (pc := 108) dX6_choice_108 ?_
          refine jj_iload_n hk (pc := 111) dX6_choice_111 3 rfl rfl ?_
          refine jj_iconst hk (pc := 112) (v := (1 : Int32)) dX6_choice_112 (by decide) ?_
          refine jj_iadd hk (pc := 113) dX6_choice_113 ?_
          refine jm_ld hk hK (pc := 114) (by decide) dX6_choice_114 (fun v3 => ?_)
          refine jj_loc [(0, .ref (gh G)), (1, .int x1), (3, .int x3)] [0, 1, 3] rfl ?_
          exact wb_m_choice_B115 hk hK N μ x1 x3 v3
        · refine jj_iconst hk (pc := 103) (v := (-1 : Int32)) dX6_choice_103 (by decide) ?_
          refine jj_goto hk (pc := 104) 115 dX6_choice_104 (by decide) ?_
          refine jj_loc [(0, .ref (gh G)), (1, .int x1), (3, .int x3)] [0, 1, 3] rfl ?_
          exact wb_m_choice_B115 hk hK N μ x1 x3 (-1 : Int32)
      · refine jj_sipush hk (pc := 30) (v := (136 : Int32)) dX6_choice_30 (by decide) ?_
        refine jj_iconst hk (pc := 33) (v := (4 : Int32)) dX6_choice_33 (by decide) ?_
        refine jj_iload hk (pc := 34) dX6_choice_34 5 rfl ?_
        refine jj_imul hk (pc := 36) dX6_choice_36 ?_
        refine jj_iadd hk (pc := 37) dX6_choice_37 ?_
        refine jj_istore hk (pc := 38) [(6, .int ((136 : Int32) + ((4 : Int32) * x5))), (0, .ref (gh G)), (1, .int x1), (2, .int x2), (3, .int x3), (4, .int x4), (5, .int x5)] dX6_choice_38 (Nat.le_of_ble_eq_true rfl) rfl ?_
        refine jj_iload_n hk (pc := 40) dX6_choice_40 3 rfl rfl ?_
        refine jj_aload_n hk (pc := 41) dX6_choice_41 1 rfl rfl ?_
        refine jm_g_s hk hK (pc := 42) dX6_choice_42 ?_
        refine jj_iload hk (pc := 45) dX6_choice_45 0 rfl ?_
        refine jj_iconst hk (pc := 47) (v := (0 : Int32)) dX6_choice_47 (by decide) ?_
        refine jj_iadd hk (pc := 48) dX6_choice_48 ?_
        refine jm_ld hk hK (pc := 49) (by decide) dX6_choice_49 (fun v4 => ?_)
        refine kc_m_isUnder hk hK (pc := 50) (a0 := x2) (a1 := v4) (fun r h => cc_m_isUnder l G μ x2 v4 r h) dX6_choice_50 ⟨Nat.le_of_ble_eq_true rfl, Nat.le_of_ble_eq_true rfl⟩ (Nat.le_of_ble_eq_true rfl) (fun r5 => ?_)
        refine jj_if_eq_b hk (pc := 53) 80 dX6_choice_53 (by decide) ?_ ?_
        · refine jj_iconst hk (pc := 80) (v := (-1 : Int32)) dX6_choice_80 (by decide) ?_
          refine jj_istore_n hk (pc := 81) [(3, .int (-1 : Int32)), (6, .int ((136 : Int32) + ((4 : Int32) * x5))), (0, .ref (gh G)), (1, .int x1), (2, .int x2), (4, .int x4), (5, .int x5)] dX6_choice_81 rfl (Nat.le_of_ble_eq_true rfl) rfl ?_
          refine jj_aload_n hk (pc := 82) dX6_choice_82 2 rfl rfl ?_
          refine jm_g_s hk hK (pc := 83) dX6_choice_83 ?_
          refine jj_iload hk (pc := 86) dX6_choice_86 1 rfl ?_
          refine jj_iconst hk (pc := 88) (v := (3 : Int32)) dX6_choice_88 (by decide) ?_
          refine jj_iadd hk (pc := 89) dX6_choice_89 ?_
          refine jm_ld hk hK (pc := 90) (by decide) dX6_choice_90 (fun v6 => ?_)
          refine jj_istore hk (pc := 91) [(4, .int v6), (3, .int (-1 : Int32)), (6, .int ((136 : Int32) + ((4 : Int32) * x5))), (0, .ref (gh G)), (1, .int x1), (2, .int x2), (5, .int x5)] dX6_choice_91 (Nat.le_of_ble_eq_true rfl) rfl ?_
          refine jj_iinc hk (pc := 93) [(5, .int (x5 + 1)), (4, .int v6), (3, .int (-1 : Int32)), (6, .int ((136 : Int32) + ((4 : Int32) * x5))), (0, .ref (gh G)), (1, .int x1), (2, .int x2)] dX6_choice_93 6 rfl rfl (Nat.le_of_ble_eq_true rfl) rfl ?_
          refine jj_goto hk (pc := 96) 15 dX6_choice_96 (by decide) ?_
          refine jj_loc [(0, .ref (gh G)), (1, .int x1), (2, .int x2), (3, .int (-1 : Int32)), (4, .int v6), (5, .int (x5 + 1))] [4, 5, 6, 2, 1, 0] rfl ?_
          exact ih μ x1 x2 (-1 : Int32) v6 (x5 + 1)
        · refine jj_aload_n hk (pc := 56) dX6_choice_56 1 rfl rfl ?_
          refine jj_iload hk (pc := 57) dX6_choice_57 5 rfl ?_
          refine jj_aload_n hk (pc := 59) dX6_choice_59 1 rfl rfl ?_
          refine jm_g_s hk hK (pc := 60) dX6_choice_60 ?_
          refine jj_iload hk (pc := 63) dX6_choice_63 0 rfl ?_
          refine jj_iconst hk (pc := 65) (v := (3 : Int32)) dX6_choice_65 (by decide) ?_
          refine jj_iadd hk (pc := 66) dX6_choice_66 ?_
          refine jm_ld hk hK (pc := 67) (by decide) dX6_choice_67 (fun v7 => ?_)
          refine jj_iload_n hk (pc := 68) dX6_choice_68 2 rfl rfl ?_
          refine kc_m_isSo hk hK (pc := 69) (a0 := x4) (a1 := v7) (a2 := x1) (fun r h => cc_m_isSo l G N μ x4 v7 x1 r h) dX6_choice_69 ⟨Nat.le_of_ble_eq_true rfl, Nat.le_of_ble_eq_true rfl⟩ (Nat.le_of_ble_eq_true rfl) (fun r8 => ?_)
          refine jj_if_eq_b hk (pc := 72) 80 dX6_choice_72 (by decide) ?_ ?_
          · refine jj_iconst hk (pc := 80) (v := (-1 : Int32)) dX6_choice_80 (by decide) ?_
            refine jj_istore_n hk (pc := 81) [(3, .int (-1 : Int32)), (6, .int ((136 : Int32) + ((4 : Int32) * x5))), (0, .ref (gh G)), (1, .int x1), (2, .int x2), (4, .int x4), (5, .int x5)] dX6_choice_81 rfl (Nat.le_of_ble_eq_true rfl) rfl ?_
            refine jj_aload_n hk (pc := 82) dX6_choice_82 2 rfl rfl ?_
            refine jm_g_s hk hK (pc := 83) dX6_choice_83 ?_
            refine jj_iload hk (pc := 86) dX6_choice_86 1 rfl ?_
            refine jj_iconst hk (pc := 88) (v := (3 : Int32)) dX6_choice_88 (by decide) ?_
            refine jj_iadd hk (pc := 89) dX6_choice_89 ?_
            refine jm_ld hk hK (pc := 90) (by decide) dX6_choice_90 (fun v9 => ?_)
            refine jj_istore hk (pc := 91) [(4, .int v9), (3, .int (-1 : Int32)), (6, .int ((136 : Int32) + ((4 : Int32) * x5))), (0, .ref (gh G)), (1, .int x1), (2, .int x2), (5, .int x5)] dX6_choice_91 (Nat.le_of_ble_eq_true rfl) rfl ?_
            refine jj_iinc hk (pc := 93) [(5, .int (x5 + 1)), (4, .int v9), (3, .int (-1 : Int32)), (6, .int ((136 : Int32) + ((4 : Int32) * x5))), (0, .ref (gh G)), (1, .int x1), (2, .int x2)] dX6_choice_93 6 rfl rfl (Nat.le_of_ble_eq_true rfl) rfl ?_
            refine jj_goto hk (pc := 96) 15 dX6_choice_96 (by decide) ?_
            refine jj_loc [(0, .ref (gh G)), (1, .int x1), (2, .int x2), (3, .int (-1 : Int32)), (4, .int v9), (5, .int (x5 + 1))] [4, 5, 6, 2, 1, 0] rfl ?_
            exact ih r8.2 x1 x2 (-1 : Int32) v9 (x5 + 1)
          · refine jj_iload hk (pc := 75) dX6_choice_75 0 rfl ?_
            refine jj_goto hk (pc := 77) 81 dX6_choice_77 (by decide) ?_
            refine jj_istore_n hk (pc := 81) [(3, .int ((136 : Int32) + ((4 : Int32) * x5))), (6, .int ((136 : Int32) + ((4 : Int32) * x5))), (0, .ref (gh G)), (1, .int x1), (2, .int x2), (4, .int x4), (5, .int x5)] dX6_choice_81 rfl (Nat.le_of_ble_eq_true rfl) rfl ?_
            refine jj_aload_n hk (pc := 82) dX6_choice_82 2 rfl rfl ?_
            refine jm_g_s hk hK (pc := 83) dX6_choice_83 ?_
            refine jj_iload hk (pc := 86) dX6_choice_86 1 rfl ?_
            refine jj_iconst hk (pc := 88) (v := (3 : Int32)) dX6_choice_88 (by decide) ?_
            refine jj_iadd hk (pc := 89) dX6_choice_89 ?_
            refine jm_ld hk hK (pc := 90) (by decide) dX6_choice_90 (fun v10 => ?_)
            refine jj_istore hk (pc := 91) [(4, .int v10), (3, .int ((136 : Int32) + ((4 : Int32) * x5))), (6, .int ((136 : Int32) + ((4 : Int32) * x5))), (0, .ref (gh G)), (1, .int x1), (2, .int x2), (5, .int x5)] dX6_choice_91 (Nat.le_of_ble_eq_true rfl) rfl ?_
            refine jj_iinc hk (pc := 93) [(5, .int (x5 + 1)), (4, .int v10), (3, .int ((136 : Int32) + ((4 : Int32) * x5))), (6, .int ((136 : Int32) + ((4 : Int32) * x5))), (0, .ref (gh G)), (1, .int x1), (2, .int x2)] dX6_choice_93 6 rfl rfl (Nat.le_of_ble_eq_true rfl) rfl ?_
            refine jj_goto hk (pc := 96) 15 dX6_choice_96 (by decide) ?_
            refine jj_loc [(0, .ref (gh G)), (1, .int x1), (2, .int x2), (3, .int ((136 : Int32) + ((4 : Int32) * x5))), (4, .int v10), (5, .int (x5 + 1))] [4, 5, 6, 2, 1, 0] rfl ?_
            exact ih r8.2 x1 x2 ((136 : Int32) + ((4 : Int32) * x5)) v10 (x5 + 1)
set_option maxHeartbeats 4000000 in
theorem cc_m_choice (l : Launch) (G : jG) (N : Nat) (μ : MS) (a0 : Int32) (res : (Int32 × MS)) (hf : m_choice N μ a0 = some res) : jM l yX6_choice (ws_ yX6_choice cX6_choice 11 (some .int)) 5 114 [.ref (gh G), .int a0] (mWo G) (mnx G) (mK G) μ (jU res) (gA G) (gn G) := by
  refine jj_start [(0, .ref (gh G)), (1, .int a0)] (by decide) (Nat.le_of_ble_eq_true rfl) rfl (fun p e R s m args below meth c hk hK hsz => ?_) hf
  have hk : jk p R s m args meth c (gn G) cX6_choice 11 RX6 5 114 (some .int) := hk
  unfold m_choice
  refine jj_aload_n hk (pc := 0) dX6_choice_0 0 rfl rfl ?_
  refine jj_iload_n hk (pc := 1) dX6_choice_1 1 rfl rfl ?_
  refine jj_iconst hk (pc := 2) (v := (0 : Int32)) dX6_choice_2 (by decide) ?_
  refine kc_m_its hk hK (pc := 3) (a0 := a0) (a1 := (0 : Int32)) (fun r h => cc_m_its l G μ a0 (0 : Int32) r h) dX6_choice_3 ⟨Nat.le_of_ble_eq_true rfl, Nat.le_of_ble_eq_true rfl⟩ (Nat.le_of_ble_eq_true rfl) (fun r1 => ?_)
  refine jj_istore_n hk (pc := 6) [(2, .int r1), (0, .ref (gh G)), (1, .int a0)] dX6_choice_6 rfl (Nat.le_of_ble_eq_true rfl) rfl ?_
  refine jj_iconst hk (pc := 7) (v := (-1 : Int32)) dX6_choice_7 (by decide) ?_
  refine jj_istore_n hk (pc := 8) [(3, .int (-1 : Int32)), (2, .int r1), (0, .ref (gh G)), (1, .int a0)] dX6_choice_8 rfl (Nat.le_of_ble_eq_true rfl) rfl ?_
  refine jj_iconst hk (pc := 9) (v := (0 : Int32)) dX6_choice_9 (by decide) ?_
  refine jj_istore hk (pc := 10) [(4, .int (0 : Int32)), (3, .int (-1 : Int32)), (2, .int r1), (0, .ref (gh G)), (1, .int a0)] dX6_choice_10 (Nat.le_of_ble_eq_true rfl) rfl ?_
  refine jj_iconst hk (pc := 12) (v := (0 : Int32)) dX6_choice_12 (by decide) ?_
  refine jj_istore hk (pc := 13) [(5, .int (0 : Int32)), (4, .int (0 : Int32)), (3, .int (-1 : Int32)), (2, .int r1), (0, .ref (gh G)), (1, .int a0)] dX6_choice_13 (Nat.le_of_ble_eq_true rfl) rfl ?_
  refine jj_loc [(0, .ref (gh G)), (1, .int a0), (2, .int r1), (3, .int (-1 : Int32)), (4, .int (0 : Int32)), (5, .int (0 : Int32))] [4, 5, 3, 2, 1, 0] rfl ?_
  exact wb_m_choice_L15 hk hK N N μ a0 r1 (-1 : Int32) (0 : Int32) (0 : Int32)
end
section
variable {p : Program} {l : Launch} {e : Env} {R : Room} {s : State} {m : MethodId} {args : Array Value} {below : List Frame} {meth : Method} {c : Code}
variable {G : jG}
variable {NX : Nat} {Q : State → Prop} {nL : Nat} {cc : ByteArray} {fr lo frc loc : Nat} {ret : Option FieldType}
variable {pc : Nat} {μ : MS} {lv : List (Nat × Value)} {st : List Value} {ρ : Type} {res : ρ}
theorem kc_m_choice (hk : jk p R s m args meth c NX cc nL RX6 fr lo ret) (hK : mK G s) {a0 : Int32} {F : Option (Int32 × MS)} {K : (Int32 × MS) → Option ρ} (hM : ∀ r, F = some r → jM l yX6_choice (ws_ yX6_choice cX6_choice 11 (some .int)) frc loc [.ref (gh G), .int a0] (mWo G) (mnx G) (mK G) μ (jU r) (gA G) (gn G)) (hd : decode cc pc = .ok (.invokevirtual 106, 3)) (hr : frc + 1 ≤ fr ∧ 8 + (11 + 11) + loc ≤ lo) (hw : (st.map fun v => v.category).sum ≤ 8) (kk : ∀ r, jj p l e R s m args below meth c (gA G) NX Q (mWo G) (mnx G) nL r.2 (pc + 3) lv (.int r.1 :: st) (K r = some res)) : jj p l e R s m args below meth c (gA G) NX Q (mWo G) (mnx G) nL μ pc lv (.int a0 :: .ref (gh G) :: st) (F.bind K = some res) :=
  jm_VUi (n := 1) hk hK [.int a0] hM (lw_V q1719 q1721 qs59 q127 q1722) (by decide +kernel) rfl rfl hd hr hw kk
end
section
variable {p : Program} {l : Launch} {e : Env} {R : Room} {s : State} {m : MethodId} {args : Array Value} {below : List Frame} {meth : Method} {c : Code}
variable {G : jG}
set_option maxHeartbeats 4000000 in
theorem cc_m_isPerson (l : Launch) (G : jG)  (μ : MS) (a0 : Int32) (res : Bool) (hf : m_isPerson μ a0 = some res) : jM l yX6_isPerson (ws_ yX6_isPerson cX6_isPerson 2 (some .boolean)) 1 25 [.ref (gh G), .int a0] (mWo G) (mnx G) (mK G) μ (jRz μ res) (gA G) (gn G) := by
  refine jj_start [(0, .ref (gh G)), (1, .int a0)] (by decide) (Nat.le_of_ble_eq_true rfl) rfl (fun p e R s m args below meth c hk hK hsz => ?_) hf
  have hk : jk p R s m args meth c (gn G) cX6_isPerson 2 RX6 1 25 (some .boolean) := hk
  unfold m_isPerson
  refine jj_iload_n hk (pc := 0) dX6_isPerson_0 1 rfl rfl ?_
  refine jj_i2l hk (pc := 1) dX6_isPerson_1 ?_
  refine jj_lconst hk (pc := 2) (v := (0 : Int64)) dX6_isPerson_2 (by decide) ?_
  refine jj_aload_n hk (pc := 3) dX6_isPerson_3 0 rfl rfl ?_
  refine jm_g_s hk hK (pc := 4) dX6_isPerson_4 ?_
  refine jj_iconst hk (pc := 7) (v := (0 : Int32)) dX6_isPerson_7 (by decide) ?_
  refine jm_ld hk hK (pc := 8) (by decide) dX6_isPerson_8 (fun v1 => ?_)
  refine jj_iconst hk (pc := 9) (v := (1 : Int32)) dX6_isPerson_9 (by decide) ?_
  refine jj_isub hk (pc := 10) dX6_isPerson_10 ?_
  refine jj_i2l hk (pc := 11) dX6_isPerson_11 ?_
  refine kc_m_in hk hK (pc := 12) (a0 := a0.toInt64) (a1 := (0 : Int64)) (a2 := ((v1 - (1 : Int32)).toInt64)) (fun r h => cc_m_in l G μ a0.toInt64 (0 : Int64) ((v1 - (1 : Int32)).toInt64) r h) dX6_isPerson_12 ⟨Nat.le_of_ble_eq_true rfl, Nat.le_of_ble_eq_true rfl⟩ (Nat.le_of_ble_eq_true rfl) (fun r2 => ?_)
  exact jm_retRz hk (pc := 15) (b := r2) dX6_isPerson_15
end
section
variable {p : Program} {l : Launch} {e : Env} {R : Room} {s : State} {m : MethodId} {args : Array Value} {below : List Frame} {meth : Method} {c : Code}
variable {G : jG}
variable {NX : Nat} {Q : State → Prop} {nL : Nat} {cc : ByteArray} {fr lo frc loc : Nat} {ret : Option FieldType}
variable {pc : Nat} {μ : MS} {lv : List (Nat × Value)} {st : List Value} {ρ : Type} {res : ρ}
theorem kc_m_isPerson (hk : jk p R s m args meth c NX cc nL RX6 fr lo ret) (hK : mK G s) {a0 : Int32} {F : Option Bool} {K : Bool → Option ρ} (hM : ∀ r, F = some r → jM l yX6_isPerson (ws_ yX6_isPerson cX6_isPerson 2 (some .boolean)) frc loc [.ref (gh G), .int a0] (mWo G) (mnx G) (mK G) μ (jRz μ r) (gA G) (gn G)) (hd : decode cc pc = .ok (.invokevirtual 96, 3)) (hr : frc + 1 ≤ fr ∧ 8 + (2 + 11) + loc ≤ lo) (hw : (st.map fun v => v.category).sum ≤ 8) (kk : ∀ r, jj p l e R s m args below meth c (gA G) NX Q (mWo G) (mnx G) nL μ (pc + 3) lv (.int (bI r) :: st) (K r = some res)) : jj p l e R s m args below meth c (gA G) NX Q (mWo G) (mnx G) nL μ pc lv (.int a0 :: .ref (gh G) :: st) (F.bind K = some res) :=
  jm_VRz (n := 1) hk hK [.int a0] hM (lw_V q1693 q1695 qs54 q127 q1696) (by decide +kernel) rfl rfl hd hr hw kk
end
section
variable {p : Program} {l : Launch} {e : Env} {R : Room} {s : State} {m : MethodId} {args : Array Value} {below : List Frame} {meth : Method} {c : Code}
variable {G : jG}
set_option maxHeartbeats 4000000 in
theorem cc_m_personOf (l : Launch) (G : jG) (N : Nat) (μ : MS) (a0 : Int32) (a1 : Int32) (res : (Int32 × MS)) (hf : m_personOf N μ a0 a1 = some res) : jM l yX6_personOf (ws_ yX6_personOf cX6_personOf 3 (some .int)) 6 144 [.ref (gh G), .int a0, .int a1] (mWo G) (mnx G) (mK G) μ (jU res) (gA G) (gn G) := by
  refine jj_start [(0, .ref (gh G)), (1, .int a0), (2, .int a1)] (by decide) (Nat.le_of_ble_eq_true rfl) rfl (fun p e R s m args below meth c hk hK hsz => ?_) hf
  have hk : jk p R s m args meth c (gn G) cX6_personOf 3 RX6 6 144 (some .int) := hk
  unfold m_personOf
  refine jj_aload_n hk (pc := 0) dX6_personOf_0 0 rfl rfl ?_
  refine jj_iload_n hk (pc := 1) dX6_personOf_1 1 rfl rfl ?_
  refine kc_m_isPerson hk hK (pc := 2) (a0 := a0) (fun r h => cc_m_isPerson l G μ a0 r h) dX6_personOf_2 ⟨Nat.le_of_ble_eq_true rfl, Nat.le_of_ble_eq_true rfl⟩ (Nat.le_of_ble_eq_true rfl) (fun r1 => ?_)
  refine jj_if_eq_b hk (pc := 5) 20 dX6_personOf_5 (by decide) ?_ ?_
  · refine jj_iconst hk (pc := 20) (v := (-1 : Int32)) dX6_personOf_20 (by decide) ?_
    exact jm_retUi hk (pc := 21) dX6_personOf_21
  · refine jj_iload_n hk (pc := 8) dX6_personOf_8 2 rfl rfl ?_
    refine jj_i2l hk (pc := 9) dX6_personOf_9 ?_
    refine jj_lconst hk (pc := 10) (v := (0 : Int64)) dX6_personOf_10 (by decide) ?_
    refine jj_ldc2_w hk (pc := 11) q1681 dX6_personOf_11 ?_
    refine kc_m_in hk hK (pc := 14) (a0 := a1.toInt64) (a1 := (0 : Int64)) (a2 := (5 : Int64)) (fun r h => cc_m_in l G μ a1.toInt64 (0 : Int64) (5 : Int64) r h) dX6_personOf_14 ⟨Nat.le_of_ble_eq_true rfl, Nat.le_of_ble_eq_true rfl⟩ (Nat.le_of_ble_eq_true rfl) (fun r2 => ?_)
    refine jj_if_ne_b hk (pc := 17) 22 dX6_personOf_17 (by decide) ?_ ?_
    · refine jj_iload_n hk (pc := 22) dX6_personOf_22 2 rfl rfl ?_
      refine jj_iconst hk (pc := 23) (v := (3 : Int32)) dX6_personOf_23 (by decide) ?_
      refine jj_icmp_ge hk (pc := 24) 36 dX6_personOf_24 (by decide) ?_ ?_
      · refine jj_iload_n hk (pc := 36) dX6_personOf_36 2 rfl rfl ?_
        refine jj_iconst hk (pc := 37) (v := (3 : Int32)) dX6_personOf_37 (by decide) ?_
        refine jj_icmp_ne hk (pc := 38) 49 dX6_personOf_38 (by decide) ?_ ?_
        · refine jj_iload_n hk (pc := 49) dX6_personOf_49 2 rfl rfl ?_
          refine jj_iconst hk (pc := 50) (v := (4 : Int32)) dX6_personOf_50 (by decide) ?_
          refine jj_icmp_ne hk (pc := 51) 62 dX6_personOf_51 (by decide) ?_ ?_
          · refine jj_aload_n hk (pc := 62) dX6_personOf_62 0 rfl rfl ?_
            refine jj_iload_n hk (pc := 63) dX6_personOf_63 1 rfl rfl ?_
            refine kc_m_choice hk hK (pc := 64) (a0 := a0) (fun r h => cc_m_choice l G N μ a0 r h) dX6_personOf_64 ⟨Nat.le_of_ble_eq_true rfl, Nat.le_of_ble_eq_true rfl⟩ (Nat.le_of_ble_eq_true rfl) (fun r3 => ?_)
            exact jm_retUi hk (pc := 67) dX6_personOf_67
          · refine jj_aload_n hk (pc := 54) dX6_personOf_54 0 rfl rfl ?_
            refine jj_iload_n hk (pc := 55) dX6_personOf_55 1 rfl rfl ?_
            refine kc_m_pulls hk hK (pc := 56) (a0 := a0) (fun r h => cc_m_pulls l G μ a0 r h) dX6_personOf_56 ⟨Nat.le_of_ble_eq_true rfl, Nat.le_of_ble_eq_true rfl⟩ (Nat.le_of_ble_eq_true rfl) (fun r4 => ?_)
            refine jj_goto hk (pc := 59) 67 dX6_personOf_59 (by decide) ?_
            exact jm_retUi hk (pc := 67) dX6_personOf_67
        · refine jj_aload_n hk (pc := 41) dX6_personOf_41 0 rfl rfl ?_
          refine jj_iload_n hk (pc := 42) dX6_personOf_42 1 rfl rfl ?_
          refine kc_m_standWeight hk hK (pc := 43) (a0 := a0) (fun r h => cc_m_standWeight l G N μ a0 r h) dX6_personOf_43 ⟨Nat.le_of_ble_eq_true rfl, Nat.le_of_ble_eq_true rfl⟩ (Nat.le_of_ble_eq_true rfl) (fun r5 => ?_)
          refine jj_goto hk (pc := 46) 67 dX6_personOf_46 (by decide) ?_
          exact jm_retUi hk (pc := 67) dX6_personOf_67
      · refine jj_aload_n hk (pc := 27) dX6_personOf_27 0 rfl rfl ?_
        refine jj_iload_n hk (pc := 28) dX6_personOf_28 1 rfl rfl ?_
        refine jj_iload_n hk (pc := 29) dX6_personOf_29 2 rfl rfl ?_
        refine kc_m_its hk hK (pc := 30) (a0 := a0) (a1 := a1) (fun r h => cc_m_its l G μ a0 a1 r h) dX6_personOf_30 ⟨Nat.le_of_ble_eq_true rfl, Nat.le_of_ble_eq_true rfl⟩ (Nat.le_of_ble_eq_true rfl) (fun r6 => ?_)
        refine jj_goto hk (pc := 33) 67 dX6_personOf_33 (by decide) ?_
        exact jm_retUi hk (pc := 67) dX6_personOf_67
    · refine jj_iconst hk (pc := 20) (v := (-1 : Int32)) dX6_personOf_20 (by decide) ?_
      exact jm_retUi hk (pc := 21) dX6_personOf_21
end
section
variable {p : Program} {l : Launch} {e : Env} {R : Room} {s : State} {m : MethodId} {args : Array Value} {below : List Frame} {meth : Method} {c : Code}
variable {G : jG}
set_option maxHeartbeats 4000000 in
theorem cc_m_becomes (l : Launch) (G : jG)  (μ : MS) (a0 : Int32) (a1 : Int32) (res : (Int32 × MS)) (hf : m_becomes μ a0 a1 = some res) : jM l yX6_becomes (ws_ yX6_becomes cX6_becomes 4 (some .int)) 0 0 [.ref (gh G), .int a0, .int a1] (mWo G) (mnx G) (mK G) μ (jU res) (gA G) (gn G) := by
  refine jj_start [(0, .ref (gh G)), (1, .int a0), (2, .int a1)] (by decide) (Nat.le_of_ble_eq_true rfl) rfl (fun p e R s m args below meth c hk hK hsz => ?_) hf
  have hk : jk p R s m args meth c (gn G) cX6_becomes 4 RX6 0 0 (some .int) := hk
  unfold m_becomes
  refine jj_aload_n hk (pc := 0) dX6_becomes_0 0 rfl rfl ?_
  refine jm_g_s hk hK (pc := 1) dX6_becomes_1 ?_
  refine jj_iload_n hk (pc := 4) dX6_becomes_4 1 rfl rfl ?_
  refine jm_ld hk hK (pc := 5) (by decide) dX6_becomes_5 (fun v1 => ?_)
  refine jj_istore_n hk (pc := 6) [(3, .int v1), (0, .ref (gh G)), (1, .int a0), (2, .int a1)] dX6_becomes_6 rfl (Nat.le_of_ble_eq_true rfl) rfl ?_
  refine jj_aload_n hk (pc := 7) dX6_becomes_7 1 rfl rfl ?_
  refine jm_g_s hk hK (pc := 8) dX6_becomes_8 ?_
  refine jj_iload_n hk (pc := 11) dX6_becomes_11 2 rfl rfl ?_
  refine jj_iload_n hk (pc := 12) dX6_becomes_12 3 rfl rfl ?_
  refine jm_st hk hK (pc := 13) (by decide) dX6_becomes_13 (fun μ2 => ?_)
  refine jj_iload_n hk (pc := 14) dX6_becomes_14 0 rfl rfl ?_
  exact jm_retUi hk (pc := 15) dX6_becomes_15
end
section
variable {p : Program} {l : Launch} {e : Env} {R : Room} {s : State} {m : MethodId} {args : Array Value} {below : List Frame} {meth : Method} {c : Code}
variable {G : jG}
variable {NX : Nat} {Q : State → Prop} {nL : Nat} {cc : ByteArray} {fr lo frc loc : Nat} {ret : Option FieldType}
variable {pc : Nat} {μ : MS} {lv : List (Nat × Value)} {st : List Value} {ρ : Type} {res : ρ}
theorem kc_m_becomes (hk : jk p R s m args meth c NX cc nL RX6 fr lo ret) (hK : mK G s) {a0 : Int32} {a1 : Int32} {F : Option (Int32 × MS)} {K : (Int32 × MS) → Option ρ} (hM : ∀ r, F = some r → jM l yX6_becomes (ws_ yX6_becomes cX6_becomes 4 (some .int)) frc loc [.ref (gh G), .int a0, .int a1] (mWo G) (mnx G) (mK G) μ (jU r) (gA G) (gn G)) (hd : decode cc pc = .ok (.invokevirtual 111, 3)) (hr : frc + 1 ≤ fr ∧ 8 + (4 + 11) + loc ≤ lo) (hw : (st.map fun v => v.category).sum ≤ 8) (kk : ∀ r, jj p l e R s m args below meth c (gA G) NX Q (mWo G) (mnx G) nL r.2 (pc + 3) lv (.int r.1 :: st) (K r = some res)) : jj p l e R s m args below meth c (gA G) NX Q (mWo G) (mnx G) nL μ pc lv (.int a1 :: .int a0 :: .ref (gh G) :: st) (F.bind K = some res) :=
  jm_VUi (n := 2) hk hK [.int a0, .int a1] hM (lw_V q1749 q1751 qs63 q127 q1752) (by decide +kernel) rfl rfl hd hr hw kk
end
section
variable {p : Program} {l : Launch} {e : Env} {R : Room} {s : State} {m : MethodId} {args : Array Value} {below : List Frame} {meth : Method} {c : Code}
variable {G : jG}
set_option maxHeartbeats 4000000 in
theorem cc_m_change (l : Launch) (G : jG)  (μ : MS) (a0 : Int32) (a1 : Int32) (a2 : Int32) (res : (Int32 × MS)) (hf : m_change μ a0 a1 a2 = some res) : jM l yX6_change (ws_ yX6_change cX6_change 4 (some .int)) 2 46 [.ref (gh G), .int a0, .int a1, .int a2] (mWo G) (mnx G) (mK G) μ (jU res) (gA G) (gn G) := by
  refine jj_start [(0, .ref (gh G)), (1, .int a0), (2, .int a1), (3, .int a2)] (by decide) (Nat.le_of_ble_eq_true rfl) rfl (fun p e R s m args below meth c hk hK hsz => ?_) hf
  have hk : jk p R s m args meth c (gn G) cX6_change 4 RX6 2 46 (some .int) := hk
  unfold m_change
  refine jj_aload_n hk (pc := 0) dX6_change_0 0 rfl rfl ?_
  refine jj_iload_n hk (pc := 1) dX6_change_1 1 rfl rfl ?_
  refine kc_m_isPerson hk hK (pc := 2) (a0 := a0) (fun r h => cc_m_isPerson l G μ a0 r h) dX6_change_2 ⟨Nat.le_of_ble_eq_true rfl, Nat.le_of_ble_eq_true rfl⟩ (Nat.le_of_ble_eq_true rfl) (fun r1 => ?_)
  refine jj_if_eq_b hk (pc := 5) 45 dX6_change_5 (by decide) ?_ ?_
  · refine jj_iconst hk (pc := 45) (v := (-1 : Int32)) dX6_change_45 (by decide) ?_
    exact jm_retUi hk (pc := 46) dX6_change_46
  · refine jj_iload_n hk (pc := 8) dX6_change_8 2 rfl rfl ?_
    refine jj_i2l hk (pc := 9) dX6_change_9 ?_
    refine jj_lconst hk (pc := 10) (v := (1 : Int64)) dX6_change_10 (by decide) ?_
    refine jj_ldc2_w hk (pc := 11) q1748 dX6_change_11 ?_
    refine kc_m_in hk hK (pc := 14) (a0 := a1.toInt64) (a1 := (1 : Int64)) (a2 := (2 : Int64)) (fun r h => cc_m_in l G μ a1.toInt64 (1 : Int64) (2 : Int64) r h) dX6_change_14 ⟨Nat.le_of_ble_eq_true rfl, Nat.le_of_ble_eq_true rfl⟩ (Nat.le_of_ble_eq_true rfl) (fun r2 => ?_)
    refine jj_if_eq_b hk (pc := 17) 45 dX6_change_17 (by decide) ?_ ?_
    · refine jj_iconst hk (pc := 45) (v := (-1 : Int32)) dX6_change_45 (by decide) ?_
      exact jm_retUi hk (pc := 46) dX6_change_46
    · refine jj_iload_n hk (pc := 20) dX6_change_20 3 rfl rfl ?_
      refine jj_i2l hk (pc := 21) dX6_change_21 ?_
      refine jj_lconst hk (pc := 22) (v := (1 : Int64)) dX6_change_22 (by decide) ?_
      refine jj_ldc2_w hk (pc := 23) q1685 dX6_change_23 ?_
      refine kc_m_in hk hK (pc := 26) (a0 := a2.toInt64) (a1 := (1 : Int64)) (a2 := (9 : Int64)) (fun r h => cc_m_in l G μ a2.toInt64 (1 : Int64) (9 : Int64) r h) dX6_change_26 ⟨Nat.le_of_ble_eq_true rfl, Nat.le_of_ble_eq_true rfl⟩ (Nat.le_of_ble_eq_true rfl) (fun r3 => ?_)
      refine jj_if_eq_b hk (pc := 29) 45 dX6_change_29 (by decide) ?_ ?_
      · refine jj_iconst hk (pc := 45) (v := (-1 : Int32)) dX6_change_45 (by decide) ?_
        exact jm_retUi hk (pc := 46) dX6_change_46
      · refine jj_aload_n hk (pc := 32) dX6_change_32 0 rfl rfl ?_
        refine jj_iload_n hk (pc := 33) dX6_change_33 1 rfl rfl ?_
        refine jj_iload_n hk (pc := 34) dX6_change_34 2 rfl rfl ?_
        refine kc_m_at hk hK (pc := 35) (a0 := a0) (a1 := a1) (fun r h => cc_m_at l G μ a0 a1 r h) dX6_change_35 ⟨Nat.le_of_ble_eq_true rfl, Nat.le_of_ble_eq_true rfl⟩ (Nat.le_of_ble_eq_true rfl) (fun r4 => ?_)
        refine jj_iload_n hk (pc := 38) dX6_change_38 3 rfl rfl ?_
        refine kc_m_becomes hk hK (pc := 39) (a0 := r4) (a1 := a2) (fun r h => cc_m_becomes l G μ r4 a2 r h) dX6_change_39 ⟨Nat.le_of_ble_eq_true rfl, Nat.le_of_ble_eq_true rfl⟩ (Nat.le_of_ble_eq_true rfl) (fun r5 => ?_)
        refine jj_goto hk (pc := 42) 46 dX6_change_42 (by decide) ?_
        exact jm_retUi hk (pc := 46) dX6_change_46
end
section
variable {p : Program} {l : Launch} {e : Env} {R : Room} {s : State} {m : MethodId} {args : Array Value} {below : List Frame} {meth : Method} {c : Code}
variable {G : jG}
set_option maxHeartbeats 4000000 in
theorem cc_m_remake (l : Launch) (G : jG)  (μ : MS) (a0 : Int32) (a1 : Int32) (res : (Int32 × MS)) (hf : m_remake μ a0 a1 = some res) : jM l yX6_remake (ws_ yX6_remake cX6_remake 3 (some .int)) 2 46 [.ref (gh G), .int a0, .int a1] (mWo G) (mnx G) (mK G) μ (jU res) (gA G) (gn G) := by
  refine jj_start [(0, .ref (gh G)), (1, .int a0), (2, .int a1)] (by decide) (Nat.le_of_ble_eq_true rfl) rfl (fun p e R s m args below meth c hk hK hsz => ?_) hf
  have hk : jk p R s m args meth c (gn G) cX6_remake 3 RX6 2 46 (some .int) := hk
  unfold m_remake
  refine jj_aload_n hk (pc := 0) dX6_remake_0 0 rfl rfl ?_
  refine jj_iload_n hk (pc := 1) dX6_remake_1 1 rfl rfl ?_
  refine kc_m_isPerson hk hK (pc := 2) (a0 := a0) (fun r h => cc_m_isPerson l G μ a0 r h) dX6_remake_2 ⟨Nat.le_of_ble_eq_true rfl, Nat.le_of_ble_eq_true rfl⟩ (Nat.le_of_ble_eq_true rfl) (fun r1 => ?_)
  refine jj_if_eq_b hk (pc := 5) 28 dX6_remake_5 (by decide) ?_ ?_
  · refine jj_iconst hk (pc := 28) (v := (-1 : Int32)) dX6_remake_28 (by decide) ?_
    exact jm_retUi hk (pc := 29) dX6_remake_29
  · refine jj_iload_n hk (pc := 8) dX6_remake_8 2 rfl rfl ?_
    refine kc_m_isKind hk hK (pc := 9) (a0 := a1) (fun r h => cc_m_isKind l G μ a1 r h) dX6_remake_9 ⟨Nat.le_of_ble_eq_true rfl, Nat.le_of_ble_eq_true rfl⟩ (Nat.le_of_ble_eq_true rfl) (fun r2 => ?_)
    refine jj_if_eq_b hk (pc := 12) 28 dX6_remake_12 (by decide) ?_ ?_
    · refine jj_iconst hk (pc := 28) (v := (-1 : Int32)) dX6_remake_28 (by decide) ?_
      exact jm_retUi hk (pc := 29) dX6_remake_29
    · refine jj_aload_n hk (pc := 15) dX6_remake_15 0 rfl rfl ?_
      refine jj_iload_n hk (pc := 16) dX6_remake_16 1 rfl rfl ?_
      refine jj_iconst hk (pc := 17) (v := (0 : Int32)) dX6_remake_17 (by decide) ?_
      refine kc_m_at hk hK (pc := 18) (a0 := a0) (a1 := (0 : Int32)) (fun r h => cc_m_at l G μ a0 (0 : Int32) r h) dX6_remake_18 ⟨Nat.le_of_ble_eq_true rfl, Nat.le_of_ble_eq_true rfl⟩ (Nat.le_of_ble_eq_true rfl) (fun r3 => ?_)
      refine jj_iload_n hk (pc := 21) dX6_remake_21 2 rfl rfl ?_
      refine kc_m_becomes hk hK (pc := 22) (a0 := r3) (a1 := a1) (fun r h => cc_m_becomes l G μ r3 a1 r h) dX6_remake_22 ⟨Nat.le_of_ble_eq_true rfl, Nat.le_of_ble_eq_true rfl⟩ (Nat.le_of_ble_eq_true rfl) (fun r4 => ?_)
      refine jj_goto hk (pc := 25) 29 dX6_remake_25 (by decide) ?_
      exact jm_retUi hk (pc := 29) dX6_remake_29
end
section
variable {p : Program} {l : Launch} {e : Env} {R : Room} {s : State} {m : MethodId} {args : Array Value} {below : List Frame} {meth : Method} {c : Code}
variable {G : jG}
set_option maxHeartbeats 4000000 in
theorem cc_m_isDeed (l : Launch) (G : jG)  (μ : MS) (a0 : Int32) (res : Bool) (hf : m_isDeed μ a0 = some res) : jM l yX6_isDeed (ws_ yX6_isDeed cX6_isDeed 2 (some .boolean)) 1 25 [.ref (gh G), .int a0] (mWo G) (mnx G) (mK G) μ (jRz μ res) (gA G) (gn G) := by
  refine jj_start [(0, .ref (gh G)), (1, .int a0)] (by decide) (Nat.le_of_ble_eq_true rfl) rfl (fun p e R s m args below meth c hk hK hsz => ?_) hf
  have hk : jk p R s m args meth c (gn G) cX6_isDeed 2 RX6 1 25 (some .boolean) := hk
  unfold m_isDeed
  refine jj_iload_n hk (pc := 0) dX6_isDeed_0 1 rfl rfl ?_
  refine jj_i2l hk (pc := 1) dX6_isDeed_1 ?_
  refine jj_lconst hk (pc := 2) (v := (0 : Int64)) dX6_isDeed_2 (by decide) ?_
  refine jj_aload_n hk (pc := 3) dX6_isDeed_3 0 rfl rfl ?_
  refine jm_g_s hk hK (pc := 4) dX6_isDeed_4 ?_
  refine jj_iconst hk (pc := 7) (v := (5 : Int32)) dX6_isDeed_7 (by decide) ?_
  refine jm_ld hk hK (pc := 8) (by decide) dX6_isDeed_8 (fun v1 => ?_)
  refine jj_iconst hk (pc := 9) (v := (1 : Int32)) dX6_isDeed_9 (by decide) ?_
  refine jj_isub hk (pc := 10) dX6_isDeed_10 ?_
  refine jj_i2l hk (pc := 11) dX6_isDeed_11 ?_
  refine kc_m_in hk hK (pc := 12) (a0 := a0.toInt64) (a1 := (0 : Int64)) (a2 := ((v1 - (1 : Int32)).toInt64)) (fun r h => cc_m_in l G μ a0.toInt64 (0 : Int64) ((v1 - (1 : Int32)).toInt64) r h) dX6_isDeed_12 ⟨Nat.le_of_ble_eq_true rfl, Nat.le_of_ble_eq_true rfl⟩ (Nat.le_of_ble_eq_true rfl) (fun r2 => ?_)
  exact jm_retRz hk (pc := 15) (b := r2) dX6_isDeed_15
end
section
variable {p : Program} {l : Launch} {e : Env} {R : Room} {s : State} {m : MethodId} {args : Array Value} {below : List Frame} {meth : Method} {c : Code}
variable {G : jG}
variable {NX : Nat} {Q : State → Prop} {nL : Nat} {cc : ByteArray} {fr lo frc loc : Nat} {ret : Option FieldType}
variable {pc : Nat} {μ : MS} {lv : List (Nat × Value)} {st : List Value} {ρ : Type} {res : ρ}
theorem kc_m_isDeed (hk : jk p R s m args meth c NX cc nL RX6 fr lo ret) (hK : mK G s) {a0 : Int32} {F : Option Bool} {K : Bool → Option ρ} (hM : ∀ r, F = some r → jM l yX6_isDeed (ws_ yX6_isDeed cX6_isDeed 2 (some .boolean)) frc loc [.ref (gh G), .int a0] (mWo G) (mnx G) (mK G) μ (jRz μ r) (gA G) (gn G)) (hd : decode cc pc = .ok (.invokevirtual 116, 3)) (hr : frc + 1 ≤ fr ∧ 8 + (2 + 11) + loc ≤ lo) (hw : (st.map fun v => v.category).sum ≤ 8) (kk : ∀ r, jj p l e R s m args below meth c (gA G) NX Q (mWo G) (mnx G) nL μ (pc + 3) lv (.int (bI r) :: st) (K r = some res)) : jj p l e R s m args below meth c (gA G) NX Q (mWo G) (mnx G) nL μ pc lv (.int a0 :: .ref (gh G) :: st) (F.bind K = some res) :=
  jm_VRz (n := 1) hk hK [.int a0] hM (lw_V q1762 q1764 qs64 q127 q1765) (by decide +kernel) rfl rfl hd hr hw kk
end
section
variable {p : Program} {l : Launch} {e : Env} {R : Room} {s : State} {m : MethodId} {args : Array Value} {below : List Frame} {meth : Method} {c : Code}
variable {G : jG}
set_option maxHeartbeats 4000000 in
theorem wb_m_deed_B49 {res : (Int32 × MS)} (hk : jk p R s m args meth c (gn G) cX6_deed 6 RX6 2 46 (some .int)) (hK : mK G s)  (μ : MS) (x1 : Int32) (x2 : Int32) (x3 : Int32) (x4 : Int32) : jj p l e R s m args below meth c (gA G) (gn G) (jZ below args s (gA G) (gn G) (jU res) (mWo G) (mnx G)) (mWo G) (mnx G) 6 μ 49 [(0, .ref (gh G)), (1, .int x1), (2, .int x2), (3, .int x3), (4, .int x4)] [] (m_deed_B49 μ x1 x2 x3 x4 = some res) := by
  unfold m_deed_B49
  refine jj_aload_n hk (pc := 49) dX6_deed_49 0 rfl rfl ?_
  refine jm_g_s hk hK (pc := 50) dX6_deed_50 ?_
  refine jj_iconst hk (pc := 53) (v := (5 : Int32)) dX6_deed_53 (by decide) ?_
  refine jm_ld hk hK (pc := 54) (by decide) dX6_deed_54 (fun v1 => ?_)
  refine jj_bipush hk (pc := 55) (v := (10 : Int32)) dX6_deed_55 (by decide) ?_
  refine jj_icmp_ne hk (pc := 57) 63 dX6_deed_57 (by decide) ?_ ?_
  · refine jj_iload_n hk (pc := 63) dX6_deed_63 2 rfl rfl ?_
    refine jj_aload_n hk (pc := 64) dX6_deed_64 0 rfl rfl ?_
    refine jm_g_s hk hK (pc := 65) dX6_deed_65 ?_
    refine jj_iconst hk (pc := 68) (v := (3 : Int32)) dX6_deed_68 (by decide) ?_
    refine jm_ld hk hK (pc := 69) (by decide) dX6_deed_69 (fun v2 => ?_)
    refine jj_icmp_ge hk (pc := 70) 76 dX6_deed_70 (by decide) ?_ ?_
    · refine jj_aload_n hk (pc := 76) dX6_deed_76 0 rfl rfl ?_
      refine jm_g_s hk hK (pc := 77) dX6_deed_77 ?_
      refine jj_iconst hk (pc := 80) (v := (5 : Int32)) dX6_deed_80 (by decide) ?_
      refine jm_ld hk hK (pc := 81) (by decide) dX6_deed_81 (fun v3 => ?_)
      refine jj_istore hk (pc := 82) [(5, .int v3), (0, .ref (gh G)), (1, .int x1), (2, .int x2), (3, .int x3), (4, .int x4)] dX6_deed_82 (Nat.le_of_ble_eq_true rfl) rfl ?_
      refine jj_aload_n hk (pc := 84) dX6_deed_84 1 rfl rfl ?_
      refine jm_g_s hk hK (pc := 85) dX6_deed_85 ?_
      refine jj_iload hk (pc := 88) dX6_deed_88 0 rfl ?_
      refine jj_iconst hk (pc := 90) (v := (0 : Int32)) dX6_deed_90 (by decide) ?_
      refine kc_m_spot hk hK (pc := 91) (a0 := v3) (a1 := (0 : Int32)) (fun r h => cc_m_spot l G μ v3 (0 : Int32) r h) dX6_deed_91 ⟨Nat.le_of_ble_eq_true rfl, Nat.le_of_ble_eq_true rfl⟩ (Nat.le_of_ble_eq_true rfl) (fun r4 => ?_)
      refine jj_iload_n hk (pc := 94) dX6_deed_94 2 rfl rfl ?_
      refine jm_st hk hK (pc := 95) (by decide) dX6_deed_95 (fun μ5 => ?_)
      refine jj_aload_n hk (pc := 96) dX6_deed_96 1 rfl rfl ?_
      refine jm_g_s hk hK (pc := 97) dX6_deed_97 ?_
      refine jj_iload hk (pc := 100) dX6_deed_100 0 rfl ?_
      refine jj_iconst hk (pc := 102) (v := (1 : Int32)) dX6_deed_102 (by decide) ?_
      refine kc_m_spot hk hK (pc := 103) (a0 := v3) (a1 := (1 : Int32)) (fun r h => cc_m_spot l G μ5 v3 (1 : Int32) r h) dX6_deed_103 ⟨Nat.le_of_ble_eq_true rfl, Nat.le_of_ble_eq_true rfl⟩ (Nat.le_of_ble_eq_true rfl) (fun r6 => ?_)
      refine jj_iload_n hk (pc := 106) dX6_deed_106 3 rfl rfl ?_
      refine jm_st hk hK (pc := 107) (by decide) dX6_deed_107 (fun μ7 => ?_)
      refine jj_aload_n hk (pc := 108) dX6_deed_108 1 rfl rfl ?_
      refine jm_g_s hk hK (pc := 109) dX6_deed_109 ?_
      refine jj_iload hk (pc := 112) dX6_deed_112 0 rfl ?_
      refine jj_iconst hk (pc := 114) (v := (2 : Int32)) dX6_deed_114 (by decide) ?_
      refine kc_m_spot hk hK (pc := 115) (a0 := v3) (a1 := (2 : Int32)) (fun r h => cc_m_spot l G μ7 v3 (2 : Int32) r h) dX6_deed_115 ⟨Nat.le_of_ble_eq_true rfl, Nat.le_of_ble_eq_true rfl⟩ (Nat.le_of_ble_eq_true rfl) (fun r8 => ?_)
      refine jj_iload_n hk (pc := 118) dX6_deed_118 4 rfl rfl ?_
      refine jm_st hk hK (pc := 119) (by decide) dX6_deed_119 (fun μ9 => ?_)
      refine jj_aload_n hk (pc := 120) dX6_deed_120 1 rfl rfl ?_
      refine jm_g_s hk hK (pc := 121) dX6_deed_121 ?_
      refine jj_iload hk (pc := 124) dX6_deed_124 0 rfl ?_
      refine jj_iconst hk (pc := 126) (v := (3 : Int32)) dX6_deed_126 (by decide) ?_
      refine kc_m_spot hk hK (pc := 127) (a0 := v3) (a1 := (3 : Int32)) (fun r h => cc_m_spot l G μ9 v3 (3 : Int32) r h) dX6_deed_127 ⟨Nat.le_of_ble_eq_true rfl, Nat.le_of_ble_eq_true rfl⟩ (Nat.le_of_ble_eq_true rfl) (fun r10 => ?_)
      refine jj_iload hk (pc := 130) dX6_deed_130 5 rfl ?_
      refine jm_st hk hK (pc := 132) (by decide) dX6_deed_132 (fun μ11 => ?_)
      refine jj_aload_n hk (pc := 133) dX6_deed_133 1 rfl rfl ?_
      refine jm_g_s hk hK (pc := 134) dX6_deed_134 ?_
      refine jj_iload hk (pc := 137) dX6_deed_137 0 rfl ?_
      refine jj_iconst hk (pc := 139) (v := (4 : Int32)) dX6_deed_139 (by decide) ?_
      refine kc_m_spot hk hK (pc := 140) (a0 := v3) (a1 := (4 : Int32)) (fun r h => cc_m_spot l G μ11 v3 (4 : Int32) r h) dX6_deed_140 ⟨Nat.le_of_ble_eq_true rfl, Nat.le_of_ble_eq_true rfl⟩ (Nat.le_of_ble_eq_true rfl) (fun r12 => ?_)
      refine jj_iconst hk (pc := 143) (v := (0 : Int32)) dX6_deed_143 (by decide) ?_
      refine jm_st hk hK (pc := 144) (by decide) dX6_deed_144 (fun μ13 => ?_)
      refine jj_aload_n hk (pc := 145) dX6_deed_145 1 rfl rfl ?_
      refine jm_g_s hk hK (pc := 146) dX6_deed_146 ?_
      refine jj_iconst hk (pc := 149) (v := (5 : Int32)) dX6_deed_149 (by decide) ?_
      refine jj_dup2 hk (pc := 150) dX6_deed_150 rfl rfl ?_
      refine jm_ld hk hK (pc := 151) (by decide) dX6_deed_151 (fun v14 => ?_)
      refine jj_iconst hk (pc := 152) (v := (1 : Int32)) dX6_deed_152 (by decide) ?_
      refine jj_iadd hk (pc := 153) dX6_deed_153 ?_
      refine jm_st hk hK (pc := 154) (by decide) dX6_deed_154 (fun μ15 => ?_)
      refine jj_iload hk (pc := 155) dX6_deed_155 0 rfl ?_
      exact jm_retUi hk (pc := 157) dX6_deed_157
    · refine jj_bipush hk (pc := 73) (v := (-4 : Int32)) dX6_deed_73 (by decide) ?_
      exact jm_retUi hk (pc := 75) dX6_deed_75
  · refine jj_bipush hk (pc := 60) (v := (-2 : Int32)) dX6_deed_60 (by decide) ?_
    exact jm_retUi hk (pc := 62) dX6_deed_62
set_option maxHeartbeats 4000000 in
theorem cc_m_deed (l : Launch) (G : jG)  (μ : MS) (a0 : Int32) (a1 : Int32) (a2 : Int32) (a3 : Int32) (res : (Int32 × MS)) (hf : m_deed μ a0 a1 a2 a3 = some res) : jM l yX6_deed (ws_ yX6_deed cX6_deed 6 (some .int)) 2 46 [.ref (gh G), .int a0, .int a1, .int a2, .int a3] (mWo G) (mnx G) (mK G) μ (jU res) (gA G) (gn G) := by
  refine jj_start [(0, .ref (gh G)), (1, .int a0), (2, .int a1), (3, .int a2), (4, .int a3)] (by decide) (Nat.le_of_ble_eq_true rfl) rfl (fun p e R s m args below meth c hk hK hsz => ?_) hf
  have hk : jk p R s m args meth c (gn G) cX6_deed 6 RX6 2 46 (some .int) := hk
  unfold m_deed
  refine jj_aload_n hk (pc := 0) dX6_deed_0 0 rfl rfl ?_
  refine jj_iload_n hk (pc := 1) dX6_deed_1 1 rfl rfl ?_
  refine kc_m_isPerson hk hK (pc := 2) (a0 := a0) (fun r h => cc_m_isPerson l G μ a0 r h) dX6_deed_2 ⟨Nat.le_of_ble_eq_true rfl, Nat.le_of_ble_eq_true rfl⟩ (Nat.le_of_ble_eq_true rfl) (fun r1 => ?_)
  refine jj_if_eq_b hk (pc := 5) 47 dX6_deed_5 (by decide) ?_ ?_
  · refine jj_iconst hk (pc := 47) (v := (-1 : Int32)) dX6_deed_47 (by decide) ?_
    exact jm_retUi hk (pc := 48) dX6_deed_48
  · refine jj_iload_n hk (pc := 8) dX6_deed_8 2 rfl rfl ?_
    refine jj_i2l hk (pc := 9) dX6_deed_9 ?_
    refine jj_lconst hk (pc := 10) (v := (0 : Int64)) dX6_deed_10 (by decide) ?_
    refine jj_ldc2_w hk (pc := 11) q1761 dX6_deed_11 ?_
    refine kc_m_in hk hK (pc := 14) (a0 := a1.toInt64) (a1 := (0 : Int64)) (a2 := (15 : Int64)) (fun r h => cc_m_in l G μ a1.toInt64 (0 : Int64) (15 : Int64) r h) dX6_deed_14 ⟨Nat.le_of_ble_eq_true rfl, Nat.le_of_ble_eq_true rfl⟩ (Nat.le_of_ble_eq_true rfl) (fun r2 => ?_)
    refine jj_if_eq_b hk (pc := 17) 47 dX6_deed_17 (by decide) ?_ ?_
    · refine jj_iconst hk (pc := 47) (v := (-1 : Int32)) dX6_deed_47 (by decide) ?_
      exact jm_retUi hk (pc := 48) dX6_deed_48
    · refine jj_iload_n hk (pc := 20) dX6_deed_20 3 rfl rfl ?_
      refine jj_i2l hk (pc := 21) dX6_deed_21 ?_
      refine jj_lconst hk (pc := 22) (v := (1 : Int64)) dX6_deed_22 (by decide) ?_
      refine jj_ldc2_w hk (pc := 23) q1685 dX6_deed_23 ?_
      refine kc_m_in hk hK (pc := 26) (a0 := a2.toInt64) (a1 := (1 : Int64)) (a2 := (9 : Int64)) (fun r h => cc_m_in l G μ a2.toInt64 (1 : Int64) (9 : Int64) r h) dX6_deed_26 ⟨Nat.le_of_ble_eq_true rfl, Nat.le_of_ble_eq_true rfl⟩ (Nat.le_of_ble_eq_true rfl) (fun r3 => ?_)
      refine jj_if_eq_b hk (pc := 29) 47 dX6_deed_29 (by decide) ?_ ?_
      · refine jj_iconst hk (pc := 47) (v := (-1 : Int32)) dX6_deed_47 (by decide) ?_
        exact jm_retUi hk (pc := 48) dX6_deed_48
      · refine jj_iload hk (pc := 32) dX6_deed_32 4 rfl ?_
        refine jj_iconst hk (pc := 34) (v := (-1 : Int32)) dX6_deed_34 (by decide) ?_
        refine jj_icmp_eq hk (pc := 35) 49 dX6_deed_35 (by decide) ?_ ?_
        · refine jj_loc [(0, .ref (gh G)), (1, .int a0), (2, .int a1), (3, .int a2), (4, .int a3)] [0, 1, 2, 3, 4] rfl ?_
          exact wb_m_deed_B49 hk hK μ a0 a1 a2 a3
        · refine jj_aload_n hk (pc := 38) dX6_deed_38 0 rfl rfl ?_
          refine jj_iload hk (pc := 39) dX6_deed_39 4 rfl ?_
          refine kc_m_isDeed hk hK (pc := 41) (a0 := a3) (fun r h => cc_m_isDeed l G μ a3 r h) dX6_deed_41 ⟨Nat.le_of_ble_eq_true rfl, Nat.le_of_ble_eq_true rfl⟩ (Nat.le_of_ble_eq_true rfl) (fun r4 => ?_)
          refine jj_if_ne_b hk (pc := 44) 49 dX6_deed_44 (by decide) ?_ ?_
          · refine jj_loc [(0, .ref (gh G)), (1, .int a0), (2, .int a1), (3, .int a2), (4, .int a3)] [0, 1, 2, 3, 4] rfl ?_
            exact wb_m_deed_B49 hk hK μ a0 a1 a2 a3
          · refine jj_iconst hk (pc := 47) (v := (-1 : Int32)) dX6_deed_47 (by decide) ?_
            exact jm_retUi hk (pc := 48) dX6_deed_48
end
section
variable {p : Program} {l : Launch} {e : Env} {R : Room} {s : State} {m : MethodId} {args : Array Value} {below : List Frame} {meth : Method} {c : Code}
variable {G : jG}
set_option maxHeartbeats 4000000 in
theorem cc_m_deedOf (l : Launch) (G : jG)  (μ : MS) (a0 : Int32) (a1 : Int32) (res : Int32) (hf : m_deedOf μ a0 a1 = some res) : jM l yX6_deedOf (ws_ yX6_deedOf cX6_deedOf 3 (some .int)) 3 65 [.ref (gh G), .int a0, .int a1] (mWo G) (mnx G) (mK G) μ (jR μ res) (gA G) (gn G) := by
  refine jj_start [(0, .ref (gh G)), (1, .int a0), (2, .int a1)] (by decide) (Nat.le_of_ble_eq_true rfl) rfl (fun p e R s m args below meth c hk hK hsz => ?_) hf
  have hk : jk p R s m args meth c (gn G) cX6_deedOf 3 RX6 3 65 (some .int) := hk
  unfold m_deedOf
  refine jj_aload_n hk (pc := 0) dX6_deedOf_0 0 rfl rfl ?_
  refine jj_iload_n hk (pc := 1) dX6_deedOf_1 1 rfl rfl ?_
  refine kc_m_isDeed hk hK (pc := 2) (a0 := a0) (fun r h => cc_m_isDeed l G μ a0 r h) dX6_deedOf_2 ⟨Nat.le_of_ble_eq_true rfl, Nat.le_of_ble_eq_true rfl⟩ (Nat.le_of_ble_eq_true rfl) (fun r1 => ?_)
  refine jj_if_eq_b hk (pc := 5) 20 dX6_deedOf_5 (by decide) ?_ ?_
  · refine jj_iconst hk (pc := 20) (v := (-1 : Int32)) dX6_deedOf_20 (by decide) ?_
    refine jj_goto hk (pc := 21) 43 dX6_deedOf_21 (by decide) ?_
    exact jm_retRi hk (pc := 43) dX6_deedOf_43
  · refine jj_iload_n hk (pc := 8) dX6_deedOf_8 2 rfl rfl ?_
    refine jj_i2l hk (pc := 9) dX6_deedOf_9 ?_
    refine jj_lconst hk (pc := 10) (v := (0 : Int64)) dX6_deedOf_10 (by decide) ?_
    refine jj_ldc2_w hk (pc := 11) q1681 dX6_deedOf_11 ?_
    refine kc_m_in hk hK (pc := 14) (a0 := a1.toInt64) (a1 := (0 : Int64)) (a2 := (5 : Int64)) (fun r h => cc_m_in l G μ a1.toInt64 (0 : Int64) (5 : Int64) r h) dX6_deedOf_14 ⟨Nat.le_of_ble_eq_true rfl, Nat.le_of_ble_eq_true rfl⟩ (Nat.le_of_ble_eq_true rfl) (fun r2 => ?_)
    refine jj_if_ne_b hk (pc := 17) 24 dX6_deedOf_17 (by decide) ?_ ?_
    · refine jj_iload_n hk (pc := 24) dX6_deedOf_24 2 rfl rfl ?_
      refine jj_iconst hk (pc := 25) (v := (5 : Int32)) dX6_deedOf_25 (by decide) ?_
      refine jj_icmp_ne hk (pc := 26) 37 dX6_deedOf_26 (by decide) ?_ ?_
      · refine jj_aload_n hk (pc := 37) dX6_deedOf_37 0 rfl rfl ?_
        refine jj_iload_n hk (pc := 38) dX6_deedOf_38 1 rfl rfl ?_
        refine jj_iload_n hk (pc := 39) dX6_deedOf_39 2 rfl rfl ?_
        refine kc_m_deedIs hk hK (pc := 40) (a0 := a0) (a1 := a1) (fun r h => cc_m_deedIs l G μ a0 a1 r h) dX6_deedOf_40 ⟨Nat.le_of_ble_eq_true rfl, Nat.le_of_ble_eq_true rfl⟩ (Nat.le_of_ble_eq_true rfl) (fun r3 => ?_)
        exact jm_retRi hk (pc := 43) dX6_deedOf_43
      · refine jj_aload_n hk (pc := 29) dX6_deedOf_29 0 rfl rfl ?_
        refine jj_iload_n hk (pc := 30) dX6_deedOf_30 1 rfl rfl ?_
        refine kc_m_due hk hK (pc := 31) (a0 := a0) (fun r h => cc_m_due l G μ a0 r h) dX6_deedOf_31 ⟨Nat.le_of_ble_eq_true rfl, Nat.le_of_ble_eq_true rfl⟩ (Nat.le_of_ble_eq_true rfl) (fun r4 => ?_)
        refine jj_goto hk (pc := 34) 43 dX6_deedOf_34 (by decide) ?_
        exact jm_retRi hk (pc := 43) dX6_deedOf_43
    · refine jj_iconst hk (pc := 20) (v := (-1 : Int32)) dX6_deedOf_20 (by decide) ?_
      refine jj_goto hk (pc := 21) 43 dX6_deedOf_21 (by decide) ?_
      exact jm_retRi hk (pc := 43) dX6_deedOf_43
end
section
variable {p : Program} {l : Launch} {e : Env} {R : Room} {s : State} {m : MethodId} {args : Array Value} {below : List Frame} {meth : Method} {c : Code}
variable {G : jG}
set_option maxHeartbeats 4000000 in
theorem cc_m_ends (l : Launch) (G : jG)  (μ : MS) (a0 : Int32) (res : (Int32 × MS)) (hf : m_ends μ a0 = some res) : jM l yX6_ends (ws_ yX6_ends cX6_ends 2 (some .int)) 1 25 [.ref (gh G), .int a0] (mWo G) (mnx G) (mK G) μ (jU res) (gA G) (gn G) := by
  refine jj_start [(0, .ref (gh G)), (1, .int a0)] (by decide) (Nat.le_of_ble_eq_true rfl) rfl (fun p e R s m args below meth c hk hK hsz => ?_) hf
  have hk : jk p R s m args meth c (gn G) cX6_ends 2 RX6 1 25 (some .int) := hk
  unfold m_ends
  refine jj_iload_n hk (pc := 0) dX6_ends_0 1 rfl rfl ?_
  refine jj_i2l hk (pc := 1) dX6_ends_1 ?_
  refine jj_lconst hk (pc := 2) (v := (1 : Int64)) dX6_ends_2 (by decide) ?_
  refine jj_ldc2_w hk (pc := 3) q1774 dX6_ends_3 ?_
  refine kc_m_in hk hK (pc := 6) (a0 := a0.toInt64) (a1 := (1 : Int64)) (a2 := (16 : Int64)) (fun r h => cc_m_in l G μ a0.toInt64 (1 : Int64) (16 : Int64) r h) dX6_ends_6 ⟨Nat.le_of_ble_eq_true rfl, Nat.le_of_ble_eq_true rfl⟩ (Nat.le_of_ble_eq_true rfl) (fun r1 => ?_)
  refine jj_if_ne_b hk (pc := 9) 16 dX6_ends_9 (by decide) ?_ ?_
  · refine jj_iload_n hk (pc := 16) dX6_ends_16 1 rfl rfl ?_
    refine jj_aload_n hk (pc := 17) dX6_ends_17 0 rfl rfl ?_
    refine jm_g_s hk hK (pc := 18) dX6_ends_18 ?_
    refine jj_iconst hk (pc := 21) (v := (3 : Int32)) dX6_ends_21 (by decide) ?_
    refine jm_ld hk hK (pc := 22) (by decide) dX6_ends_22 (fun v2 => ?_)
    refine jj_icmp_ge hk (pc := 23) 31 dX6_ends_23 (by decide) ?_ ?_
    · refine jj_aload_n hk (pc := 31) dX6_ends_31 0 rfl rfl ?_
      refine jj_iconst hk (pc := 32) (v := (2 : Int32)) dX6_ends_32 (by decide) ?_
      refine jj_iload_n hk (pc := 33) dX6_ends_33 1 rfl rfl ?_
      refine kc_m_becomes hk hK (pc := 34) (a0 := (2 : Int32)) (a1 := a0) (fun r h => cc_m_becomes l G μ (2 : Int32) a0 r h) dX6_ends_34 ⟨Nat.le_of_ble_eq_true rfl, Nat.le_of_ble_eq_true rfl⟩ (Nat.le_of_ble_eq_true rfl) (fun r3 => ?_)
      exact jm_retUi hk (pc := 37) dX6_ends_37
    · refine jj_bipush hk (pc := 26) (v := (-4 : Int32)) dX6_ends_26 (by decide) ?_
      refine jj_goto hk (pc := 28) 37 dX6_ends_28 (by decide) ?_
      exact jm_retUi hk (pc := 37) dX6_ends_37
  · refine jj_iconst hk (pc := 12) (v := (-1 : Int32)) dX6_ends_12 (by decide) ?_
    refine jj_goto hk (pc := 13) 37 dX6_ends_13 (by decide) ?_
    exact jm_retUi hk (pc := 37) dX6_ends_37
end
section
variable {p : Program} {l : Launch} {e : Env} {R : Room} {s : State} {m : MethodId} {args : Array Value} {below : List Frame} {meth : Method} {c : Code}
variable {G : jG}
set_option maxHeartbeats 4000000 in
theorem wb_m_anew_L2 {res : (Int32 × MS)} (hk : jk p R s m args meth c (gn G) cX6_anew 2 RX6 1 23 (some .int)) (hK : mK G s) (N : Nat) : ∀ (n : Nat) (μ : MS) (x1 : Int32), jj p l e R s m args below meth c (gA G) (gn G) (jZ below args s (gA G) (gn G) (jU res) (mWo G) (mnx G)) (mWo G) (mnx G) 2 μ 2 [(0, .ref (gh G)), (1, .int x1)] [] (m_anew_L2 N n μ x1 = some res) := by
  intro n
  induction n with
  | zero => intro μ x1; exact jj_eq (fun hz => by rw [m_anew_L2] at hz; exact hz) jj_no
  | succ n ih =>
    intro μ x1
    rw [m_anew_L2]
    refine jj_iload_n hk (pc := 2) dX6_anew_2 1 rfl rfl ?_
    refine jj_aload_n hk (pc := 3) dX6_anew_3 0 rfl rfl ?_
    refine jm_g_s hk hK (pc := 4) dX6_anew_4 ?_
    refine jj_iconst hk (pc := 7) (v := (5 : Int32)) dX6_anew_7 (by decide) ?_
    refine jm_ld hk hK (pc := 8) (by decide) dX6_anew_8 (fun v1 => ?_)
    refine jj_icmp_ge hk (pc := 9) 29 dX6_anew_9 (by decide) ?_ ?_
    · refine jj_aload_n hk (pc := 29) dX6_anew_29 0 rfl rfl ?_
      refine jm_g_s hk hK (pc := 30) dX6_anew_30 ?_
      refine jj_iconst hk (pc := 33) (v := (4 : Int32)) dX6_anew_33 (by decide) ?_
      refine jj_iconst hk (pc := 34) (v := (0 : Int32)) dX6_anew_34 (by decide) ?_
      refine jm_st hk hK (pc := 35) (by decide) dX6_anew_35 (fun μ2 => ?_)
      refine jj_aload_n hk (pc := 36) dX6_anew_36 0 rfl rfl ?_
      refine jj_iconst hk (pc := 37) (v := (3 : Int32)) dX6_anew_37 (by decide) ?_
      refine jj_iconst hk (pc := 38) (v := (0 : Int32)) dX6_anew_38 (by decide) ?_
      refine kc_m_becomes hk hK (pc := 39) (a0 := (3 : Int32)) (a1 := (0 : Int32)) (fun r h => cc_m_becomes l G μ2 (3 : Int32) (0 : Int32) r h) dX6_anew_39 ⟨Nat.le_of_ble_eq_true rfl, Nat.le_of_ble_eq_true rfl⟩ (Nat.le_of_ble_eq_true rfl) (fun r3 => ?_)
      exact jm_retUi hk (pc := 42) dX6_anew_42
    · refine jj_aload_n hk (pc := 12) dX6_anew_12 0 rfl rfl ?_
      refine jm_g_s hk hK (pc := 13) dX6_anew_13 ?_
      refine jj_iload_n hk (pc := 16) dX6_anew_16 1 rfl rfl ?_
      refine jj_iconst hk (pc := 17) (v := (4 : Int32)) dX6_anew_17 (by decide) ?_
      refine kc_m_spot hk hK (pc := 18) (a0 := x1) (a1 := (4 : Int32)) (fun r h => cc_m_spot l G μ x1 (4 : Int32) r h) dX6_anew_18 ⟨Nat.le_of_ble_eq_true rfl, Nat.le_of_ble_eq_true rfl⟩ (Nat.le_of_ble_eq_true rfl) (fun r4 => ?_)
      refine jj_iconst hk (pc := 21) (v := (0 : Int32)) dX6_anew_21 (by decide) ?_
      refine jm_st hk hK (pc := 22) (by decide) dX6_anew_22 (fun μ5 => ?_)
      refine jj_iinc hk (pc := 23) [(1, .int (x1 + 1)), (0, .ref (gh G))] dX6_anew_23 1 rfl rfl (Nat.le_of_ble_eq_true rfl) rfl ?_
      refine jj_goto hk (pc := 26) 2 dX6_anew_26 (by decide) ?_
      refine jj_loc [(0, .ref (gh G)), (1, .int (x1 + 1))] [1, 0] rfl ?_
      exact ih μ5 (x1 + 1)
set_option maxHeartbeats 4000000 in
theorem cc_m_anew (l : Launch) (G : jG) (N : Nat) (μ : MS)  (res : (Int32 × MS)) (hf : m_anew N μ = some res) : jM l yX6_anew (ws_ yX6_anew cX6_anew 2 (some .int)) 1 23 [.ref (gh G)] (mWo G) (mnx G) (mK G) μ (jU res) (gA G) (gn G) := by
  refine jj_start [(0, .ref (gh G))] (by decide) (Nat.le_of_ble_eq_true rfl) rfl (fun p e R s m args below meth c hk hK hsz => ?_) hf
  have hk : jk p R s m args meth c (gn G) cX6_anew 2 RX6 1 23 (some .int) := hk
  unfold m_anew
  refine jj_iconst hk (pc := 0) (v := (0 : Int32)) dX6_anew_0 (by decide) ?_
  refine jj_istore_n hk (pc := 1) [(1, .int (0 : Int32)), (0, .ref (gh G))] dX6_anew_1 rfl (Nat.le_of_ble_eq_true rfl) rfl ?_
  refine jj_loc [(0, .ref (gh G)), (1, .int (0 : Int32))] [1, 0] rfl ?_
  exact wb_m_anew_L2 hk hK N N μ (0 : Int32)
end
section
variable {p : Program} {l : Launch} {e : Env} {R : Room} {s : State} {m : MethodId} {args : Array Value} {below : List Frame} {meth : Method} {c : Code}
variable {G : jG}
set_option maxHeartbeats 4000000 in
theorem cc_m_isOver (l : Launch) (G : jG)  (μ : MS)  (res : Bool) (hf : m_isOver μ = some res) : jM l yX6_isOver (ws_ yX6_isOver cX6_isOver 1 (some .boolean)) 0 0 [.ref (gh G)] (mWo G) (mnx G) (mK G) μ (jRz μ res) (gA G) (gn G) := by
  refine jj_start [(0, .ref (gh G))] (by decide) (Nat.le_of_ble_eq_true rfl) rfl (fun p e R s m args below meth c hk hK hsz => ?_) hf
  have hk : jk p R s m args meth c (gn G) cX6_isOver 1 RX6 0 0 (some .boolean) := hk
  unfold m_isOver
  refine jj_aload_n hk (pc := 0) dX6_isOver_0 0 rfl rfl ?_
  refine jm_g_s hk hK (pc := 1) dX6_isOver_1 ?_
  refine jj_iconst hk (pc := 4) (v := (3 : Int32)) dX6_isOver_4 (by decide) ?_
  refine jm_ld hk hK (pc := 5) (by decide) dX6_isOver_5 (fun v1 => ?_)
  refine jj_aload_n hk (pc := 6) dX6_isOver_6 0 rfl rfl ?_
  refine jm_g_s hk hK (pc := 7) dX6_isOver_7 ?_
  refine jj_iconst hk (pc := 10) (v := (2 : Int32)) dX6_isOver_10 (by decide) ?_
  refine jm_ld hk hK (pc := 11) (by decide) dX6_isOver_11 (fun v2 => ?_)
  refine jj_icmp_lt hk (pc := 12) 19 dX6_isOver_12 (by decide) ?_ ?_
  · refine jj_iconst hk (pc := 19) (v := (0 : Int32)) dX6_isOver_19 (by decide) ?_
    exact jm_retRz hk (pc := 20) (b := false) dX6_isOver_20
  · refine jj_iconst hk (pc := 15) (v := (1 : Int32)) dX6_isOver_15 (by decide) ?_
    refine jj_goto hk (pc := 16) 20 dX6_isOver_16 (by decide) ?_
    exact jm_retRz hk (pc := 20) (b := true) dX6_isOver_20
end
section
variable {p : Program} {l : Launch} {e : Env} {R : Room} {s : State} {m : MethodId} {args : Array Value} {below : List Frame} {meth : Method} {c : Code}
variable {G : jG}
variable {NX : Nat} {Q : State → Prop} {nL : Nat} {cc : ByteArray} {fr lo frc loc : Nat} {ret : Option FieldType}
variable {pc : Nat} {μ : MS} {lv : List (Nat × Value)} {st : List Value} {ρ : Type} {res : ρ}
theorem kc_m_isOver (hk : jk p R s m args meth c NX cc nL RX6 fr lo ret) (hK : mK G s)  {F : Option Bool} {K : Bool → Option ρ} (hM : ∀ r, F = some r → jM l yX6_isOver (ws_ yX6_isOver cX6_isOver 1 (some .boolean)) frc loc [.ref (gh G)] (mWo G) (mnx G) (mK G) μ (jRz μ r) (gA G) (gn G)) (hd : decode cc pc = .ok (.invokevirtual 124, 3)) (hr : frc + 1 ≤ fr ∧ 8 + (1 + 11) + loc ≤ lo) (hw : (st.map fun v => v.category).sum ≤ 8) (kk : ∀ r, jj p l e R s m args below meth c (gA G) NX Q (mWo G) (mnx G) nL μ (pc + 3) lv (.int (bI r) :: st) (K r = some res)) : jj p l e R s m args below meth c (gA G) NX Q (mWo G) (mnx G) nL μ pc lv (.ref (gh G) :: st) (F.bind K = some res) :=
  jm_VRz (n := 0) hk hK [] hM (lw_V q1783 q1785 qs65 q127 q1786) (by decide +kernel) rfl rfl hd hr hw kk
end
