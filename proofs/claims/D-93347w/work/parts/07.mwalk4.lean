/-! THE MODEL's METHODS: contracts, printed by gen/gen.py -/
set_option maxRecDepth 100000
section
variable {p : Program} {l : Launch} {e : Env} {R : Room} {s : State} {m : MethodId} {args : Array Value} {below : List Frame} {meth : Method} {c : Code}
variable {G : jG}
set_option maxHeartbeats 4000000 in
theorem wb_m_prove_L25 {res : (Int32 × MS)} (hk : jk p R s m args meth c (gn G) cX6_prove 3 RX6 44 1055 (some .int)) (hK : mK G s) (N : Nat) : ∀ (n : Nat) (μ : MS) (x2 : Int32), jj p l e R s m args below meth c (gA G) (gn G) (jZ below args s (gA G) (gn G) (jU res) (mWo G) (mnx G)) (mWo G) (mnx G) 3 μ 25 [(0, .ref (gh G)), (2, .int x2)] [] (m_prove_L25 N n μ x2 = some res) := by
  intro n
  induction n with
  | zero => intro μ x2; exact jj_eq (fun hz => by rw [m_prove_L25] at hz; exact hz) jj_no
  | succ n ih =>
    intro μ x2
    rw [m_prove_L25]
    refine jj_iload_n hk (pc := 25) dX6_prove_25 1 rfl rfl ?_
    refine jj_aload_n hk (pc := 26) dX6_prove_26 0 rfl rfl ?_
    refine jm_g_rowMany hk hK (pc := 27) dX6_prove_27 ?_
    refine jj_icmp_ge hk (pc := 30) 88 dX6_prove_30 (by decide) ?_ ?_
    · refine jj_aload_n hk (pc := 88) dX6_prove_88 0 rfl rfl ?_
      refine kc_m_putsBack hk hK (pc := 89)  (fun r h => cc_m_putsBack l G N μ r h) dX6_prove_89 ⟨Nat.le_of_ble_eq_true rfl, Nat.le_of_ble_eq_true rfl⟩ (Nat.le_of_ble_eq_true rfl) (fun r1 => ?_)
      refine jj_aload_n hk (pc := 92) dX6_prove_92 0 rfl rfl ?_
      refine jm_g_rowMany hk hK (pc := 93) dX6_prove_93 ?_
      exact jm_retUi hk (pc := 96) dX6_prove_96
    · refine jj_aload_n hk (pc := 33) dX6_prove_33 0 rfl rfl ?_
      refine jm_g_rows hk hK (pc := 34) dX6_prove_34 ?_
      refine jj_iconst hk (pc := 37) (v := (3 : Int32)) dX6_prove_37 (by decide) ?_
      refine jj_iload_n hk (pc := 38) dX6_prove_38 1 rfl rfl ?_
      refine jj_imul hk (pc := 39) dX6_prove_39 ?_
      refine jj_aload_n hk (pc := 40) dX6_prove_40 0 rfl rfl ?_
      refine jm_g_first hk hK (pc := 41) dX6_prove_41 ?_
      refine jj_iload_n hk (pc := 44) dX6_prove_44 1 rfl rfl ?_
      refine jm_ld hk hK (pc := 45) (by decide) dX6_prove_45 (fun v2 => ?_)
      refine jm_st hk hK (pc := 46) (by decide) dX6_prove_46 (fun μ3 => ?_)
      refine jj_aload_n hk (pc := 47) dX6_prove_47 0 rfl rfl ?_
      refine jm_g_rows hk hK (pc := 48) dX6_prove_48 ?_
      refine jj_iconst hk (pc := 51) (v := (3 : Int32)) dX6_prove_51 (by decide) ?_
      refine jj_iload_n hk (pc := 52) dX6_prove_52 1 rfl rfl ?_
      refine jj_imul hk (pc := 53) dX6_prove_53 ?_
      refine jj_iconst hk (pc := 54) (v := (1 : Int32)) dX6_prove_54 (by decide) ?_
      refine jj_iadd hk (pc := 55) dX6_prove_55 ?_
      refine jj_aload_n hk (pc := 56) dX6_prove_56 0 rfl rfl ?_
      refine jj_aload_n hk (pc := 57) dX6_prove_57 0 rfl rfl ?_
      refine jm_g_first hk hK (pc := 58) dX6_prove_58 ?_
      refine jj_iload_n hk (pc := 61) dX6_prove_61 1 rfl rfl ?_
      refine jm_ld hk hK (pc := 62) (by decide) dX6_prove_62 (fun v4 => ?_)
      refine kc_m_goes hk hK (pc := 63) (a0 := v4) (fun r h => cc_m_goes l G N μ3 v4 r h) dX6_prove_63 ⟨Nat.le_of_ble_eq_true rfl, Nat.le_of_ble_eq_true rfl⟩ (Nat.le_of_ble_eq_true rfl) (fun r5 => ?_)
      refine jm_st hk hK (pc := 66) (by decide) dX6_prove_66 (fun μ6 => ?_)
      refine jj_aload_n hk (pc := 67) dX6_prove_67 0 rfl rfl ?_
      refine jm_g_rows hk hK (pc := 68) dX6_prove_68 ?_
      refine jj_iconst hk (pc := 71) (v := (3 : Int32)) dX6_prove_71 (by decide) ?_
      refine jj_iload_n hk (pc := 72) dX6_prove_72 1 rfl rfl ?_
      refine jj_imul hk (pc := 73) dX6_prove_73 ?_
      refine jj_iconst hk (pc := 74) (v := (2 : Int32)) dX6_prove_74 (by decide) ?_
      refine jj_iadd hk (pc := 75) dX6_prove_75 ?_
      refine jj_aload_n hk (pc := 76) dX6_prove_76 0 rfl rfl ?_
      refine jj_iconst hk (pc := 77) (v := (1 : Int32)) dX6_prove_77 (by decide) ?_
      refine kc_m_those hk hK (pc := 78) (a0 := (1 : Int32)) (fun r h => cc_m_those l G N μ6 (1 : Int32) r h) dX6_prove_78 ⟨Nat.le_of_ble_eq_true rfl, Nat.le_of_ble_eq_true rfl⟩ (Nat.le_of_ble_eq_true rfl) (fun r7 => ?_)
      refine jm_st hk hK (pc := 81) (by decide) dX6_prove_81 (fun μ8 => ?_)
      refine jj_iinc hk (pc := 82) [(2, .int (x2 + 1)), (0, .ref (gh G))] dX6_prove_82 1 rfl rfl (Nat.le_of_ble_eq_true rfl) rfl ?_
      refine jj_goto hk (pc := 85) 25 dX6_prove_85 (by decide) ?_
      refine jj_loc [(0, .ref (gh G)), (2, .int (x2 + 1))] [1, 0] rfl ?_
      exact ih μ8 (x2 + 1)
set_option maxHeartbeats 4000000 in
theorem cc_m_prove (l : Launch) (G : jG) (N : Nat) (μ : MS) (a0 : Int32) (res : (Int32 × MS)) (hf : m_prove N μ a0 = some res) : jM l yX6_prove (ws_ yX6_prove cX6_prove 3 (some .int)) 44 1055 [.ref (gh G), .int a0] (mWo G) (mnx G) (mK G) μ (jU res) (gA G) (gn G) := by
  refine jj_start [(0, .ref (gh G)), (1, .int a0)] (by decide) (Nat.le_of_ble_eq_true rfl) rfl (fun p e R s m args below meth c hk hK hsz => ?_) hf
  have hk : jk p R s m args meth c (gn G) cX6_prove 3 RX6 44 1055 (some .int) := hk
  unfold m_prove
  refine jj_iload_n hk (pc := 0) dX6_prove_0 1 rfl rfl ?_
  refine kc_m_isLong hk hK (pc := 1) (a0 := a0) (fun r h => cc_m_isLong l G μ a0 r h) dX6_prove_1 ⟨Nat.le_of_ble_eq_true rfl, Nat.le_of_ble_eq_true rfl⟩ (Nat.le_of_ble_eq_true rfl) (fun r1 => ?_)
  refine jj_if_ne_b hk (pc := 4) 9 dX6_prove_4 (by decide) ?_ ?_
  · refine jj_aload_n hk (pc := 9) dX6_prove_9 0 rfl rfl ?_
    refine jj_aload_n hk (pc := 10) dX6_prove_10 0 rfl rfl ?_
    refine jj_iload_n hk (pc := 11) dX6_prove_11 1 rfl rfl ?_
    refine jj_iconst hk (pc := 12) (v := (0 : Int32)) dX6_prove_12 (by decide) ?_
    refine kc_m_plansOf hk hK (pc := 13) (a0 := a0) (a1 := (0 : Int32)) (fun r h => cc_m_plansOf l G N μ a0 (0 : Int32) r h) dX6_prove_13 ⟨Nat.le_of_ble_eq_true rfl, Nat.le_of_ble_eq_true rfl⟩ (Nat.le_of_ble_eq_true rfl) (fun r2 => ?_)
    refine jm_p_rowMany hk hK (pc := 16) dX6_prove_16 (fun μ3 => ?_)
    refine jj_aload_n hk (pc := 19) dX6_prove_19 0 rfl rfl ?_
    refine kc_m_puts hk hK (pc := 20)  (fun r h => cc_m_puts l G N μ3 r h) dX6_prove_20 ⟨Nat.le_of_ble_eq_true rfl, Nat.le_of_ble_eq_true rfl⟩ (Nat.le_of_ble_eq_true rfl) (fun r4 => ?_)
    refine jj_iconst hk (pc := 23) (v := (0 : Int32)) dX6_prove_23 (by decide) ?_
    refine jj_istore_n hk (pc := 24) [(2, .int (0 : Int32)), (0, .ref (gh G)), (1, .int a0)] dX6_prove_24 rfl (Nat.le_of_ble_eq_true rfl) rfl ?_
    refine jj_loc [(0, .ref (gh G)), (2, .int (0 : Int32))] [1, 0] rfl ?_
    exact wb_m_prove_L25 hk hK N N r4 (0 : Int32)
  · refine jj_iconst hk (pc := 7) (v := (-1 : Int32)) dX6_prove_7 (by decide) ?_
    exact jm_retUi hk (pc := 8) dX6_prove_8
end
section
variable {p : Program} {l : Launch} {e : Env} {R : Room} {s : State} {m : MethodId} {args : Array Value} {below : List Frame} {meth : Method} {c : Code}
variable {G : jG}
set_option maxHeartbeats 4000000 in
theorem cc_m_isRow (l : Launch) (G : jG)  (μ : MS) (a0 : Int32) (a1 : Int32) (res : Bool) (hf : m_isRow μ a0 a1 = some res) : jM l yX6_isRow (ws_ yX6_isRow cX6_isRow 3 (some .boolean)) 1 25 [.ref (gh G), .int a0, .int a1] (mWo G) (mnx G) (mK G) μ (jRz μ res) (gA G) (gn G) := by
  refine jj_start [(0, .ref (gh G)), (1, .int a0), (2, .int a1)] (by decide) (Nat.le_of_ble_eq_true rfl) rfl (fun p e R s m args below meth c hk hK hsz => ?_) hf
  have hk : jk p R s m args meth c (gn G) cX6_isRow 3 RX6 1 25 (some .boolean) := hk
  unfold m_isRow
  refine jj_iload_n hk (pc := 0) dX6_isRow_0 1 rfl rfl ?_
  refine jj_i2l hk (pc := 1) dX6_isRow_1 ?_
  refine jj_lconst hk (pc := 2) (v := (0 : Int64)) dX6_isRow_2 (by decide) ?_
  refine jj_aload_n hk (pc := 3) dX6_isRow_3 0 rfl rfl ?_
  refine jm_g_rowMany hk hK (pc := 4) dX6_isRow_4 ?_
  refine jj_iconst hk (pc := 7) (v := (1 : Int32)) dX6_isRow_7 (by decide) ?_
  refine jj_isub hk (pc := 8) dX6_isRow_8 ?_
  refine jj_i2l hk (pc := 9) dX6_isRow_9 ?_
  refine kc_m_in hk hK (pc := 10) (a0 := a0.toInt64) (a1 := (0 : Int64)) (a2 := (((μ.1 21) - (1 : Int32)).toInt64)) (fun r h => cc_m_in l G μ a0.toInt64 (0 : Int64) (((μ.1 21) - (1 : Int32)).toInt64) r h) dX6_isRow_10 ⟨Nat.le_of_ble_eq_true rfl, Nat.le_of_ble_eq_true rfl⟩ (Nat.le_of_ble_eq_true rfl) (fun r1 => ?_)
  refine jj_if_eq_b hk (pc := 13) 32 dX6_isRow_13 (by decide) ?_ ?_
  · refine jj_iconst hk (pc := 32) (v := (0 : Int32)) dX6_isRow_32 (by decide) ?_
    exact jm_retRz hk (pc := 33) (b := false) dX6_isRow_33
  · refine jj_iload_n hk (pc := 16) dX6_isRow_16 2 rfl rfl ?_
    refine jj_i2l hk (pc := 17) dX6_isRow_17 ?_
    refine jj_lconst hk (pc := 18) (v := (0 : Int64)) dX6_isRow_18 (by decide) ?_
    refine jj_ldc2_w hk (pc := 19) q1748 dX6_isRow_19 ?_
    refine kc_m_in hk hK (pc := 22) (a0 := a1.toInt64) (a1 := (0 : Int64)) (a2 := (2 : Int64)) (fun r h => cc_m_in l G μ a1.toInt64 (0 : Int64) (2 : Int64) r h) dX6_isRow_22 ⟨Nat.le_of_ble_eq_true rfl, Nat.le_of_ble_eq_true rfl⟩ (Nat.le_of_ble_eq_true rfl) (fun r2 => ?_)
    refine jj_if_eq_b hk (pc := 25) 32 dX6_isRow_25 (by decide) ?_ ?_
    · refine jj_iconst hk (pc := 32) (v := (0 : Int32)) dX6_isRow_32 (by decide) ?_
      exact jm_retRz hk (pc := 33) (b := false) dX6_isRow_33
    · refine jj_iconst hk (pc := 28) (v := (1 : Int32)) dX6_isRow_28 (by decide) ?_
      refine jj_goto hk (pc := 29) 33 dX6_isRow_29 (by decide) ?_
      exact jm_retRz hk (pc := 33) (b := true) dX6_isRow_33
end
section
variable {p : Program} {l : Launch} {e : Env} {R : Room} {s : State} {m : MethodId} {args : Array Value} {below : List Frame} {meth : Method} {c : Code}
variable {G : jG}
variable {NX : Nat} {Q : State → Prop} {nL : Nat} {cc : ByteArray} {fr lo frc loc : Nat} {ret : Option FieldType}
variable {pc : Nat} {μ : MS} {lv : List (Nat × Value)} {st : List Value} {ρ : Type} {res : ρ}
theorem kc_m_isRow (hk : jk p R s m args meth c NX cc nL RX6 fr lo ret) (hK : mK G s) {a0 : Int32} {a1 : Int32} {F : Option Bool} {K : Bool → Option ρ} (hM : ∀ r, F = some r → jM l yX6_isRow (ws_ yX6_isRow cX6_isRow 3 (some .boolean)) frc loc [.ref (gh G), .int a0, .int a1] (mWo G) (mnx G) (mK G) μ (jRz μ r) (gA G) (gn G)) (hd : decode cc pc = .ok (.invokevirtual 267, 3)) (hr : frc + 1 ≤ fr ∧ 8 + (3 + 11) + loc ≤ lo) (hw : (st.map fun v => v.category).sum ≤ 8) (kk : ∀ r, jj p l e R s m args below meth c (gA G) NX Q (mWo G) (mnx G) nL μ (pc + 3) lv (.int (bI r) :: st) (K r = some res)) : jj p l e R s m args below meth c (gA G) NX Q (mWo G) (mnx G) nL μ pc lv (.int a1 :: .int a0 :: .ref (gh G) :: st) (F.bind K = some res) :=
  jm_VRz (n := 2) hk hK [.int a0, .int a1] hM (lw_V q2009 q2011 qs89 q127 q2012) (by decide +kernel) rfl rfl hd hr hw kk
end
section
variable {p : Program} {l : Launch} {e : Env} {R : Room} {s : State} {m : MethodId} {args : Array Value} {below : List Frame} {meth : Method} {c : Code}
variable {G : jG}
set_option maxHeartbeats 4000000 in
theorem cc_m_row (l : Launch) (G : jG)  (μ : MS) (a0 : Int32) (a1 : Int32) (res : Int32) (hf : m_row μ a0 a1 = some res) : jM l yX6_row (ws_ yX6_row cX6_row 3 (some .int)) 2 47 [.ref (gh G), .int a0, .int a1] (mWo G) (mnx G) (mK G) μ (jR μ res) (gA G) (gn G) := by
  refine jj_start [(0, .ref (gh G)), (1, .int a0), (2, .int a1)] (by decide) (Nat.le_of_ble_eq_true rfl) rfl (fun p e R s m args below meth c hk hK hsz => ?_) hf
  have hk : jk p R s m args meth c (gn G) cX6_row 3 RX6 2 47 (some .int) := hk
  unfold m_row
  refine jj_aload_n hk (pc := 0) dX6_row_0 0 rfl rfl ?_
  refine jj_iload_n hk (pc := 1) dX6_row_1 1 rfl rfl ?_
  refine jj_iload_n hk (pc := 2) dX6_row_2 2 rfl rfl ?_
  refine kc_m_isRow hk hK (pc := 3) (a0 := a0) (a1 := a1) (fun r h => cc_m_isRow l G μ a0 a1 r h) dX6_row_3 ⟨Nat.le_of_ble_eq_true rfl, Nat.le_of_ble_eq_true rfl⟩ (Nat.le_of_ble_eq_true rfl) (fun r1 => ?_)
  refine jj_if_eq_b hk (pc := 6) 22 dX6_row_6 (by decide) ?_ ?_
  · refine jj_bipush hk (pc := 22) (v := (-9 : Int32)) dX6_row_22 (by decide) ?_
    exact jm_retRi hk (pc := 24) dX6_row_24
  · refine jj_aload_n hk (pc := 9) dX6_row_9 0 rfl rfl ?_
    refine jm_g_rows hk hK (pc := 10) dX6_row_10 ?_
    refine jj_iconst hk (pc := 13) (v := (3 : Int32)) dX6_row_13 (by decide) ?_
    refine jj_iload_n hk (pc := 14) dX6_row_14 1 rfl rfl ?_
    refine jj_imul hk (pc := 15) dX6_row_15 ?_
    refine jj_iload_n hk (pc := 16) dX6_row_16 2 rfl rfl ?_
    refine jj_iadd hk (pc := 17) dX6_row_17 ?_
    refine jm_ld hk hK (pc := 18) (by decide) dX6_row_18 (fun v2 => ?_)
    refine jj_goto hk (pc := 19) 24 dX6_row_19 (by decide) ?_
    exact jm_retRi hk (pc := 24) dX6_row_24
end
section
variable {p : Program} {l : Launch} {e : Env} {R : Room} {s : State} {m : MethodId} {args : Array Value} {below : List Frame} {meth : Method} {c : Code}
variable {G : jG}
set_option maxHeartbeats 4000000 in
theorem cc_m_alterRow (l : Launch) (G : jG)  (μ : MS) (a0 : Int32) (a1 : Int32) (a2 : Int32) (res : (Int32 × MS)) (hf : m_alterRow μ a0 a1 a2 = some res) : jM l yX6_alterRow (ws_ yX6_alterRow cX6_alterRow 5 (some .int)) 2 47 [.ref (gh G), .int a0, .int a1, .int a2] (mWo G) (mnx G) (mK G) μ (jU res) (gA G) (gn G) := by
  refine jj_start [(0, .ref (gh G)), (1, .int a0), (2, .int a1), (3, .int a2)] (by decide) (Nat.le_of_ble_eq_true rfl) rfl (fun p e R s m args below meth c hk hK hsz => ?_) hf
  have hk : jk p R s m args meth c (gn G) cX6_alterRow 5 RX6 2 47 (some .int) := hk
  unfold m_alterRow
  refine jj_aload_n hk (pc := 0) dX6_alterRow_0 0 rfl rfl ?_
  refine jj_iload_n hk (pc := 1) dX6_alterRow_1 1 rfl rfl ?_
  refine jj_iload_n hk (pc := 2) dX6_alterRow_2 2 rfl rfl ?_
  refine kc_m_isRow hk hK (pc := 3) (a0 := a0) (a1 := a1) (fun r h => cc_m_isRow l G μ a0 a1 r h) dX6_alterRow_3 ⟨Nat.le_of_ble_eq_true rfl, Nat.le_of_ble_eq_true rfl⟩ (Nat.le_of_ble_eq_true rfl) (fun r1 => ?_)
  refine jj_if_ne_b hk (pc := 6) 12 dX6_alterRow_6 (by decide) ?_ ?_
  · refine jj_aload_n hk (pc := 12) dX6_alterRow_12 0 rfl rfl ?_
    refine jm_g_rows hk hK (pc := 13) dX6_alterRow_13 ?_
    refine jj_iconst hk (pc := 16) (v := (3 : Int32)) dX6_alterRow_16 (by decide) ?_
    refine jj_iload_n hk (pc := 17) dX6_alterRow_17 1 rfl rfl ?_
    refine jj_imul hk (pc := 18) dX6_alterRow_18 ?_
    refine jj_iload_n hk (pc := 19) dX6_alterRow_19 2 rfl rfl ?_
    refine jj_iadd hk (pc := 20) dX6_alterRow_20 ?_
    refine jm_ld hk hK (pc := 21) (by decide) dX6_alterRow_21 (fun v2 => ?_)
    refine jj_istore hk (pc := 22) [(4, .int v2), (0, .ref (gh G)), (1, .int a0), (2, .int a1), (3, .int a2)] dX6_alterRow_22 (Nat.le_of_ble_eq_true rfl) rfl ?_
    refine jj_aload_n hk (pc := 24) dX6_alterRow_24 1 rfl rfl ?_
    refine jm_g_rows hk hK (pc := 25) dX6_alterRow_25 ?_
    refine jj_iconst hk (pc := 28) (v := (3 : Int32)) dX6_alterRow_28 (by decide) ?_
    refine jj_iload_n hk (pc := 29) dX6_alterRow_29 2 rfl rfl ?_
    refine jj_imul hk (pc := 30) dX6_alterRow_30 ?_
    refine jj_iload_n hk (pc := 31) dX6_alterRow_31 3 rfl rfl ?_
    refine jj_iadd hk (pc := 32) dX6_alterRow_32 ?_
    refine jj_iload_n hk (pc := 33) dX6_alterRow_33 4 rfl rfl ?_
    refine jm_st hk hK (pc := 34) (by decide) dX6_alterRow_34 (fun μ3 => ?_)
    refine jj_iload hk (pc := 35) dX6_alterRow_35 0 rfl ?_
    exact jm_retUi hk (pc := 37) dX6_alterRow_37
  · refine jj_bipush hk (pc := 9) (v := (-9 : Int32)) dX6_alterRow_9 (by decide) ?_
    exact jm_retUi hk (pc := 11) dX6_alterRow_11
end
section
variable {p : Program} {l : Launch} {e : Env} {R : Room} {s : State} {m : MethodId} {args : Array Value} {below : List Frame} {meth : Method} {c : Code}
variable {G : jG}
set_option maxHeartbeats 4000000 in
theorem cc_m_isAct (l : Launch) (G : jG)  (μ : MS) (a0 : Int32) (res : Bool) (hf : m_isAct μ a0 = some res) : jM l yX6_isAct (ws_ yX6_isAct cX6_isAct 2 (some .boolean)) 1 25 [.ref (gh G), .int a0] (mWo G) (mnx G) (mK G) μ (jRz μ res) (gA G) (gn G) := by
  refine jj_start [(0, .ref (gh G)), (1, .int a0)] (by decide) (Nat.le_of_ble_eq_true rfl) rfl (fun p e R s m args below meth c hk hK hsz => ?_) hf
  have hk : jk p R s m args meth c (gn G) cX6_isAct 2 RX6 1 25 (some .boolean) := hk
  unfold m_isAct
  refine jj_iload_n hk (pc := 0) dX6_isAct_0 1 rfl rfl ?_
  refine jj_i2l hk (pc := 1) dX6_isAct_1 ?_
  refine jj_lconst hk (pc := 2) (v := (0 : Int64)) dX6_isAct_2 (by decide) ?_
  refine jj_aload_n hk (pc := 3) dX6_isAct_3 0 rfl rfl ?_
  refine jm_g_s hk hK (pc := 4) dX6_isAct_4 ?_
  refine jj_iconst hk (pc := 7) (v := (0 : Int32)) dX6_isAct_7 (by decide) ?_
  refine jm_ld hk hK (pc := 8) (by decide) dX6_isAct_8 (fun v1 => ?_)
  refine jj_i2l hk (pc := 9) dX6_isAct_9 ?_
  refine kc_m_in hk hK (pc := 10) (a0 := a0.toInt64) (a1 := (0 : Int64)) (a2 := v1.toInt64) (fun r h => cc_m_in l G μ a0.toInt64 (0 : Int64) v1.toInt64 r h) dX6_isAct_10 ⟨Nat.le_of_ble_eq_true rfl, Nat.le_of_ble_eq_true rfl⟩ (Nat.le_of_ble_eq_true rfl) (fun r2 => ?_)
  refine jj_if_eq_b hk (pc := 13) 27 dX6_isAct_13 (by decide) ?_ ?_
  · refine jj_iconst hk (pc := 27) (v := (0 : Int32)) dX6_isAct_27 (by decide) ?_
    exact jm_retRz hk (pc := 28) (b := false) dX6_isAct_28
  · refine jj_aload_n hk (pc := 16) dX6_isAct_16 0 rfl rfl ?_
    refine kc_m_isOver hk hK (pc := 17)  (fun r h => cc_m_isOver l G μ r h) dX6_isAct_17 ⟨Nat.le_of_ble_eq_true rfl, Nat.le_of_ble_eq_true rfl⟩ (Nat.le_of_ble_eq_true rfl) (fun r3 => ?_)
    refine jj_if_ne_b hk (pc := 20) 27 dX6_isAct_20 (by decide) ?_ ?_
    · refine jj_iconst hk (pc := 27) (v := (0 : Int32)) dX6_isAct_27 (by decide) ?_
      exact jm_retRz hk (pc := 28) (b := false) dX6_isAct_28
    · refine jj_iconst hk (pc := 23) (v := (1 : Int32)) dX6_isAct_23 (by decide) ?_
      refine jj_goto hk (pc := 24) 28 dX6_isAct_24 (by decide) ?_
      exact jm_retRz hk (pc := 28) (b := true) dX6_isAct_28
end
section
variable {p : Program} {l : Launch} {e : Env} {R : Room} {s : State} {m : MethodId} {args : Array Value} {below : List Frame} {meth : Method} {c : Code}
variable {G : jG}
variable {NX : Nat} {Q : State → Prop} {nL : Nat} {cc : ByteArray} {fr lo frc loc : Nat} {ret : Option FieldType}
variable {pc : Nat} {μ : MS} {lv : List (Nat × Value)} {st : List Value} {ρ : Type} {res : ρ}
theorem kc_m_isAct (hk : jk p R s m args meth c NX cc nL RX6 fr lo ret) (hK : mK G s) {a0 : Int32} {F : Option Bool} {K : Bool → Option ρ} (hM : ∀ r, F = some r → jM l yX6_isAct (ws_ yX6_isAct cX6_isAct 2 (some .boolean)) frc loc [.ref (gh G), .int a0] (mWo G) (mnx G) (mK G) μ (jRz μ r) (gA G) (gn G)) (hd : decode cc pc = .ok (.invokevirtual 270, 3)) (hr : frc + 1 ≤ fr ∧ 8 + (2 + 11) + loc ≤ lo) (hw : (st.map fun v => v.category).sum ≤ 8) (kk : ∀ r, jj p l e R s m args below meth c (gA G) NX Q (mWo G) (mnx G) nL μ (pc + 3) lv (.int (bI r) :: st) (K r = some res)) : jj p l e R s m args below meth c (gA G) NX Q (mWo G) (mnx G) nL μ pc lv (.int a0 :: .ref (gh G) :: st) (F.bind K = some res) :=
  jm_VRz (n := 1) hk hK [.int a0] hM (lw_V q2021 q2023 qs90 q127 q2024) (by decide +kernel) rfl rfl hd hr hw kk
end
section
variable {p : Program} {l : Launch} {e : Env} {R : Room} {s : State} {m : MethodId} {args : Array Value} {below : List Frame} {meth : Method} {c : Code}
variable {G : jG}
set_option maxHeartbeats 4000000 in
theorem wb_m_judge_L8 {res : (Int32 × MS)} (hk : jk p R s m args meth c (gn G) cX6_judge 4 RX6 7 168 (some .int)) (hK : mK G s) (N : Nat) : ∀ (n : Nat) (μ : MS) (x1 : Int32) (x2 : Int32), jj p l e R s m args below meth c (gA G) (gn G) (jZ below args s (gA G) (gn G) (jU res) (mWo G) (mnx G)) (mWo G) (mnx G) 4 μ 8 [(0, .ref (gh G)), (1, .int x1), (2, .int x2)] [] (m_judge_L8 N n μ x1 x2 = some res) := by
  intro n
  induction n with
  | zero => intro μ x1 x2; exact jj_eq (fun hz => by rw [m_judge_L8] at hz; exact hz) jj_no
  | succ n ih =>
    intro μ x1 x2
    rw [m_judge_L8]
    refine jj_iload_n hk (pc := 8) dX6_judge_8 2 rfl rfl ?_
    refine jj_aload_n hk (pc := 9) dX6_judge_9 0 rfl rfl ?_
    refine jm_g_rowMany hk hK (pc := 10) dX6_judge_10 ?_
    refine jj_icmp_ge hk (pc := 13) 102 dX6_judge_13 (by decide) ?_ ?_
    · refine jj_aload_n hk (pc := 102) dX6_judge_102 0 rfl rfl ?_
      refine kc_m_putsBack hk hK (pc := 103)  (fun r h => cc_m_putsBack l G N μ r h) dX6_judge_103 ⟨Nat.le_of_ble_eq_true rfl, Nat.le_of_ble_eq_true rfl⟩ (Nat.le_of_ble_eq_true rfl) (fun r1 => ?_)
      refine jj_iload_n hk (pc := 106) dX6_judge_106 1 rfl rfl ?_
      exact jm_retUi hk (pc := 107) dX6_judge_107
    · refine jj_iload_n hk (pc := 16) dX6_judge_16 1 rfl rfl ?_
      refine jj_if_ne hk (pc := 17) 102 dX6_judge_17 (by decide) ?_ ?_
      · refine jj_aload_n hk (pc := 102) dX6_judge_102 0 rfl rfl ?_
        refine kc_m_putsBack hk hK (pc := 103)  (fun r h => cc_m_putsBack l G N μ r h) dX6_judge_103 ⟨Nat.le_of_ble_eq_true rfl, Nat.le_of_ble_eq_true rfl⟩ (Nat.le_of_ble_eq_true rfl) (fun r2 => ?_)
        refine jj_iload_n hk (pc := 106) dX6_judge_106 1 rfl rfl ?_
        exact jm_retUi hk (pc := 107) dX6_judge_107
      · refine jj_aload_n hk (pc := 20) dX6_judge_20 0 rfl rfl ?_
        refine jj_aload_n hk (pc := 21) dX6_judge_21 0 rfl rfl ?_
        refine jm_g_rows hk hK (pc := 22) dX6_judge_22 ?_
        refine jj_iconst hk (pc := 25) (v := (3 : Int32)) dX6_judge_25 (by decide) ?_
        refine jj_iload_n hk (pc := 26) dX6_judge_26 2 rfl rfl ?_
        refine jj_imul hk (pc := 27) dX6_judge_27 ?_
        refine jm_ld hk hK (pc := 28) (by decide) dX6_judge_28 (fun v3 => ?_)
        refine kc_m_isAct hk hK (pc := 29) (a0 := v3) (fun r h => cc_m_isAct l G μ v3 r h) dX6_judge_29 ⟨Nat.le_of_ble_eq_true rfl, Nat.le_of_ble_eq_true rfl⟩ (Nat.le_of_ble_eq_true rfl) (fun r4 => ?_)
        refine jj_if_eq_b hk (pc := 32) 82 dX6_judge_32 (by decide) ?_ ?_
        · refine jj_iconst hk (pc := 82) (v := (0 : Int32)) dX6_judge_82 (by decide) ?_
          refine jj_istore_n hk (pc := 83) [(3, .int (0 : Int32)), (0, .ref (gh G)), (1, .int x1), (2, .int x2)] dX6_judge_83 rfl (Nat.le_of_ble_eq_true rfl) rfl ?_
          refine jj_iload_n hk (pc := 84) dX6_judge_84 0 rfl rfl ?_
          refine jj_if_eq_T hk (pc := 85) 92 dX6_judge_85 (by decide) (by decide) ?_
          refine jj_iload_n hk (pc := 92) dX6_judge_92 3 rfl rfl ?_
          refine jj_iconst hk (pc := 93) (v := (1 : Int32)) dX6_judge_93 (by decide) ?_
          refine jj_iadd hk (pc := 94) dX6_judge_94 ?_
          refine jj_istore_n hk (pc := 95) [(1, .int (x2 + (1 : Int32))), (3, .int (0 : Int32)), (0, .ref (gh G)), (2, .int x2)] dX6_judge_95 rfl (Nat.le_of_ble_eq_true rfl) rfl ?_
          refine jj_iinc hk (pc := 96) [(2, .int (x2 + 1)), (1, .int (x2 + (1 : Int32))), (3, .int (0 : Int32)), (0, .ref (gh G))] dX6_judge_96 3 rfl rfl (Nat.le_of_ble_eq_true rfl) rfl ?_
          refine jj_goto hk (pc := 99) 8 dX6_judge_99 (by decide) ?_
          refine jj_loc [(0, .ref (gh G)), (1, .int (x2 + (1 : Int32))), (2, .int (x2 + 1))] [3, 1, 0] rfl ?_
          exact ih μ (x2 + (1 : Int32)) (x2 + 1)
        · refine jj_aload_n hk (pc := 35) dX6_judge_35 0 rfl rfl ?_
          refine jj_aload_n hk (pc := 36) dX6_judge_36 0 rfl rfl ?_
          refine jm_g_rows hk hK (pc := 37) dX6_judge_37 ?_
          refine jj_iconst hk (pc := 40) (v := (3 : Int32)) dX6_judge_40 (by decide) ?_
          refine jj_iload_n hk (pc := 41) dX6_judge_41 2 rfl rfl ?_
          refine jj_imul hk (pc := 42) dX6_judge_42 ?_
          refine jm_ld hk hK (pc := 43) (by decide) dX6_judge_43 (fun v5 => ?_)
          refine kc_m_goes hk hK (pc := 44) (a0 := v5) (fun r h => cc_m_goes l G N μ v5 r h) dX6_judge_44 ⟨Nat.le_of_ble_eq_true rfl, Nat.le_of_ble_eq_true rfl⟩ (Nat.le_of_ble_eq_true rfl) (fun r6 => ?_)
          refine jj_aload_n hk (pc := 47) dX6_judge_47 0 rfl rfl ?_
          refine jm_g_rows hk hK (pc := 48) dX6_judge_48 ?_
          refine jj_iconst hk (pc := 51) (v := (3 : Int32)) dX6_judge_51 (by decide) ?_
          refine jj_iload_n hk (pc := 52) dX6_judge_52 2 rfl rfl ?_
          refine jj_imul hk (pc := 53) dX6_judge_53 ?_
          refine jj_iconst hk (pc := 54) (v := (1 : Int32)) dX6_judge_54 (by decide) ?_
          refine jj_iadd hk (pc := 55) dX6_judge_55 ?_
          refine jm_ld hk hK (pc := 56) (by decide) dX6_judge_56 (fun v7 => ?_)
          refine jj_icmp_ne hk (pc := 57) 82 dX6_judge_57 (by decide) ?_ ?_
          · refine jj_iconst hk (pc := 82) (v := (0 : Int32)) dX6_judge_82 (by decide) ?_
            refine jj_istore_n hk (pc := 83) [(3, .int (0 : Int32)), (0, .ref (gh G)), (1, .int x1), (2, .int x2)] dX6_judge_83 rfl (Nat.le_of_ble_eq_true rfl) rfl ?_
            refine jj_iload_n hk (pc := 84) dX6_judge_84 0 rfl rfl ?_
            refine jj_if_eq_T hk (pc := 85) 92 dX6_judge_85 (by decide) (by decide) ?_
            refine jj_iload_n hk (pc := 92) dX6_judge_92 3 rfl rfl ?_
            refine jj_iconst hk (pc := 93) (v := (1 : Int32)) dX6_judge_93 (by decide) ?_
            refine jj_iadd hk (pc := 94) dX6_judge_94 ?_
            refine jj_istore_n hk (pc := 95) [(1, .int (x2 + (1 : Int32))), (3, .int (0 : Int32)), (0, .ref (gh G)), (2, .int x2)] dX6_judge_95 rfl (Nat.le_of_ble_eq_true rfl) rfl ?_
            refine jj_iinc hk (pc := 96) [(2, .int (x2 + 1)), (1, .int (x2 + (1 : Int32))), (3, .int (0 : Int32)), (0, .ref (gh G))] dX6_judge_96 3 rfl rfl (Nat.le_of_ble_eq_true rfl) rfl ?_
            refine jj_goto hk (pc := 99) 8 dX6_judge_99 (by decide) ?_
            refine jj_loc [(0, .ref (gh G)), (1, .int (x2 + (1 : Int32))), (2, .int (x2 + 1))] [3, 1, 0] rfl ?_
            exact ih r6.2 (x2 + (1 : Int32)) (x2 + 1)
          · refine jj_aload_n hk (pc := 60) dX6_judge_60 0 rfl rfl ?_
            refine jj_iconst hk (pc := 61) (v := (1 : Int32)) dX6_judge_61 (by decide) ?_
            refine kc_m_those hk hK (pc := 62) (a0 := (1 : Int32)) (fun r h => cc_m_those l G N r6.2 (1 : Int32) r h) dX6_judge_62 ⟨Nat.le_of_ble_eq_true rfl, Nat.le_of_ble_eq_true rfl⟩ (Nat.le_of_ble_eq_true rfl) (fun r8 => ?_)
            refine jj_aload_n hk (pc := 65) dX6_judge_65 0 rfl rfl ?_
            refine jm_g_rows hk hK (pc := 66) dX6_judge_66 ?_
            refine jj_iconst hk (pc := 69) (v := (3 : Int32)) dX6_judge_69 (by decide) ?_
            refine jj_iload_n hk (pc := 70) dX6_judge_70 2 rfl rfl ?_
            refine jj_imul hk (pc := 71) dX6_judge_71 ?_
            refine jj_iconst hk (pc := 72) (v := (2 : Int32)) dX6_judge_72 (by decide) ?_
            refine jj_iadd hk (pc := 73) dX6_judge_73 ?_
            refine jm_ld hk hK (pc := 74) (by decide) dX6_judge_74 (fun v9 => ?_)
            refine jj_icmp_ne hk (pc := 75) 82 dX6_judge_75 (by decide) ?_ ?_
            · refine jj_iconst hk (pc := 82) (v := (0 : Int32)) dX6_judge_82 (by decide) ?_
              refine jj_istore_n hk (pc := 83) [(3, .int (0 : Int32)), (0, .ref (gh G)), (1, .int x1), (2, .int x2)] dX6_judge_83 rfl (Nat.le_of_ble_eq_true rfl) rfl ?_
              refine jj_iload_n hk (pc := 84) dX6_judge_84 0 rfl rfl ?_
              refine jj_if_eq_T hk (pc := 85) 92 dX6_judge_85 (by decide) (by decide) ?_
              refine jj_iload_n hk (pc := 92) dX6_judge_92 3 rfl rfl ?_
              refine jj_iconst hk (pc := 93) (v := (1 : Int32)) dX6_judge_93 (by decide) ?_
              refine jj_iadd hk (pc := 94) dX6_judge_94 ?_
              refine jj_istore_n hk (pc := 95) [(1, .int (x2 + (1 : Int32))), (3, .int (0 : Int32)), (0, .ref (gh G)), (2, .int x2)] dX6_judge_95 rfl (Nat.le_of_ble_eq_true rfl) rfl ?_
              refine jj_iinc hk (pc := 96) [(2, .int (x2 + 1)), (1, .int (x2 + (1 : Int32))), (3, .int (0 : Int32)), (0, .ref (gh G))] dX6_judge_96 3 rfl rfl (Nat.le_of_ble_eq_true rfl) rfl ?_
              refine jj_goto hk (pc := 99) 8 dX6_judge_99 (by decide) ?_
              refine jj_loc [(0, .ref (gh G)), (1, .int (x2 + (1 : Int32))), (2, .int (x2 + 1))] [3, 1, 0] rfl ?_
              exact ih r6.2 (x2 + (1 : Int32)) (x2 + 1)
            · refine jj_iconst hk (pc := 78) (v := (1 : Int32)) dX6_judge_78 (by decide) ?_
              refine jj_goto hk (pc := 79) 83 dX6_judge_79 (by decide) ?_
              refine jj_istore_n hk (pc := 83) [(3, .int (1 : Int32)), (0, .ref (gh G)), (1, .int x1), (2, .int x2)] dX6_judge_83 rfl (Nat.le_of_ble_eq_true rfl) rfl ?_
              refine jj_iload_n hk (pc := 84) dX6_judge_84 0 rfl rfl ?_
              refine jj_if_eq_F hk (pc := 85) dX6_judge_85 92 (by decide) (by decide) ?_
              refine jj_iconst hk (pc := 88) (v := (0 : Int32)) dX6_judge_88 (by decide) ?_
              refine jj_goto hk (pc := 89) 95 dX6_judge_89 (by decide) ?_
              refine jj_istore_n hk (pc := 95) [(1, .int (0 : Int32)), (3, .int (1 : Int32)), (0, .ref (gh G)), (2, .int x2)] dX6_judge_95 rfl (Nat.le_of_ble_eq_true rfl) rfl ?_
              refine jj_iinc hk (pc := 96) [(2, .int (x2 + 1)), (1, .int (0 : Int32)), (3, .int (1 : Int32)), (0, .ref (gh G))] dX6_judge_96 3 rfl rfl (Nat.le_of_ble_eq_true rfl) rfl ?_
              refine jj_goto hk (pc := 99) 8 dX6_judge_99 (by decide) ?_
              refine jj_loc [(0, .ref (gh G)), (1, .int (0 : Int32)), (2, .int (x2 + 1))] [3, 1, 0] rfl ?_
              exact ih r6.2 (0 : Int32) (x2 + 1)
set_option maxHeartbeats 4000000 in
theorem cc_m_judge (l : Launch) (G : jG) (N : Nat) (μ : MS)  (res : (Int32 × MS)) (hf : m_judge N μ = some res) : jM l yX6_judge (ws_ yX6_judge cX6_judge 4 (some .int)) 7 168 [.ref (gh G)] (mWo G) (mnx G) (mK G) μ (jU res) (gA G) (gn G) := by
  refine jj_start [(0, .ref (gh G))] (by decide) (Nat.le_of_ble_eq_true rfl) rfl (fun p e R s m args below meth c hk hK hsz => ?_) hf
  have hk : jk p R s m args meth c (gn G) cX6_judge 4 RX6 7 168 (some .int) := hk
  unfold m_judge
  refine jj_aload_n hk (pc := 0) dX6_judge_0 0 rfl rfl ?_
  refine kc_m_puts hk hK (pc := 1)  (fun r h => cc_m_puts l G N μ r h) dX6_judge_1 ⟨Nat.le_of_ble_eq_true rfl, Nat.le_of_ble_eq_true rfl⟩ (Nat.le_of_ble_eq_true rfl) (fun r1 => ?_)
  refine jj_iconst hk (pc := 4) (v := (0 : Int32)) dX6_judge_4 (by decide) ?_
  refine jj_istore_n hk (pc := 5) [(1, .int (0 : Int32)), (0, .ref (gh G))] dX6_judge_5 rfl (Nat.le_of_ble_eq_true rfl) rfl ?_
  refine jj_iconst hk (pc := 6) (v := (0 : Int32)) dX6_judge_6 (by decide) ?_
  refine jj_istore_n hk (pc := 7) [(2, .int (0 : Int32)), (1, .int (0 : Int32)), (0, .ref (gh G))] dX6_judge_7 rfl (Nat.le_of_ble_eq_true rfl) rfl ?_
  refine jj_loc [(0, .ref (gh G)), (1, .int (0 : Int32)), (2, .int (0 : Int32))] [2, 1, 0] rfl ?_
  exact wb_m_judge_L8 hk hK N N r1 (0 : Int32) (0 : Int32)
end
section
variable {p : Program} {l : Launch} {e : Env} {R : Room} {s : State} {m : MethodId} {args : Array Value} {below : List Frame} {meth : Method} {c : Code}
variable {G : jG}
set_option maxHeartbeats 4000000 in
theorem wb_m_feed_L32 {res : (Int32 × MS)} (hk : jk p R s m args meth c (gn G) cX6_feed 5 RX6 1 25 (some .int)) (hK : mK G s) (N : Nat) : ∀ (n : Nat) (μ : MS) (x1 : Int64) (x3 : Int32) (x4 : Int32), jj p l e R s m args below meth c (gA G) (gn G) (jZ below args s (gA G) (gn G) (jU res) (mWo G) (mnx G)) (mWo G) (mnx G) 5 μ 32 [(0, .ref (gh G)), (1, .long x1), (3, .int x3), (4, .int x4)] [] (m_feed_L32 N n μ x1 x3 x4 = some res) := by
  intro n
  induction n with
  | zero => intro μ x1 x3 x4; exact jj_eq (fun hz => by rw [m_feed_L32] at hz; exact hz) jj_no
  | succ n ih =>
    intro μ x1 x3 x4
    rw [m_feed_L32]
    refine jj_iload hk (pc := 32) dX6_feed_32 3 rfl ?_
    refine jj_iload_n hk (pc := 34) dX6_feed_34 2 rfl rfl ?_
    refine jj_icmp_ge hk (pc := 35) 75 dX6_feed_35 (by decide) ?_ ?_
    · refine jj_aload_n hk (pc := 75) dX6_feed_75 0 rfl rfl ?_
      refine jm_g_taped hk hK (pc := 76) dX6_feed_76 ?_
      exact jm_retUi hk (pc := 79) dX6_feed_79
    · refine jj_aload_n hk (pc := 38) dX6_feed_38 0 rfl rfl ?_
      refine jm_g_tape hk hK (pc := 39) dX6_feed_39 ?_
      refine jj_aload_n hk (pc := 42) dX6_feed_42 0 rfl rfl ?_
      refine jm_g_taped hk hK (pc := 43) dX6_feed_43 ?_
      refine jj_lload_n hk (pc := 46) dX6_feed_46 1 rfl rfl ?_
      refine jj_bipush hk (pc := 47) (v := (8 : Int32)) dX6_feed_47 (by decide) ?_
      refine jj_iload hk (pc := 49) dX6_feed_49 3 rfl ?_
      refine jj_imul hk (pc := 51) dX6_feed_51 ?_
      refine jj_lshr hk (pc := 52) dX6_feed_52 ?_
      refine jj_ldc2_w hk (pc := 53) q2030 dX6_feed_53 ?_
      refine jj_land hk (pc := 56) dX6_feed_56 ?_
      refine jj_l2i hk (pc := 57) dX6_feed_57 ?_
      refine jm_st hk hK (pc := 58) (by decide) dX6_feed_58 (fun μ1 => ?_)
      refine jj_aload_n hk (pc := 59) dX6_feed_59 0 rfl rfl ?_
      refine jj_dup hk (pc := 60) dX6_feed_60 rfl ?_
      refine jm_g_taped hk hK (pc := 61) dX6_feed_61 ?_
      refine jj_iconst hk (pc := 64) (v := (1 : Int32)) dX6_feed_64 (by decide) ?_
      refine jj_iadd hk (pc := 65) dX6_feed_65 ?_
      refine jm_p_taped hk hK (pc := 66) dX6_feed_66 (fun μ2 => ?_)
      refine jj_iinc hk (pc := 69) [(4, .int (x4 + 1)), (0, .ref (gh G)), (1, .long x1), (3, .int x3)] dX6_feed_69 3 rfl rfl (Nat.le_of_ble_eq_true rfl) rfl ?_
      refine jj_goto hk (pc := 72) 32 dX6_feed_72 (by decide) ?_
      refine jj_loc [(0, .ref (gh G)), (1, .long x1), (3, .int x3), (4, .int (x4 + 1))] [1, 2, 3, 0] rfl ?_
      exact ih μ2 x1 x3 (x4 + 1)
set_option maxHeartbeats 4000000 in
theorem cc_m_feed (l : Launch) (G : jG) (N : Nat) (μ : MS) (a0 : Int64) (a1 : Int32) (res : (Int32 × MS)) (hf : m_feed N μ a0 a1 = some res) : jM l yX6_feed (ws_ yX6_feed cX6_feed 5 (some .int)) 1 25 [.ref (gh G), .long a0, .int a1] (mWo G) (mnx G) (mK G) μ (jU res) (gA G) (gn G) := by
  refine jj_start [(0, .ref (gh G)), (1, .long a0), (3, .int a1)] (by decide) (Nat.le_of_ble_eq_true rfl) rfl (fun p e R s m args below meth c hk hK hsz => ?_) hf
  have hk : jk p R s m args meth c (gn G) cX6_feed 5 RX6 1 25 (some .int) := hk
  unfold m_feed
  refine jj_iload_n hk (pc := 0) dX6_feed_0 2 rfl rfl ?_
  refine jj_i2l hk (pc := 1) dX6_feed_1 ?_
  refine jj_lconst hk (pc := 2) (v := (1 : Int64)) dX6_feed_2 (by decide) ?_
  refine jj_ldc2_w hk (pc := 3) q2029 dX6_feed_3 ?_
  refine kc_m_in hk hK (pc := 6) (a0 := a1.toInt64) (a1 := (1 : Int64)) (a2 := (8 : Int64)) (fun r h => cc_m_in l G μ a1.toInt64 (1 : Int64) (8 : Int64) r h) dX6_feed_6 ⟨Nat.le_of_ble_eq_true rfl, Nat.le_of_ble_eq_true rfl⟩ (Nat.le_of_ble_eq_true rfl) (fun r1 => ?_)
  refine jj_if_ne_b hk (pc := 9) 14 dX6_feed_9 (by decide) ?_ ?_
  · refine jj_aload_n hk (pc := 14) dX6_feed_14 0 rfl rfl ?_
    refine jm_g_taped hk hK (pc := 15) dX6_feed_15 ?_
    refine jj_iload_n hk (pc := 18) dX6_feed_18 2 rfl rfl ?_
    refine jj_iadd hk (pc := 19) dX6_feed_19 ?_
    refine jj_sipush hk (pc := 20) (v := (200 : Int32)) dX6_feed_20 (by decide) ?_
    refine jj_icmp_le hk (pc := 23) 29 dX6_feed_23 (by decide) ?_ ?_
    · refine jj_iconst hk (pc := 29) (v := (0 : Int32)) dX6_feed_29 (by decide) ?_
      refine jj_istore hk (pc := 30) [(4, .int (0 : Int32)), (0, .ref (gh G)), (1, .long a0), (3, .int a1)] dX6_feed_30 (Nat.le_of_ble_eq_true rfl) rfl ?_
      refine jj_loc [(0, .ref (gh G)), (1, .long a0), (3, .int a1), (4, .int (0 : Int32))] [1, 2, 3, 0] rfl ?_
      exact wb_m_feed_L32 hk hK N N μ a0 a1 (0 : Int32)
    · refine jj_bipush hk (pc := 26) (v := (-2 : Int32)) dX6_feed_26 (by decide) ?_
      exact jm_retUi hk (pc := 28) dX6_feed_28
  · refine jj_iconst hk (pc := 12) (v := (-1 : Int32)) dX6_feed_12 (by decide) ?_
    exact jm_retUi hk (pc := 13) dX6_feed_13
end
section
variable {p : Program} {l : Launch} {e : Env} {R : Room} {s : State} {m : MethodId} {args : Array Value} {below : List Frame} {meth : Method} {c : Code}
variable {G : jG}
set_option maxHeartbeats 4000000 in
theorem cc_m_byteAt (l : Launch) (G : jG)  (μ : MS) (a0 : Int32) (res : Int32) (hf : m_byteAt μ a0 = some res) : jM l yX6_byteAt (ws_ yX6_byteAt cX6_byteAt 2 (some .int)) 0 0 [.ref (gh G), .int a0] (mWo G) (mnx G) (mK G) μ (jR μ res) (gA G) (gn G) := by
  refine jj_start [(0, .ref (gh G)), (1, .int a0)] (by decide) (Nat.le_of_ble_eq_true rfl) rfl (fun p e R s m args below meth c hk hK hsz => ?_) hf
  have hk : jk p R s m args meth c (gn G) cX6_byteAt 2 RX6 0 0 (some .int) := hk
  unfold m_byteAt
  refine jj_iload_n hk (pc := 0) dX6_byteAt_0 1 rfl rfl ?_
  refine jj_aload_n hk (pc := 1) dX6_byteAt_1 0 rfl rfl ?_
  refine jm_g_taped hk hK (pc := 2) dX6_byteAt_2 ?_
  refine jj_icmp_ge hk (pc := 5) 17 dX6_byteAt_5 (by decide) ?_ ?_
  · refine jj_iconst hk (pc := 17) (v := (-1 : Int32)) dX6_byteAt_17 (by decide) ?_
    exact jm_retRi hk (pc := 18) dX6_byteAt_18
  · refine jj_aload_n hk (pc := 8) dX6_byteAt_8 0 rfl rfl ?_
    refine jm_g_tape hk hK (pc := 9) dX6_byteAt_9 ?_
    refine jj_iload_n hk (pc := 12) dX6_byteAt_12 1 rfl rfl ?_
    refine jm_ld hk hK (pc := 13) (by decide) dX6_byteAt_13 (fun v1 => ?_)
    refine jj_goto hk (pc := 14) 18 dX6_byteAt_14 (by decide) ?_
    exact jm_retRi hk (pc := 18) dX6_byteAt_18
end
section
variable {p : Program} {l : Launch} {e : Env} {R : Room} {s : State} {m : MethodId} {args : Array Value} {below : List Frame} {meth : Method} {c : Code}
variable {G : jG}
variable {NX : Nat} {Q : State → Prop} {nL : Nat} {cc : ByteArray} {fr lo frc loc : Nat} {ret : Option FieldType}
variable {pc : Nat} {μ : MS} {lv : List (Nat × Value)} {st : List Value} {ρ : Type} {res : ρ}
theorem kc_m_byteAt (hk : jk p R s m args meth c NX cc nL RX6 fr lo ret) (hK : mK G s) {a0 : Int32} {F : Option Int32} {K : Int32 → Option ρ} (hM : ∀ r, F = some r → jM l yX6_byteAt (ws_ yX6_byteAt cX6_byteAt 2 (some .int)) frc loc [.ref (gh G), .int a0] (mWo G) (mnx G) (mK G) μ (jR μ r) (gA G) (gn G)) (hd : decode cc pc = .ok (.invokevirtual 294, 3)) (hr : frc + 1 ≤ fr ∧ 8 + (2 + 11) + loc ≤ lo) (hw : (st.map fun v => v.category).sum ≤ 8) (kk : ∀ r, jj p l e R s m args below meth c (gA G) NX Q (mWo G) (mnx G) nL μ (pc + 3) lv (.int r :: st) (K r = some res)) : jj p l e R s m args below meth c (gA G) NX Q (mWo G) (mnx G) nL μ pc lv (.int a0 :: .ref (gh G) :: st) (F.bind K = some res) :=
  jm_VRi (n := 1) hk hK [.int a0] hM (lw_V q2039 q2041 qs92 q127 q2042) (by decide +kernel) rfl rfl hd hr hw kk
end
section
variable {p : Program} {l : Launch} {e : Env} {R : Room} {s : State} {m : MethodId} {args : Array Value} {below : List Frame} {meth : Method} {c : Code}
variable {G : jG}
set_option maxHeartbeats 4000000 in
theorem cc_m_isLetter (l : Launch) (G : jG)  (μ : MS) (a0 : Int32) (res : Bool) (hf : m_isLetter a0 = some res) : jM l yX6_isLetter (ws_ yX6_isLetter cX6_isLetter 1 (some .boolean)) 1 25 [.int a0] (mWo G) (mnx G) (mK G) μ (jRz μ res) (gA G) (gn G) := by
  refine jj_start [(0, .int a0)] (by decide) (Nat.le_of_ble_eq_true rfl) rfl (fun p e R s m args below meth c hk hK hsz => ?_) hf
  have hk : jk p R s m args meth c (gn G) cX6_isLetter 1 RX6 1 25 (some .boolean) := hk
  unfold m_isLetter
  refine jj_iload_n hk (pc := 0) dX6_isLetter_0 0 rfl rfl ?_
  refine jj_i2l hk (pc := 1) dX6_isLetter_1 ?_
  refine jj_ldc2_w hk (pc := 2) q2046 dX6_isLetter_2 ?_
  refine jj_ldc2_w hk (pc := 5) q2047 dX6_isLetter_5 ?_
  refine kc_m_in hk hK (pc := 8) (a0 := a0.toInt64) (a1 := (97 : Int64)) (a2 := (122 : Int64)) (fun r h => cc_m_in l G μ a0.toInt64 (97 : Int64) (122 : Int64) r h) dX6_isLetter_8 ⟨Nat.le_of_ble_eq_true rfl, Nat.le_of_ble_eq_true rfl⟩ (Nat.le_of_ble_eq_true rfl) (fun r1 => ?_)
  exact jm_retRz hk (pc := 11) (b := r1) dX6_isLetter_11
end
section
variable {p : Program} {l : Launch} {e : Env} {R : Room} {s : State} {m : MethodId} {args : Array Value} {below : List Frame} {meth : Method} {c : Code}
variable {G : jG}
variable {NX : Nat} {Q : State → Prop} {nL : Nat} {cc : ByteArray} {fr lo frc loc : Nat} {ret : Option FieldType}
variable {pc : Nat} {μ : MS} {lv : List (Nat × Value)} {st : List Value} {ρ : Type} {res : ρ}
theorem kc_m_isLetter (hk : jk p R s m args meth c NX cc nL RX6 fr lo ret) (hK : mK G s) {a0 : Int32} {F : Option Bool} {K : Bool → Option ρ} (hM : ∀ r, F = some r → jM l yX6_isLetter (ws_ yX6_isLetter cX6_isLetter 1 (some .boolean)) frc loc [.int a0] (mWo G) (mnx G) (mK G) μ (jRz μ r) (gA G) (gn G)) (hd : decode cc pc = .ok (.invokestatic 297, 3)) (hr : frc + 1 ≤ fr ∧ 8 + (1 + 11) + loc ≤ lo) (hw : (st.map fun v => v.category).sum ≤ 8) (kk : ∀ r, jj p l e R s m args below meth c (gA G) NX Q (mWo G) (mnx G) nL μ (pc + 3) lv (.int (bI r) :: st) (K r = some res)) : jj p l e R s m args below meth c (gA G) NX Q (mWo G) (mnx G) nL μ pc lv (.int a0 :: st) (F.bind K = some res) :=
  jm_SRz (n := 1) hk hK [.int a0] hM (lw_S q2043 q2044 q127 q2045) (by decide +kernel) rfl rfl hd hr hw kk
end
section
variable {p : Program} {l : Launch} {e : Env} {R : Room} {s : State} {m : MethodId} {args : Array Value} {below : List Frame} {meth : Method} {c : Code}
variable {G : jG}
set_option maxHeartbeats 4000000 in
theorem wb_m_word_L7 {res : Int64} (hk : jk p R s m args meth c (gn G) cX6_word 4 RX6 2 45 (some .long)) (hK : mK G s) (N : Nat) (μ : MS) : ∀ (n : Nat) (x1 : Int64) (x3 : Int32), jj p l e R s m args below meth c (gA G) (gn G) (jZ below args s (gA G) (gn G) (jRl μ res) (mWo G) (mnx G)) (mWo G) (mnx G) 4 μ 7 [(0, .ref (gh G)), (1, .long x1), (3, .int x3)] [] (m_word_L7 N μ n x1 x3 = some res) := by
  intro n
  induction n with
  | zero => intro x1 x3; exact jj_eq (fun hz => by rw [m_word_L7] at hz; exact hz) jj_no
  | succ n ih =>
    intro x1 x3
    rw [m_word_L7]
    refine jj_iload_n hk (pc := 7) dX6_word_7 2 rfl rfl ?_
    refine jj_aload_n hk (pc := 8) dX6_word_8 0 rfl rfl ?_
    refine jm_g_to hk hK (pc := 9) dX6_word_9 ?_
    refine jj_icmp_ge hk (pc := 12) 50 dX6_word_12 (by decide) ?_ ?_
    · refine jj_aload_n hk (pc := 50) dX6_word_50 0 rfl rfl ?_
      refine jm_g_isWrong hk hK (pc := 51) dX6_word_51 ?_
      refine jj_if_ne hk (pc := 54) 71 dX6_word_54 (by decide) ?_ ?_
      · refine jj_lconst hk (pc := 71) (v := (0 : Int64)) dX6_word_71 (by decide) ?_
        refine jj_goto hk (pc := 72) 76 dX6_word_72 (by decide) ?_
        exact jm_retRl hk (pc := 76) dX6_word_76
      · refine jj_aload_n hk (pc := 57) dX6_word_57 0 rfl rfl ?_
        refine jj_aload_n hk (pc := 58) dX6_word_58 0 rfl rfl ?_
        refine jm_g_from hk hK (pc := 59) dX6_word_59 ?_
        refine kc_m_byteAt hk hK (pc := 62) (a0 := (μ.1 24)) (fun r h => cc_m_byteAt l G μ (μ.1 24) r h) dX6_word_62 ⟨Nat.le_of_ble_eq_true rfl, Nat.le_of_ble_eq_true rfl⟩ (Nat.le_of_ble_eq_true rfl) (fun r1 => ?_)
        refine kc_m_isLetter hk hK (pc := 65) (a0 := r1) (fun r h => cc_m_isLetter l G μ r1 r h) dX6_word_65 ⟨Nat.le_of_ble_eq_true rfl, Nat.le_of_ble_eq_true rfl⟩ (Nat.le_of_ble_eq_true rfl) (fun r2 => ?_)
        refine jj_if_ne_b hk (pc := 68) 75 dX6_word_68 (by decide) ?_ ?_
        · refine jj_lload_n hk (pc := 75) dX6_word_75 1 rfl rfl ?_
          exact jm_retRl hk (pc := 76) dX6_word_76
        · refine jj_lconst hk (pc := 71) (v := (0 : Int64)) dX6_word_71 (by decide) ?_
          refine jj_goto hk (pc := 72) 76 dX6_word_72 (by decide) ?_
          exact jm_retRl hk (pc := 76) dX6_word_76
    · refine jj_lload_n hk (pc := 15) dX6_word_15 1 rfl rfl ?_
      refine jj_ldc2_w hk (pc := 16) q2065 dX6_word_16 ?_
      refine jj_lcmp hk (pc := 19) dX6_word_19 ?_
      refine jj_if_le hk (pc := 20) 27 dX6_word_20 (by decide) ?_ ?_
      · refine jj_ldc2_w hk (pc := 27) q2066 dX6_word_27 ?_
        refine jj_lload_n hk (pc := 30) dX6_word_30 1 rfl rfl ?_
        refine jj_lmul hk (pc := 31) dX6_word_31 ?_
        refine jj_aload_n hk (pc := 32) dX6_word_32 0 rfl rfl ?_
        refine jm_g_tape hk hK (pc := 33) dX6_word_33 ?_
        refine jj_iload_n hk (pc := 36) dX6_word_36 2 rfl rfl ?_
        refine jm_ld hk hK (pc := 37) (by decide) dX6_word_37 (fun v3 => ?_)
        refine jj_bipush hk (pc := 38) (v := (96 : Int32)) dX6_word_38 (by decide) ?_
        refine jj_isub hk (pc := 40) dX6_word_40 ?_
        refine jj_i2l hk (pc := 41) dX6_word_41 ?_
        refine jj_ladd hk (pc := 42) dX6_word_42 ?_
        refine jj_lstore_n hk (pc := 43) [(1, .long (((32 : Int64) * x1) + ((v3 - (96 : Int32)).toInt64))), (0, .ref (gh G)), (3, .int x3)] dX6_word_43 rfl (Nat.le_of_ble_eq_true rfl) rfl ?_
        refine jj_iinc hk (pc := 44) [(3, .int (x3 + 1)), (1, .long (((32 : Int64) * x1) + ((v3 - (96 : Int32)).toInt64))), (0, .ref (gh G))] dX6_word_44 2 rfl rfl (Nat.le_of_ble_eq_true rfl) rfl ?_
        refine jj_goto hk (pc := 47) 7 dX6_word_47 (by decide) ?_
        refine jj_loc [(0, .ref (gh G)), (1, .long (((32 : Int64) * x1) + ((v3 - (96 : Int32)).toInt64))), (3, .int (x3 + 1))] [2, 1, 0] rfl ?_
        exact ih (((32 : Int64) * x1) + ((v3 - (96 : Int32)).toInt64)) (x3 + 1)
      · refine jj_lload_n hk (pc := 23) dX6_word_23 1 rfl rfl ?_
        refine jj_goto hk (pc := 24) 43 dX6_word_24 (by decide) ?_
        refine jj_lstore_n hk (pc := 43) [(1, .long x1), (0, .ref (gh G)), (3, .int x3)] dX6_word_43 rfl (Nat.le_of_ble_eq_true rfl) rfl ?_
        refine jj_iinc hk (pc := 44) [(3, .int (x3 + 1)), (1, .long x1), (0, .ref (gh G))] dX6_word_44 2 rfl rfl (Nat.le_of_ble_eq_true rfl) rfl ?_
        refine jj_goto hk (pc := 47) 7 dX6_word_47 (by decide) ?_
        refine jj_loc [(0, .ref (gh G)), (1, .long x1), (3, .int (x3 + 1))] [2, 1, 0] rfl ?_
        exact ih x1 (x3 + 1)
set_option maxHeartbeats 4000000 in
theorem cc_m_word (l : Launch) (G : jG) (N : Nat) (μ : MS)  (res : Int64) (hf : m_word N μ = some res) : jM l yX6_word (ws_ yX6_word cX6_word 4 (some .long)) 2 45 [.ref (gh G)] (mWo G) (mnx G) (mK G) μ (jRl μ res) (gA G) (gn G) := by
  refine jj_start [(0, .ref (gh G))] (by decide) (Nat.le_of_ble_eq_true rfl) rfl (fun p e R s m args below meth c hk hK hsz => ?_) hf
  have hk : jk p R s m args meth c (gn G) cX6_word 4 RX6 2 45 (some .long) := hk
  unfold m_word
  refine jj_lconst hk (pc := 0) (v := (0 : Int64)) dX6_word_0 (by decide) ?_
  refine jj_lstore_n hk (pc := 1) [(1, .long (0 : Int64)), (0, .ref (gh G))] dX6_word_1 rfl (Nat.le_of_ble_eq_true rfl) rfl ?_
  refine jj_aload_n hk (pc := 2) dX6_word_2 1 rfl rfl ?_
  refine jm_g_from hk hK (pc := 3) dX6_word_3 ?_
  refine jj_istore_n hk (pc := 6) [(3, .int (μ.1 24)), (1, .long (0 : Int64)), (0, .ref (gh G))] dX6_word_6 rfl (Nat.le_of_ble_eq_true rfl) rfl ?_
  refine jj_loc [(0, .ref (gh G)), (1, .long (0 : Int64)), (3, .int (μ.1 24))] [2, 1, 0] rfl ?_
  exact wb_m_word_L7 hk hK N μ N (0 : Int64) (μ.1 24)
end
section
variable {p : Program} {l : Launch} {e : Env} {R : Room} {s : State} {m : MethodId} {args : Array Value} {below : List Frame} {meth : Method} {c : Code}
variable {G : jG}
variable {NX : Nat} {Q : State → Prop} {nL : Nat} {cc : ByteArray} {fr lo frc loc : Nat} {ret : Option FieldType}
variable {pc : Nat} {μ : MS} {lv : List (Nat × Value)} {st : List Value} {ρ : Type} {res : ρ}
theorem kc_m_word (hk : jk p R s m args meth c NX cc nL RX6 fr lo ret) (hK : mK G s)  {F : Option Int64} {K : Int64 → Option ρ} (hM : ∀ r, F = some r → jM l yX6_word (ws_ yX6_word cX6_word 4 (some .long)) frc loc [.ref (gh G)] (mWo G) (mnx G) (mK G) μ (jRl μ r) (gA G) (gn G)) (hd : decode cc pc = .ok (.invokevirtual 321, 3)) (hr : frc + 1 ≤ fr ∧ 8 + (4 + 11) + loc ≤ lo) (hw : (st.map fun v => v.category).sum ≤ 8) (kk : ∀ r, jj p l e R s m args below meth c (gA G) NX Q (mWo G) (mnx G) nL μ (pc + 3) lv (.long r :: st) (K r = some res)) : jj p l e R s m args below meth c (gA G) NX Q (mWo G) (mnx G) nL μ pc lv (.ref (gh G) :: st) (F.bind K = some res) :=
  jm_VRl (n := 0) hk hK [] hM (lw_V q2061 q2063 qs95 q127 q2064) (by decide +kernel) rfl rfl hd hr hw kk
end
section
variable {p : Program} {l : Launch} {e : Env} {R : Room} {s : State} {m : MethodId} {args : Array Value} {below : List Frame} {meth : Method} {c : Code}
variable {G : jG}
set_option maxHeartbeats 4000000 in
theorem cc_m_factHere (l : Launch) (G : jG) (N : Nat) (μ : MS)  (res : Int32) (hf : m_factHere N μ = some res) : jM l yX6_factHere (ws_ yX6_factHere cX6_factHere 3 (some .int)) 3 68 [.ref (gh G)] (mWo G) (mnx G) (mK G) μ (jR μ res) (gA G) (gn G) := by
  refine jj_start [(0, .ref (gh G))] (by decide) (Nat.le_of_ble_eq_true rfl) rfl (fun p e R s m args below meth c hk hK hsz => ?_) hf
  have hk : jk p R s m args meth c (gn G) cX6_factHere 3 RX6 3 68 (some .int) := hk
  unfold m_factHere
  refine jj_aload_n hk (pc := 0) dX6_factHere_0 0 rfl rfl ?_
  refine kc_m_word hk hK (pc := 1)  (fun r h => cc_m_word l G N μ r h) dX6_factHere_1 ⟨Nat.le_of_ble_eq_true rfl, Nat.le_of_ble_eq_true rfl⟩ (Nat.le_of_ble_eq_true rfl) (fun r1 => ?_)
  refine jj_lstore_n hk (pc := 4) [(1, .long r1), (0, .ref (gh G))] dX6_factHere_4 rfl (Nat.le_of_ble_eq_true rfl) rfl ?_
  refine jj_lload_n hk (pc := 5) dX6_factHere_5 0 rfl rfl ?_
  refine jj_ldc2_w hk (pc := 6) q2103 dX6_factHere_6 ?_
  refine jj_lcmp hk (pc := 9) dX6_factHere_9 ?_
  refine jj_if_ne hk (pc := 10) 17 dX6_factHere_10 (by decide) ?_ ?_
  · refine jj_lload_n hk (pc := 17) dX6_factHere_17 0 rfl rfl ?_
    refine jj_ldc2_w hk (pc := 18) q2104 dX6_factHere_18 ?_
    refine jj_lcmp hk (pc := 21) dX6_factHere_21 ?_
    refine jj_if_ne hk (pc := 22) 30 dX6_factHere_22 (by decide) ?_ ?_
    · refine jj_lload_n hk (pc := 30) dX6_factHere_30 0 rfl rfl ?_
      refine jj_ldc2_w hk (pc := 31) q2105 dX6_factHere_31 ?_
      refine jj_lcmp hk (pc := 34) dX6_factHere_34 ?_
      refine jj_if_ne hk (pc := 35) 43 dX6_factHere_35 (by decide) ?_ ?_
      · refine jj_lload_n hk (pc := 43) dX6_factHere_43 0 rfl rfl ?_
        refine jj_ldc2_w hk (pc := 44) q2106 dX6_factHere_44 ?_
        refine jj_lcmp hk (pc := 47) dX6_factHere_47 ?_
        refine jj_if_ne hk (pc := 48) 56 dX6_factHere_48 (by decide) ?_ ?_
        · refine jj_lload_n hk (pc := 56) dX6_factHere_56 0 rfl rfl ?_
          refine jj_ldc2_w hk (pc := 57) q2107 dX6_factHere_57 ?_
          refine jj_lcmp hk (pc := 60) dX6_factHere_60 ?_
          refine jj_if_ne hk (pc := 61) 69 dX6_factHere_61 (by decide) ?_ ?_
          · refine jj_iconst hk (pc := 69) (v := (0 : Int32)) dX6_factHere_69 (by decide) ?_
            exact jm_retRi hk (pc := 70) dX6_factHere_70
          · refine jj_bipush hk (pc := 64) (v := (-5 : Int32)) dX6_factHere_64 (by decide) ?_
            refine jj_goto hk (pc := 66) 70 dX6_factHere_66 (by decide) ?_
            exact jm_retRi hk (pc := 70) dX6_factHere_70
        · refine jj_bipush hk (pc := 51) (v := (-4 : Int32)) dX6_factHere_51 (by decide) ?_
          refine jj_goto hk (pc := 53) 70 dX6_factHere_53 (by decide) ?_
          exact jm_retRi hk (pc := 70) dX6_factHere_70
      · refine jj_bipush hk (pc := 38) (v := (-3 : Int32)) dX6_factHere_38 (by decide) ?_
        refine jj_goto hk (pc := 40) 70 dX6_factHere_40 (by decide) ?_
        exact jm_retRi hk (pc := 70) dX6_factHere_70
    · refine jj_bipush hk (pc := 25) (v := (-2 : Int32)) dX6_factHere_25 (by decide) ?_
      refine jj_goto hk (pc := 27) 70 dX6_factHere_27 (by decide) ?_
      exact jm_retRi hk (pc := 70) dX6_factHere_70
  · refine jj_iconst hk (pc := 13) (v := (-1 : Int32)) dX6_factHere_13 (by decide) ?_
    refine jj_goto hk (pc := 14) 70 dX6_factHere_14 (by decide) ?_
    exact jm_retRi hk (pc := 70) dX6_factHere_70
end
section
variable {p : Program} {l : Launch} {e : Env} {R : Room} {s : State} {m : MethodId} {args : Array Value} {below : List Frame} {meth : Method} {c : Code}
variable {G : jG}
variable {NX : Nat} {Q : State → Prop} {nL : Nat} {cc : ByteArray} {fr lo frc loc : Nat} {ret : Option FieldType}
variable {pc : Nat} {μ : MS} {lv : List (Nat × Value)} {st : List Value} {ρ : Type} {res : ρ}
theorem kc_m_factHere (hk : jk p R s m args meth c NX cc nL RX6 fr lo ret) (hK : mK G s)  {F : Option Int32} {K : Int32 → Option ρ} (hM : ∀ r, F = some r → jM l yX6_factHere (ws_ yX6_factHere cX6_factHere 3 (some .int)) frc loc [.ref (gh G)] (mWo G) (mnx G) (mK G) μ (jR μ r) (gA G) (gn G)) (hd : decode cc pc = .ok (.invokevirtual 350, 3)) (hr : frc + 1 ≤ fr ∧ 8 + (3 + 11) + loc ≤ lo) (hw : (st.map fun v => v.category).sum ≤ 8) (kk : ∀ r, jj p l e R s m args below meth c (gA G) NX Q (mWo G) (mnx G) nL μ (pc + 3) lv (.int r :: st) (K r = some res)) : jj p l e R s m args below meth c (gA G) NX Q (mWo G) (mnx G) nL μ pc lv (.ref (gh G) :: st) (F.bind K = some res) :=
  jm_VRi (n := 0) hk hK [] hM (lw_V q2099 q2101 qs102 q127 q2102) (by decide +kernel) rfl rfl hd hr hw kk
end
section
variable {p : Program} {l : Launch} {e : Env} {R : Room} {s : State} {m : MethodId} {args : Array Value} {below : List Frame} {meth : Method} {c : Code}
variable {G : jG}
set_option maxHeartbeats 4000000 in
theorem cc_m_isDigit (l : Launch) (G : jG)  (μ : MS) (a0 : Int32) (res : Bool) (hf : m_isDigit a0 = some res) : jM l yX6_isDigit (ws_ yX6_isDigit cX6_isDigit 1 (some .boolean)) 1 25 [.int a0] (mWo G) (mnx G) (mK G) μ (jRz μ res) (gA G) (gn G) := by
  refine jj_start [(0, .int a0)] (by decide) (Nat.le_of_ble_eq_true rfl) rfl (fun p e R s m args below meth c hk hK hsz => ?_) hf
  have hk : jk p R s m args meth c (gn G) cX6_isDigit 1 RX6 1 25 (some .boolean) := hk
  unfold m_isDigit
  refine jj_iload_n hk (pc := 0) dX6_isDigit_0 0 rfl rfl ?_
  refine jj_i2l hk (pc := 1) dX6_isDigit_1 ?_
  refine jj_ldc2_w hk (pc := 2) q2051 dX6_isDigit_2 ?_
  refine jj_ldc2_w hk (pc := 5) q2052 dX6_isDigit_5 ?_
  refine kc_m_in hk hK (pc := 8) (a0 := a0.toInt64) (a1 := (48 : Int64)) (a2 := (57 : Int64)) (fun r h => cc_m_in l G μ a0.toInt64 (48 : Int64) (57 : Int64) r h) dX6_isDigit_8 ⟨Nat.le_of_ble_eq_true rfl, Nat.le_of_ble_eq_true rfl⟩ (Nat.le_of_ble_eq_true rfl) (fun r1 => ?_)
  exact jm_retRz hk (pc := 11) (b := r1) dX6_isDigit_11
end
section
variable {p : Program} {l : Launch} {e : Env} {R : Room} {s : State} {m : MethodId} {args : Array Value} {below : List Frame} {meth : Method} {c : Code}
variable {G : jG}
variable {NX : Nat} {Q : State → Prop} {nL : Nat} {cc : ByteArray} {fr lo frc loc : Nat} {ret : Option FieldType}
variable {pc : Nat} {μ : MS} {lv : List (Nat × Value)} {st : List Value} {ρ : Type} {res : ρ}
theorem kc_m_isDigit (hk : jk p R s m args meth c NX cc nL RX6 fr lo ret) (hK : mK G s) {a0 : Int32} {F : Option Bool} {K : Bool → Option ρ} (hM : ∀ r, F = some r → jM l yX6_isDigit (ws_ yX6_isDigit cX6_isDigit 1 (some .boolean)) frc loc [.int a0] (mWo G) (mnx G) (mK G) μ (jRz μ r) (gA G) (gn G)) (hd : decode cc pc = .ok (.invokestatic 300, 3)) (hr : frc + 1 ≤ fr ∧ 8 + (1 + 11) + loc ≤ lo) (hw : (st.map fun v => v.category).sum ≤ 8) (kk : ∀ r, jj p l e R s m args below meth c (gA G) NX Q (mWo G) (mnx G) nL μ (pc + 3) lv (.int (bI r) :: st) (K r = some res)) : jj p l e R s m args below meth c (gA G) NX Q (mWo G) (mnx G) nL μ pc lv (.int a0 :: st) (F.bind K = some res) :=
  jm_SRz (n := 1) hk hK [.int a0] hM (lw_S q2048 q2049 q127 q2050) (by decide +kernel) rfl rfl hd hr hw kk
end
section
variable {p : Program} {l : Launch} {e : Env} {R : Room} {s : State} {m : MethodId} {args : Array Value} {below : List Frame} {meth : Method} {c : Code}
variable {G : jG}
set_option maxHeartbeats 4000000 in
theorem wb_m_token_L86 {res : MS} (hk : jk p R s m args meth c (gn G) cX6_token 3 RX6 2 45 none) (hK : mK G s) (N : Nat) : ∀ (n : Nat) (μ : MS) (x1 : Bool) (x2 : Bool), jj p l e R s m args below meth c (gA G) (gn G) (jZ below args s (gA G) (gn G) (jV res) (mWo G) (mnx G)) (mWo G) (mnx G) 3 μ 86 [(0, .ref (gh G)), (1, .int (bI x1)), (2, .int (bI x2))] [] (m_token_L86 N n μ x1 x2 = some res) := by
  intro n
  induction n with
  | zero => intro μ x1 x2; exact jj_eq (fun hz => by rw [m_token_L86] at hz; exact hz) jj_no
  | succ n ih =>
    intro μ x1 x2
    rw [m_token_L86]
    refine jj_iload_n hk (pc := 86) dX6_token_86 1 rfl rfl ?_
    refine jj_if_eq_b hk (pc := 87) 104 dX6_token_87 (by decide) ?_ ?_
    · refine jj_iload_n hk (pc := 104) dX6_token_104 2 rfl rfl ?_
      refine jj_if_eq_b hk (pc := 105) 135 dX6_token_105 (by decide) ?_ ?_
      · exact jm_retV hk (pc := 135) dX6_token_135
      · refine jj_aload_n hk (pc := 108) dX6_token_108 0 rfl rfl ?_
        refine jj_aload_n hk (pc := 109) dX6_token_109 0 rfl rfl ?_
        refine jm_g_to hk hK (pc := 110) dX6_token_110 ?_
        refine kc_m_byteAt hk hK (pc := 113) (a0 := (μ.1 25)) (fun r h => cc_m_byteAt l G μ (μ.1 25) r h) dX6_token_113 ⟨Nat.le_of_ble_eq_true rfl, Nat.le_of_ble_eq_true rfl⟩ (Nat.le_of_ble_eq_true rfl) (fun r1 => ?_)
        refine kc_m_isDigit hk hK (pc := 116) (a0 := r1) (fun r h => cc_m_isDigit l G μ r1 r h) dX6_token_116 ⟨Nat.le_of_ble_eq_true rfl, Nat.le_of_ble_eq_true rfl⟩ (Nat.le_of_ble_eq_true rfl) (fun r2 => ?_)
        refine jj_if_eq_b hk (pc := 119) 135 dX6_token_119 (by decide) ?_ ?_
        · exact jm_retV hk (pc := 135) dX6_token_135
        · refine jj_aload_n hk (pc := 122) dX6_token_122 0 rfl rfl ?_
          refine jj_dup hk (pc := 123) dX6_token_123 rfl ?_
          refine jm_g_to hk hK (pc := 124) dX6_token_124 ?_
          refine jj_iconst hk (pc := 127) (v := (1 : Int32)) dX6_token_127 (by decide) ?_
          refine jj_iadd hk (pc := 128) dX6_token_128 ?_
          refine jm_p_to hk hK (pc := 129) dX6_token_129 (fun μ3 => ?_)
          refine jj_goto hk (pc := 132) 86 dX6_token_132 (by decide) ?_
          refine jj_loc [(0, .ref (gh G)), (1, .int (bI x1)), (2, .int (bI x2))] [0, 1, 2] rfl ?_
          exact ih μ3 x1 x2
    · refine jj_aload_n hk (pc := 90) dX6_token_90 0 rfl rfl ?_
      refine jj_aload_n hk (pc := 91) dX6_token_91 0 rfl rfl ?_
      refine jm_g_to hk hK (pc := 92) dX6_token_92 ?_
      refine kc_m_byteAt hk hK (pc := 95) (a0 := (μ.1 25)) (fun r h => cc_m_byteAt l G μ (μ.1 25) r h) dX6_token_95 ⟨Nat.le_of_ble_eq_true rfl, Nat.le_of_ble_eq_true rfl⟩ (Nat.le_of_ble_eq_true rfl) (fun r4 => ?_)
      refine kc_m_isLetter hk hK (pc := 98) (a0 := r4) (fun r h => cc_m_isLetter l G μ r4 r h) dX6_token_98 ⟨Nat.le_of_ble_eq_true rfl, Nat.le_of_ble_eq_true rfl⟩ (Nat.le_of_ble_eq_true rfl) (fun r5 => ?_)
      refine jj_if_ne_b hk (pc := 101) 122 dX6_token_101 (by decide) ?_ ?_
      · refine jj_aload_n hk (pc := 122) dX6_token_122 0 rfl rfl ?_
        refine jj_dup hk (pc := 123) dX6_token_123 rfl ?_
        refine jm_g_to hk hK (pc := 124) dX6_token_124 ?_
        refine jj_iconst hk (pc := 127) (v := (1 : Int32)) dX6_token_127 (by decide) ?_
        refine jj_iadd hk (pc := 128) dX6_token_128 ?_
        refine jm_p_to hk hK (pc := 129) dX6_token_129 (fun μ6 => ?_)
        refine jj_goto hk (pc := 132) 86 dX6_token_132 (by decide) ?_
        refine jj_loc [(0, .ref (gh G)), (1, .int (bI x1)), (2, .int (bI x2))] [0, 1, 2] rfl ?_
        exact ih μ6 x1 x2
      · refine jj_iload_n hk (pc := 104) dX6_token_104 2 rfl rfl ?_
        refine jj_if_eq_b hk (pc := 105) 135 dX6_token_105 (by decide) ?_ ?_
        · exact jm_retV hk (pc := 135) dX6_token_135
        · refine jj_aload_n hk (pc := 108) dX6_token_108 0 rfl rfl ?_
          refine jj_aload_n hk (pc := 109) dX6_token_109 0 rfl rfl ?_
          refine jm_g_to hk hK (pc := 110) dX6_token_110 ?_
          refine kc_m_byteAt hk hK (pc := 113) (a0 := (μ.1 25)) (fun r h => cc_m_byteAt l G μ (μ.1 25) r h) dX6_token_113 ⟨Nat.le_of_ble_eq_true rfl, Nat.le_of_ble_eq_true rfl⟩ (Nat.le_of_ble_eq_true rfl) (fun r7 => ?_)
          refine kc_m_isDigit hk hK (pc := 116) (a0 := r7) (fun r h => cc_m_isDigit l G μ r7 r h) dX6_token_116 ⟨Nat.le_of_ble_eq_true rfl, Nat.le_of_ble_eq_true rfl⟩ (Nat.le_of_ble_eq_true rfl) (fun r8 => ?_)
          refine jj_if_eq_b hk (pc := 119) 135 dX6_token_119 (by decide) ?_ ?_
          · exact jm_retV hk (pc := 135) dX6_token_135
          · refine jj_aload_n hk (pc := 122) dX6_token_122 0 rfl rfl ?_
            refine jj_dup hk (pc := 123) dX6_token_123 rfl ?_
            refine jm_g_to hk hK (pc := 124) dX6_token_124 ?_
            refine jj_iconst hk (pc := 127) (v := (1 : Int32)) dX6_token_127 (by decide) ?_
            refine jj_iadd hk (pc := 128) dX6_token_128 ?_
            refine jm_p_to hk hK (pc := 129) dX6_token_129 (fun μ9 => ?_)
            refine jj_goto hk (pc := 132) 86 dX6_token_132 (by decide) ?_
            refine jj_loc [(0, .ref (gh G)), (1, .int (bI x1)), (2, .int (bI x2))] [0, 1, 2] rfl ?_
            exact ih μ9 x1 x2
set_option maxHeartbeats 4000000 in
theorem wb_m_token_L8 {res : MS} (hk : jk p R s m args meth c (gn G) cX6_token 3 RX6 2 45 none) (hK : mK G s) (N : Nat) : ∀ (n : Nat) (μ : MS), jj p l e R s m args below meth c (gA G) (gn G) (jZ below args s (gA G) (gn G) (jV res) (mWo G) (mnx G)) (mWo G) (mnx G) 3 μ 8 [(0, .ref (gh G))] [] (m_token_L8 N n μ = some res) := by
  intro n
  induction n with
  | zero => intro μ; exact jj_eq (fun hz => by rw [m_token_L8] at hz; exact hz) jj_no
  | succ n ih =>
    intro μ
    rw [m_token_L8]
    refine jj_aload_n hk (pc := 8) dX6_token_8 0 rfl rfl ?_
    refine jj_aload_n hk (pc := 9) dX6_token_9 0 rfl rfl ?_
    refine jm_g_from hk hK (pc := 10) dX6_token_10 ?_
    refine kc_m_byteAt hk hK (pc := 13) (a0 := (μ.1 24)) (fun r h => cc_m_byteAt l G μ (μ.1 24) r h) dX6_token_13 ⟨Nat.le_of_ble_eq_true rfl, Nat.le_of_ble_eq_true rfl⟩ (Nat.le_of_ble_eq_true rfl) (fun r1 => ?_)
    refine jj_bipush hk (pc := 16) (v := (32 : Int32)) dX6_token_16 (by decide) ?_
    refine jj_icmp_ne hk (pc := 18) 34 dX6_token_18 (by decide) ?_ ?_
    · refine jj_aload_n hk (pc := 34) dX6_token_34 0 rfl rfl ?_
      refine jj_aload_n hk (pc := 35) dX6_token_35 0 rfl rfl ?_
      refine jm_g_from hk hK (pc := 36) dX6_token_36 ?_
      refine kc_m_byteAt hk hK (pc := 39) (a0 := (μ.1 24)) (fun r h => cc_m_byteAt l G μ (μ.1 24) r h) dX6_token_39 ⟨Nat.le_of_ble_eq_true rfl, Nat.le_of_ble_eq_true rfl⟩ (Nat.le_of_ble_eq_true rfl) (fun r2 => ?_)
      refine kc_m_isLetter hk hK (pc := 42) (a0 := r2) (fun r h => cc_m_isLetter l G μ r2 r h) dX6_token_42 ⟨Nat.le_of_ble_eq_true rfl, Nat.le_of_ble_eq_true rfl⟩ (Nat.le_of_ble_eq_true rfl) (fun r3 => ?_)
      refine jj_istore_n hk (pc := 45) [(1, .int (bI r3)), (0, .ref (gh G))] dX6_token_45 rfl (Nat.le_of_ble_eq_true rfl) rfl ?_
      refine jj_aload_n hk (pc := 46) dX6_token_46 1 rfl rfl ?_
      refine jj_aload_n hk (pc := 47) dX6_token_47 1 rfl rfl ?_
      refine jm_g_from hk hK (pc := 48) dX6_token_48 ?_
      refine kc_m_byteAt hk hK (pc := 51) (a0 := (μ.1 24)) (fun r h => cc_m_byteAt l G μ (μ.1 24) r h) dX6_token_51 ⟨Nat.le_of_ble_eq_true rfl, Nat.le_of_ble_eq_true rfl⟩ (Nat.le_of_ble_eq_true rfl) (fun r4 => ?_)
      refine kc_m_isDigit hk hK (pc := 54) (a0 := r4) (fun r h => cc_m_isDigit l G μ r4 r h) dX6_token_54 ⟨Nat.le_of_ble_eq_true rfl, Nat.le_of_ble_eq_true rfl⟩ (Nat.le_of_ble_eq_true rfl) (fun r5 => ?_)
      refine jj_istore_n hk (pc := 57) [(2, .int (bI r5)), (1, .int (bI r3)), (0, .ref (gh G))] dX6_token_57 rfl (Nat.le_of_ble_eq_true rfl) rfl ?_
      refine jj_aload_n hk (pc := 58) dX6_token_58 2 rfl rfl ?_
      refine jj_aload_n hk (pc := 59) dX6_token_59 2 rfl rfl ?_
      refine jm_g_from hk hK (pc := 60) dX6_token_60 ?_
      refine jj_aload_n hk (pc := 63) dX6_token_63 2 rfl rfl ?_
      refine jm_g_taped hk hK (pc := 64) dX6_token_64 ?_
      refine jj_icmp_ge hk (pc := 67) 79 dX6_token_67 (by decide) ?_ ?_
      · refine jj_aload_n hk (pc := 79) dX6_token_79 2 rfl rfl ?_
        refine jm_g_from hk hK (pc := 80) dX6_token_80 ?_
        refine jm_p_to hk hK (pc := 83) dX6_token_83 (fun μ6 => ?_)
        refine jj_loc [(0, .ref (gh G)), (1, .int (bI r3)), (2, .int (bI r5))] [2, 1, 0] rfl ?_
        exact wb_m_token_L86 hk hK N N μ6 r3 r5
      · refine jj_aload_n hk (pc := 70) dX6_token_70 2 rfl rfl ?_
        refine jm_g_from hk hK (pc := 71) dX6_token_71 ?_
        refine jj_iconst hk (pc := 74) (v := (1 : Int32)) dX6_token_74 (by decide) ?_
        refine jj_iadd hk (pc := 75) dX6_token_75 ?_
        refine jj_goto hk (pc := 76) 83 dX6_token_76 (by decide) ?_
        refine jm_p_to hk hK (pc := 83) dX6_token_83 (fun μ7 => ?_)
        refine jj_loc [(0, .ref (gh G)), (1, .int (bI r3)), (2, .int (bI r5))] [2, 1, 0] rfl ?_
        exact wb_m_token_L86 hk hK N N μ7 r3 r5
    · refine jj_aload_n hk (pc := 21) dX6_token_21 0 rfl rfl ?_
      refine jj_dup hk (pc := 22) dX6_token_22 rfl ?_
      refine jm_g_from hk hK (pc := 23) dX6_token_23 ?_
      refine jj_iconst hk (pc := 26) (v := (1 : Int32)) dX6_token_26 (by decide) ?_
      refine jj_iadd hk (pc := 27) dX6_token_27 ?_
      refine jm_p_from hk hK (pc := 28) dX6_token_28 (fun μ8 => ?_)
      refine jj_goto hk (pc := 31) 8 dX6_token_31 (by decide) ?_
      refine jj_loc [(0, .ref (gh G))] [0] rfl ?_
      exact ih μ8
set_option maxHeartbeats 4000000 in
theorem cc_m_token (l : Launch) (G : jG) (N : Nat) (μ : MS)  (res : MS) (hf : m_token N μ = some res) : jM l yX6_token (ws_ yX6_token cX6_token 3 none) 2 45 [.ref (gh G)] (mWo G) (mnx G) (mK G) μ (jV res) (gA G) (gn G) := by
  refine jj_start [(0, .ref (gh G))] (by decide) (Nat.le_of_ble_eq_true rfl) rfl (fun p e R s m args below meth c hk hK hsz => ?_) hf
  have hk : jk p R s m args meth c (gn G) cX6_token 3 RX6 2 45 none := hk
  unfold m_token
  refine jj_aload_n hk (pc := 0) dX6_token_0 0 rfl rfl ?_
  refine jj_aload_n hk (pc := 1) dX6_token_1 0 rfl rfl ?_
  refine jm_g_to hk hK (pc := 2) dX6_token_2 ?_
  refine jm_p_from hk hK (pc := 5) dX6_token_5 (fun μ1 => ?_)
  refine jj_loc [(0, .ref (gh G))] [0] rfl ?_
  exact wb_m_token_L8 hk hK N N μ1
end
section
variable {p : Program} {l : Launch} {e : Env} {R : Room} {s : State} {m : MethodId} {args : Array Value} {below : List Frame} {meth : Method} {c : Code}
variable {G : jG}
variable {NX : Nat} {Q : State → Prop} {nL : Nat} {cc : ByteArray} {fr lo frc loc : Nat} {ret : Option FieldType}
variable {pc : Nat} {μ : MS} {lv : List (Nat × Value)} {st : List Value} {ρ : Type} {res : ρ}
theorem kc_m_token (hk : jk p R s m args meth c NX cc nL RX6 fr lo ret) (hK : mK G s)  {F : Option MS} {K : MS → Option ρ} (hM : ∀ r, F = some r → jM l yX6_token (ws_ yX6_token cX6_token 3 none) frc loc [.ref (gh G)] (mWo G) (mnx G) (mK G) μ (jV r) (gA G) (gn G)) (hd : decode cc pc = .ok (.invokevirtual 307, 3)) (hr : frc + 1 ≤ fr ∧ 8 + (3 + 11) + loc ≤ lo) (hw : (st.map fun v => v.category).sum ≤ 8) (kk : ∀ r, jj p l e R s m args below meth c (gA G) NX Q (mWo G) (mnx G) nL r (pc + 3) lv st (K r = some res)) : jj p l e R s m args below meth c (gA G) NX Q (mWo G) (mnx G) nL μ pc lv (.ref (gh G) :: st) (F.bind K = some res) :=
  jm_VV (n := 0) hk hK [] hM (lw_V q2035 q2037 qs91 q127 q2038) (by decide +kernel) rfl rfl hd hr hw kk
end
section
variable {p : Program} {l : Launch} {e : Env} {R : Room} {s : State} {m : MethodId} {args : Array Value} {below : List Frame} {meth : Method} {c : Code}
variable {G : jG}
set_option maxHeartbeats 4000000 in
theorem cc_m_wants (l : Launch) (G : jG) (N : Nat) (μ : MS) (a0 : Bool) (res : MS) (hf : m_wants N μ a0 = some res) : jM l yX6_wants (ws_ yX6_wants cX6_wants 2 none) 3 67 [.ref (gh G), .int (bI a0)] (mWo G) (mnx G) (mK G) μ (jV res) (gA G) (gn G) := by
  refine jj_start [(0, .ref (gh G)), (1, .int (bI a0))] (by decide) (Nat.le_of_ble_eq_true rfl) rfl (fun p e R s m args below meth c hk hK hsz => ?_) hf
  have hk : jk p R s m args meth c (gn G) cX6_wants 2 RX6 3 67 none := hk
  unfold m_wants
  refine jj_aload_n hk (pc := 0) dX6_wants_0 0 rfl rfl ?_
  refine jj_aload_n hk (pc := 1) dX6_wants_1 0 rfl rfl ?_
  refine jm_g_isWrong hk hK (pc := 2) dX6_wants_2 ?_
  refine jj_if_ne hk (pc := 5) 12 dX6_wants_5 (by decide) ?_ ?_
  · refine jj_iconst hk (pc := 12) (v := (1 : Int32)) dX6_wants_12 (by decide) ?_
    refine jj_goto hk (pc := 13) 17 dX6_wants_13 (by decide) ?_
    refine jm_p_isWrong hk hK (pc := 17) (b := true) dX6_wants_17 (fun μ1 => ?_)
    refine jj_aload_n hk (pc := 20) dX6_wants_20 0 rfl rfl ?_
    refine jm_g_isWrong hk hK (pc := 21) dX6_wants_21 ?_
    refine jj_if_ne hk (pc := 24) 31 dX6_wants_24 (by decide) ?_ ?_
    · exact jm_retV hk (pc := 31) dX6_wants_31
    · refine jj_aload_n hk (pc := 27) dX6_wants_27 0 rfl rfl ?_
      refine kc_m_token hk hK (pc := 28)  (fun r h => cc_m_token l G N μ1 r h) dX6_wants_28 ⟨Nat.le_of_ble_eq_true rfl, Nat.le_of_ble_eq_true rfl⟩ (Nat.le_of_ble_eq_true rfl) (fun r2 => ?_)
      exact jm_retV hk (pc := 31) dX6_wants_31
  · refine jj_iload_n hk (pc := 8) dX6_wants_8 1 rfl rfl ?_
    refine jj_if_ne_b hk (pc := 9) 16 dX6_wants_9 (by decide) ?_ ?_
    · refine jj_iconst hk (pc := 16) (v := (0 : Int32)) dX6_wants_16 (by decide) ?_
      refine jm_p_isWrong hk hK (pc := 17) (b := false) dX6_wants_17 (fun μ3 => ?_)
      refine jj_aload_n hk (pc := 20) dX6_wants_20 0 rfl rfl ?_
      refine jm_g_isWrong hk hK (pc := 21) dX6_wants_21 ?_
      refine jj_if_ne hk (pc := 24) 31 dX6_wants_24 (by decide) ?_ ?_
      · exact jm_retV hk (pc := 31) dX6_wants_31
      · refine jj_aload_n hk (pc := 27) dX6_wants_27 0 rfl rfl ?_
        refine kc_m_token hk hK (pc := 28)  (fun r h => cc_m_token l G N μ3 r h) dX6_wants_28 ⟨Nat.le_of_ble_eq_true rfl, Nat.le_of_ble_eq_true rfl⟩ (Nat.le_of_ble_eq_true rfl) (fun r4 => ?_)
        exact jm_retV hk (pc := 31) dX6_wants_31
    · refine jj_iconst hk (pc := 12) (v := (1 : Int32)) dX6_wants_12 (by decide) ?_
      refine jj_goto hk (pc := 13) 17 dX6_wants_13 (by decide) ?_
      refine jm_p_isWrong hk hK (pc := 17) (b := true) dX6_wants_17 (fun μ5 => ?_)
      refine jj_aload_n hk (pc := 20) dX6_wants_20 0 rfl rfl ?_
      refine jm_g_isWrong hk hK (pc := 21) dX6_wants_21 ?_
      refine jj_if_ne hk (pc := 24) 31 dX6_wants_24 (by decide) ?_ ?_
      · exact jm_retV hk (pc := 31) dX6_wants_31
      · refine jj_aload_n hk (pc := 27) dX6_wants_27 0 rfl rfl ?_
        refine kc_m_token hk hK (pc := 28)  (fun r h => cc_m_token l G N μ5 r h) dX6_wants_28 ⟨Nat.le_of_ble_eq_true rfl, Nat.le_of_ble_eq_true rfl⟩ (Nat.le_of_ble_eq_true rfl) (fun r6 => ?_)
        exact jm_retV hk (pc := 31) dX6_wants_31
end
section
variable {p : Program} {l : Launch} {e : Env} {R : Room} {s : State} {m : MethodId} {args : Array Value} {below : List Frame} {meth : Method} {c : Code}
variable {G : jG}
variable {NX : Nat} {Q : State → Prop} {nL : Nat} {cc : ByteArray} {fr lo frc loc : Nat} {ret : Option FieldType}
variable {pc : Nat} {μ : MS} {lv : List (Nat × Value)} {st : List Value} {ρ : Type} {res : ρ}
theorem kc_m_wants (hk : jk p R s m args meth c NX cc nL RX6 fr lo ret) (hK : mK G s) {a0 : Bool} {F : Option MS} {K : MS → Option ρ} (hM : ∀ r, F = some r → jM l yX6_wants (ws_ yX6_wants cX6_wants 2 none) frc loc [.ref (gh G), .int (bI a0)] (mWo G) (mnx G) (mK G) μ (jV r) (gA G) (gn G)) (hd : decode cc pc = .ok (.invokevirtual 317, 3)) (hr : frc + 1 ≤ fr ∧ 8 + (2 + 11) + loc ≤ lo) (hw : (st.map fun v => v.category).sum ≤ 8) (kk : ∀ r, jj p l e R s m args below meth c (gA G) NX Q (mWo G) (mnx G) nL r (pc + 3) lv st (K r = some res)) : jj p l e R s m args below meth c (gA G) NX Q (mWo G) (mnx G) nL μ pc lv (.int (bI a0) :: .ref (gh G) :: st) (F.bind K = some res) :=
  jm_VV (n := 1) hk hK [.int (bI a0)] hM (lw_V q2073 q2075 qs96 q127 q2076) (by decide +kernel) rfl rfl hd hr hw kk
end
section
variable {p : Program} {l : Launch} {e : Env} {R : Room} {s : State} {m : MethodId} {args : Array Value} {below : List Frame} {meth : Method} {c : Code}
variable {G : jG}
set_option maxHeartbeats 4000000 in
theorem wb_m_number_L43 {res : MS} (hk : jk p R s m args meth c (gn G) cX6_number 4 RX6 4 88 none) (hK : mK G s) (N : Nat) : ∀ (n : Nat) (μ : MS) (x1 : Int32) (x2 : Bool) (x3 : Int32), jj p l e R s m args below meth c (gA G) (gn G) (jZ below args s (gA G) (gn G) (jV res) (mWo G) (mnx G)) (mWo G) (mnx G) 4 μ 43 [(0, .ref (gh G)), (1, .int x1), (2, .int (bI x2)), (3, .int x3)] [] (m_number_L43 N n μ x1 x2 x3 = some res) := by
  intro n
  induction n with
  | zero => intro μ x1 x2 x3; exact jj_eq (fun hz => by rw [m_number_L43] at hz; exact hz) jj_no
  | succ n ih =>
    intro μ x1 x2 x3
    rw [m_number_L43]
    refine jj_iload_n hk (pc := 43) dX6_number_43 3 rfl rfl ?_
    refine jj_aload_n hk (pc := 44) dX6_number_44 0 rfl rfl ?_
    refine jm_g_to hk hK (pc := 45) dX6_number_45 ?_
    refine jj_icmp_ge hk (pc := 48) 82 dX6_number_48 (by decide) ?_ ?_
    · refine jj_aload_n hk (pc := 82) dX6_number_82 0 rfl rfl ?_
      refine jj_iload_n hk (pc := 83) dX6_number_83 2 rfl rfl ?_
      refine jj_if_eq_b hk (pc := 84) 99 dX6_number_84 (by decide) ?_ ?_
      · refine jj_iconst hk (pc := 99) (v := (0 : Int32)) dX6_number_99 (by decide) ?_
        refine kc_m_wants hk hK (pc := 100) (a0 := false) (fun r h => cc_m_wants l G N μ false r h) dX6_number_100 ⟨Nat.le_of_ble_eq_true rfl, Nat.le_of_ble_eq_true rfl⟩ (Nat.le_of_ble_eq_true rfl) (fun r1 => ?_)
        exact jm_retV hk (pc := 103) dX6_number_103
      · refine jj_aload_n hk (pc := 87) dX6_number_87 0 rfl rfl ?_
        refine jm_g_value hk hK (pc := 88) dX6_number_88 ?_
        refine jj_iload_n hk (pc := 91) dX6_number_91 1 rfl rfl ?_
        refine jj_icmp_gt hk (pc := 92) 99 dX6_number_92 (by decide) ?_ ?_
        · refine jj_iconst hk (pc := 99) (v := (0 : Int32)) dX6_number_99 (by decide) ?_
          refine kc_m_wants hk hK (pc := 100) (a0 := false) (fun r h => cc_m_wants l G N μ false r h) dX6_number_100 ⟨Nat.le_of_ble_eq_true rfl, Nat.le_of_ble_eq_true rfl⟩ (Nat.le_of_ble_eq_true rfl) (fun r2 => ?_)
          exact jm_retV hk (pc := 103) dX6_number_103
        · refine jj_iconst hk (pc := 95) (v := (1 : Int32)) dX6_number_95 (by decide) ?_
          refine jj_goto hk (pc := 96) 100 dX6_number_96 (by decide) ?_
          refine kc_m_wants hk hK (pc := 100) (a0 := true) (fun r h => cc_m_wants l G N μ true r h) dX6_number_100 ⟨Nat.le_of_ble_eq_true rfl, Nat.le_of_ble_eq_true rfl⟩ (Nat.le_of_ble_eq_true rfl) (fun r3 => ?_)
          exact jm_retV hk (pc := 103) dX6_number_103
    · refine jj_iload_n hk (pc := 51) dX6_number_51 2 rfl rfl ?_
      refine jj_if_eq_b hk (pc := 52) 82 dX6_number_52 (by decide) ?_ ?_
      · refine jj_aload_n hk (pc := 82) dX6_number_82 0 rfl rfl ?_
        refine jj_iload_n hk (pc := 83) dX6_number_83 2 rfl rfl ?_
        refine jj_if_eq_b hk (pc := 84) 99 dX6_number_84 (by decide) ?_ ?_
        · refine jj_iconst hk (pc := 99) (v := (0 : Int32)) dX6_number_99 (by decide) ?_
          refine kc_m_wants hk hK (pc := 100) (a0 := false) (fun r h => cc_m_wants l G N μ false r h) dX6_number_100 ⟨Nat.le_of_ble_eq_true rfl, Nat.le_of_ble_eq_true rfl⟩ (Nat.le_of_ble_eq_true rfl) (fun r4 => ?_)
          exact jm_retV hk (pc := 103) dX6_number_103
        · refine jj_aload_n hk (pc := 87) dX6_number_87 0 rfl rfl ?_
          refine jm_g_value hk hK (pc := 88) dX6_number_88 ?_
          refine jj_iload_n hk (pc := 91) dX6_number_91 1 rfl rfl ?_
          refine jj_icmp_gt hk (pc := 92) 99 dX6_number_92 (by decide) ?_ ?_
          · refine jj_iconst hk (pc := 99) (v := (0 : Int32)) dX6_number_99 (by decide) ?_
            refine kc_m_wants hk hK (pc := 100) (a0 := false) (fun r h => cc_m_wants l G N μ false r h) dX6_number_100 ⟨Nat.le_of_ble_eq_true rfl, Nat.le_of_ble_eq_true rfl⟩ (Nat.le_of_ble_eq_true rfl) (fun r5 => ?_)
            exact jm_retV hk (pc := 103) dX6_number_103
          · refine jj_iconst hk (pc := 95) (v := (1 : Int32)) dX6_number_95 (by decide) ?_
            refine jj_goto hk (pc := 96) 100 dX6_number_96 (by decide) ?_
            refine kc_m_wants hk hK (pc := 100) (a0 := true) (fun r h => cc_m_wants l G N μ true r h) dX6_number_100 ⟨Nat.le_of_ble_eq_true rfl, Nat.le_of_ble_eq_true rfl⟩ (Nat.le_of_ble_eq_true rfl) (fun r6 => ?_)
            exact jm_retV hk (pc := 103) dX6_number_103
      · refine jj_aload_n hk (pc := 55) dX6_number_55 0 rfl rfl ?_
        refine jj_bipush hk (pc := 56) (v := (10 : Int32)) dX6_number_56 (by decide) ?_
        refine jj_aload_n hk (pc := 58) dX6_number_58 0 rfl rfl ?_
        refine jm_g_value hk hK (pc := 59) dX6_number_59 ?_
        refine jj_imul hk (pc := 62) dX6_number_62 ?_
        refine jj_aload_n hk (pc := 63) dX6_number_63 0 rfl rfl ?_
        refine jm_g_tape hk hK (pc := 64) dX6_number_64 ?_
        refine jj_iload_n hk (pc := 67) dX6_number_67 3 rfl rfl ?_
        refine jm_ld hk hK (pc := 68) (by decide) dX6_number_68 (fun v7 => ?_)
        refine jj_iadd hk (pc := 69) dX6_number_69 ?_
        refine jj_bipush hk (pc := 70) (v := (48 : Int32)) dX6_number_70 (by decide) ?_
        refine jj_isub hk (pc := 72) dX6_number_72 ?_
        refine jm_p_value hk hK (pc := 73) dX6_number_73 (fun μ8 => ?_)
        refine jj_iinc hk (pc := 76) [(3, .int (x3 + 1)), (0, .ref (gh G)), (1, .int x1), (2, .int (bI x2))] dX6_number_76 3 rfl rfl (Nat.le_of_ble_eq_true rfl) rfl ?_
        refine jj_goto hk (pc := 79) 43 dX6_number_79 (by decide) ?_
        refine jj_loc [(0, .ref (gh G)), (1, .int x1), (2, .int (bI x2)), (3, .int (x3 + 1))] [1, 2, 3, 0] rfl ?_
        exact ih μ8 x1 x2 (x3 + 1)
set_option maxHeartbeats 4000000 in
theorem cc_m_number (l : Launch) (G : jG) (N : Nat) (μ : MS) (a0 : Int32) (res : MS) (hf : m_number N μ a0 = some res) : jM l yX6_number (ws_ yX6_number cX6_number 4 none) 4 88 [.ref (gh G), .int a0] (mWo G) (mnx G) (mK G) μ (jV res) (gA G) (gn G) := by
  refine jj_start [(0, .ref (gh G)), (1, .int a0)] (by decide) (Nat.le_of_ble_eq_true rfl) rfl (fun p e R s m args below meth c hk hK hsz => ?_) hf
  have hk : jk p R s m args meth c (gn G) cX6_number 4 RX6 4 88 none := hk
  unfold m_number
  refine jj_aload_n hk (pc := 0) dX6_number_0 0 rfl rfl ?_
  refine jj_aload_n hk (pc := 1) dX6_number_1 0 rfl rfl ?_
  refine jm_g_from hk hK (pc := 2) dX6_number_2 ?_
  refine kc_m_byteAt hk hK (pc := 5) (a0 := (μ.1 24)) (fun r h => cc_m_byteAt l G μ (μ.1 24) r h) dX6_number_5 ⟨Nat.le_of_ble_eq_true rfl, Nat.le_of_ble_eq_true rfl⟩ (Nat.le_of_ble_eq_true rfl) (fun r1 => ?_)
  refine kc_m_isDigit hk hK (pc := 8) (a0 := r1) (fun r h => cc_m_isDigit l G μ r1 r h) dX6_number_8 ⟨Nat.le_of_ble_eq_true rfl, Nat.le_of_ble_eq_true rfl⟩ (Nat.le_of_ble_eq_true rfl) (fun r2 => ?_)
  refine jj_if_eq_b hk (pc := 11) 31 dX6_number_11 (by decide) ?_ ?_
  · refine jj_iconst hk (pc := 31) (v := (0 : Int32)) dX6_number_31 (by decide) ?_
    refine jj_istore_n hk (pc := 32) [(2, .int (0 : Int32)), (0, .ref (gh G)), (1, .int a0)] dX6_number_32 rfl (Nat.le_of_ble_eq_true rfl) rfl ?_
    refine jj_aload_n hk (pc := 33) dX6_number_33 1 rfl rfl ?_
    refine jj_iconst hk (pc := 34) (v := (0 : Int32)) dX6_number_34 (by decide) ?_
    refine jm_p_value hk hK (pc := 35) dX6_number_35 (fun μ3 => ?_)
    refine jj_aload_n hk (pc := 38) dX6_number_38 1 rfl rfl ?_
    refine jm_g_from hk hK (pc := 39) dX6_number_39 ?_
    refine jj_istore_n hk (pc := 42) [(3, .int (μ3.1 24)), (2, .int (0 : Int32)), (0, .ref (gh G)), (1, .int a0)] dX6_number_42 rfl (Nat.le_of_ble_eq_true rfl) rfl ?_
    refine jj_loc [(0, .ref (gh G)), (1, .int a0), (2, .int (bI false)), (3, .int (μ3.1 24))] [2, 3, 1, 0] rfl ?_
    exact wb_m_number_L43 hk hK N N μ3 a0 false (μ3.1 24)
  · refine jj_aload_n hk (pc := 14) dX6_number_14 0 rfl rfl ?_
    refine jm_g_to hk hK (pc := 15) dX6_number_15 ?_
    refine jj_aload_n hk (pc := 18) dX6_number_18 0 rfl rfl ?_
    refine jm_g_from hk hK (pc := 19) dX6_number_19 ?_
    refine jj_isub hk (pc := 22) dX6_number_22 ?_
    refine jj_iconst hk (pc := 23) (v := (5 : Int32)) dX6_number_23 (by decide) ?_
    refine jj_icmp_ge hk (pc := 24) 31 dX6_number_24 (by decide) ?_ ?_
    · refine jj_iconst hk (pc := 31) (v := (0 : Int32)) dX6_number_31 (by decide) ?_
      refine jj_istore_n hk (pc := 32) [(2, .int (0 : Int32)), (0, .ref (gh G)), (1, .int a0)] dX6_number_32 rfl (Nat.le_of_ble_eq_true rfl) rfl ?_
      refine jj_aload_n hk (pc := 33) dX6_number_33 1 rfl rfl ?_
      refine jj_iconst hk (pc := 34) (v := (0 : Int32)) dX6_number_34 (by decide) ?_
      refine jm_p_value hk hK (pc := 35) dX6_number_35 (fun μ4 => ?_)
      refine jj_aload_n hk (pc := 38) dX6_number_38 1 rfl rfl ?_
      refine jm_g_from hk hK (pc := 39) dX6_number_39 ?_
      refine jj_istore_n hk (pc := 42) [(3, .int (μ4.1 24)), (2, .int (0 : Int32)), (0, .ref (gh G)), (1, .int a0)] dX6_number_42 rfl (Nat.le_of_ble_eq_true rfl) rfl ?_
      refine jj_loc [(0, .ref (gh G)), (1, .int a0), (2, .int (bI false)), (3, .int (μ4.1 24))] [2, 3, 1, 0] rfl ?_
      exact wb_m_number_L43 hk hK N N μ4 a0 false (μ4.1 24)
    · refine jj_iconst hk (pc := 27) (v := (1 : Int32)) dX6_number_27 (by decide) ?_
      refine jj_goto hk (pc := 28) 32 dX6_number_28 (by decide) ?_
      refine jj_istore_n hk (pc := 32) [(2, .int (1 : Int32)), (0, .ref (gh G)), (1, .int a0)] dX6_number_32 rfl (Nat.le_of_ble_eq_true rfl) rfl ?_
      refine jj_aload_n hk (pc := 33) dX6_number_33 1 rfl rfl ?_
      refine jj_iconst hk (pc := 34) (v := (0 : Int32)) dX6_number_34 (by decide) ?_
      refine jm_p_value hk hK (pc := 35) dX6_number_35 (fun μ5 => ?_)
      refine jj_aload_n hk (pc := 38) dX6_number_38 1 rfl rfl ?_
      refine jm_g_from hk hK (pc := 39) dX6_number_39 ?_
      refine jj_istore_n hk (pc := 42) [(3, .int (μ5.1 24)), (2, .int (1 : Int32)), (0, .ref (gh G)), (1, .int a0)] dX6_number_42 rfl (Nat.le_of_ble_eq_true rfl) rfl ?_
      refine jj_loc [(0, .ref (gh G)), (1, .int a0), (2, .int (bI true)), (3, .int (μ5.1 24))] [2, 3, 1, 0] rfl ?_
      exact wb_m_number_L43 hk hK N N μ5 a0 true (μ5.1 24)
end
section
variable {p : Program} {l : Launch} {e : Env} {R : Room} {s : State} {m : MethodId} {args : Array Value} {below : List Frame} {meth : Method} {c : Code}
variable {G : jG}
variable {NX : Nat} {Q : State → Prop} {nL : Nat} {cc : ByteArray} {fr lo frc loc : Nat} {ret : Option FieldType}
variable {pc : Nat} {μ : MS} {lv : List (Nat × Value)} {st : List Value} {ρ : Type} {res : ρ}
theorem kc_m_number (hk : jk p R s m args meth c NX cc nL RX6 fr lo ret) (hK : mK G s) {a0 : Int32} {F : Option MS} {K : MS → Option ρ} (hM : ∀ r, F = some r → jM l yX6_number (ws_ yX6_number cX6_number 4 none) frc loc [.ref (gh G), .int a0] (mWo G) (mnx G) (mK G) μ (jV r) (gA G) (gn G)) (hd : decode cc pc = .ok (.invokevirtual 356, 3)) (hr : frc + 1 ≤ fr ∧ 8 + (4 + 11) + loc ≤ lo) (hw : (st.map fun v => v.category).sum ≤ 8) (kk : ∀ r, jj p l e R s m args below meth c (gA G) NX Q (mWo G) (mnx G) nL r (pc + 3) lv st (K r = some res)) : jj p l e R s m args below meth c (gA G) NX Q (mWo G) (mnx G) nL μ pc lv (.int a0 :: .ref (gh G) :: st) (F.bind K = some res) :=
  jm_VV (n := 1) hk hK [.int a0] hM (lw_V q2112 q2114 qs104 q127 q2115) (by decide +kernel) rfl rfl hd hr hw kk
end
section
variable {p : Program} {l : Launch} {e : Env} {R : Room} {s : State} {m : MethodId} {args : Array Value} {below : List Frame} {meth : Method} {c : Code}
variable {G : jG}
set_option maxHeartbeats 4000000 in
theorem cc_m_writes (l : Launch) (G : jG)  (μ : MS) (a0 : Int32) (res : MS) (hf : m_writes μ a0 = some res) : jM l yX6_writes (ws_ yX6_writes cX6_writes 2 none) 0 0 [.ref (gh G), .int a0] (mWo G) (mnx G) (mK G) μ (jV res) (gA G) (gn G) := by
  refine jj_start [(0, .ref (gh G)), (1, .int a0)] (by decide) (Nat.le_of_ble_eq_true rfl) rfl (fun p e R s m args below meth c hk hK hsz => ?_) hf
  have hk : jk p R s m args meth c (gn G) cX6_writes 2 RX6 0 0 none := hk
  unfold m_writes
  refine jj_aload_n hk (pc := 0) dX6_writes_0 0 rfl rfl ?_
  refine jm_g_isWrong hk hK (pc := 1) dX6_writes_1 ?_
  refine jj_if_ne hk (pc := 4) 31 dX6_writes_4 (by decide) ?_ ?_
  · exact jm_retV hk (pc := 31) dX6_writes_31
  · refine jj_aload_n hk (pc := 7) dX6_writes_7 0 rfl rfl ?_
    refine jm_g_s hk hK (pc := 8) dX6_writes_8 ?_
    refine jj_sipush hk (pc := 11) (v := (168 : Int32)) dX6_writes_11 (by decide) ?_
    refine jj_aload_n hk (pc := 14) dX6_writes_14 0 rfl rfl ?_
    refine jm_g_coded hk hK (pc := 15) dX6_writes_15 ?_
    refine jj_iadd hk (pc := 18) dX6_writes_18 ?_
    refine jj_iload_n hk (pc := 19) dX6_writes_19 1 rfl rfl ?_
    refine jm_st hk hK (pc := 20) (by decide) dX6_writes_20 (fun μ1 => ?_)
    refine jj_aload_n hk (pc := 21) dX6_writes_21 0 rfl rfl ?_
    refine jj_dup hk (pc := 22) dX6_writes_22 rfl ?_
    refine jm_g_coded hk hK (pc := 23) dX6_writes_23 ?_
    refine jj_iconst hk (pc := 26) (v := (1 : Int32)) dX6_writes_26 (by decide) ?_
    refine jj_iadd hk (pc := 27) dX6_writes_27 ?_
    refine jm_p_coded hk hK (pc := 28) dX6_writes_28 (fun μ2 => ?_)
    exact jm_retV hk (pc := 31) dX6_writes_31
end
section
variable {p : Program} {l : Launch} {e : Env} {R : Room} {s : State} {m : MethodId} {args : Array Value} {below : List Frame} {meth : Method} {c : Code}
variable {G : jG}
variable {NX : Nat} {Q : State → Prop} {nL : Nat} {cc : ByteArray} {fr lo frc loc : Nat} {ret : Option FieldType}
variable {pc : Nat} {μ : MS} {lv : List (Nat × Value)} {st : List Value} {ρ : Type} {res : ρ}
theorem kc_m_writes (hk : jk p R s m args meth c NX cc nL RX6 fr lo ret) (hK : mK G s) {a0 : Int32} {F : Option MS} {K : MS → Option ρ} (hM : ∀ r, F = some r → jM l yX6_writes (ws_ yX6_writes cX6_writes 2 none) frc loc [.ref (gh G), .int a0] (mWo G) (mnx G) (mK G) μ (jV r) (gA G) (gn G)) (hd : decode cc pc = .ok (.invokevirtual 353, 3)) (hr : frc + 1 ≤ fr ∧ 8 + (2 + 11) + loc ≤ lo) (hw : (st.map fun v => v.category).sum ≤ 8) (kk : ∀ r, jj p l e R s m args below meth c (gA G) NX Q (mWo G) (mnx G) nL r (pc + 3) lv st (K r = some res)) : jj p l e R s m args below meth c (gA G) NX Q (mWo G) (mnx G) nL μ pc lv (.int a0 :: .ref (gh G) :: st) (F.bind K = some res) :=
  jm_VV (n := 1) hk hK [.int a0] hM (lw_V q2108 q2110 qs103 q127 q2111) (by decide +kernel) rfl rfl hd hr hw kk
end
section
variable {p : Program} {l : Launch} {e : Env} {R : Room} {s : State} {m : MethodId} {args : Array Value} {below : List Frame} {meth : Method} {c : Code}
variable {G : jG}
set_option maxHeartbeats 4000000 in
theorem cc_m_valueHere (l : Launch) (G : jG) (N : Nat) (μ : MS)  (res : MS) (hf : m_valueHere N μ = some res) : jM l yX6_valueHere (ws_ yX6_valueHere cX6_valueHere 2 none) 5 111 [.ref (gh G)] (mWo G) (mnx G) (mK G) μ (jV res) (gA G) (gn G) := by
  refine jj_start [(0, .ref (gh G))] (by decide) (Nat.le_of_ble_eq_true rfl) rfl (fun p e R s m args below meth c hk hK hsz => ?_) hf
  have hk : jk p R s m args meth c (gn G) cX6_valueHere 2 RX6 5 111 none := hk
  unfold m_valueHere
  refine jj_aload_n hk (pc := 0) dX6_valueHere_0 0 rfl rfl ?_
  refine kc_m_factHere hk hK (pc := 1)  (fun r h => cc_m_factHere l G N μ r h) dX6_valueHere_1 ⟨Nat.le_of_ble_eq_true rfl, Nat.le_of_ble_eq_true rfl⟩ (Nat.le_of_ble_eq_true rfl) (fun r1 => ?_)
  refine jj_istore_n hk (pc := 4) [(1, .int r1), (0, .ref (gh G))] dX6_valueHere_4 rfl (Nat.le_of_ble_eq_true rfl) rfl ?_
  refine jj_iload_n hk (pc := 5) dX6_valueHere_5 0 rfl rfl ?_
  refine jj_if_ge hk (pc := 6) 22 dX6_valueHere_6 (by decide) ?_ ?_
  · refine jj_aload_n hk (pc := 22) dX6_valueHere_22 1 rfl rfl ?_
    refine jm_g_isWrong hk hK (pc := 23) dX6_valueHere_23 ?_
    refine jj_if_ne hk (pc := 26) 44 dX6_valueHere_26 (by decide) ?_ ?_
    · exact jm_retV hk (pc := 44) dX6_valueHere_44
    · refine jj_aload_n hk (pc := 29) dX6_valueHere_29 1 rfl rfl ?_
      refine jj_sipush hk (pc := 30) (v := (9999 : Int32)) dX6_valueHere_30 (by decide) ?_
      refine kc_m_number hk hK (pc := 33) (a0 := (9999 : Int32)) (fun r h => cc_m_number l G N μ (9999 : Int32) r h) dX6_valueHere_33 ⟨Nat.le_of_ble_eq_true rfl, Nat.le_of_ble_eq_true rfl⟩ (Nat.le_of_ble_eq_true rfl) (fun r2 => ?_)
      refine jj_aload_n hk (pc := 36) dX6_valueHere_36 1 rfl rfl ?_
      refine jj_aload_n hk (pc := 37) dX6_valueHere_37 1 rfl rfl ?_
      refine jm_g_value hk hK (pc := 38) dX6_valueHere_38 ?_
      refine kc_m_writes hk hK (pc := 41) (a0 := (r2.1 26)) (fun r h => cc_m_writes l G r2 (r2.1 26) r h) dX6_valueHere_41 ⟨Nat.le_of_ble_eq_true rfl, Nat.le_of_ble_eq_true rfl⟩ (Nat.le_of_ble_eq_true rfl) (fun r3 => ?_)
      exact jm_retV hk (pc := 44) dX6_valueHere_44
  · refine jj_aload_n hk (pc := 9) dX6_valueHere_9 1 rfl rfl ?_
    refine jj_iconst hk (pc := 10) (v := (1 : Int32)) dX6_valueHere_10 (by decide) ?_
    refine kc_m_wants hk hK (pc := 11) (a0 := true) (fun r h => cc_m_wants l G N μ true r h) dX6_valueHere_11 ⟨Nat.le_of_ble_eq_true rfl, Nat.le_of_ble_eq_true rfl⟩ (Nat.le_of_ble_eq_true rfl) (fun r4 => ?_)
    refine jj_aload_n hk (pc := 14) dX6_valueHere_14 1 rfl rfl ?_
    refine jj_iload_n hk (pc := 15) dX6_valueHere_15 0 rfl rfl ?_
    refine kc_m_writes hk hK (pc := 16) (a0 := r1) (fun r h => cc_m_writes l G r4 r1 r h) dX6_valueHere_16 ⟨Nat.le_of_ble_eq_true rfl, Nat.le_of_ble_eq_true rfl⟩ (Nat.le_of_ble_eq_true rfl) (fun r5 => ?_)
    refine jj_goto hk (pc := 19) 44 dX6_valueHere_19 (by decide) ?_
    exact jm_retV hk (pc := 44) dX6_valueHere_44
end
section
variable {p : Program} {l : Launch} {e : Env} {R : Room} {s : State} {m : MethodId} {args : Array Value} {below : List Frame} {meth : Method} {c : Code}
variable {G : jG}
variable {NX : Nat} {Q : State → Prop} {nL : Nat} {cc : ByteArray} {fr lo frc loc : Nat} {ret : Option FieldType}
variable {pc : Nat} {μ : MS} {lv : List (Nat × Value)} {st : List Value} {ρ : Type} {res : ρ}
theorem kc_m_valueHere (hk : jk p R s m args meth c NX cc nL RX6 fr lo ret) (hK : mK G s)  {F : Option MS} {K : MS → Option ρ} (hM : ∀ r, F = some r → jM l yX6_valueHere (ws_ yX6_valueHere cX6_valueHere 2 none) frc loc [.ref (gh G)] (mWo G) (mnx G) (mK G) μ (jV r) (gA G) (gn G)) (hd : decode cc pc = .ok (.invokevirtual 359, 3)) (hr : frc + 1 ≤ fr ∧ 8 + (2 + 11) + loc ≤ lo) (hw : (st.map fun v => v.category).sum ≤ 8) (kk : ∀ r, jj p l e R s m args below meth c (gA G) NX Q (mWo G) (mnx G) nL r (pc + 3) lv st (K r = some res)) : jj p l e R s m args below meth c (gA G) NX Q (mWo G) (mnx G) nL μ pc lv (.ref (gh G) :: st) (F.bind K = some res) :=
  jm_VV (n := 0) hk hK [] hM (lw_V q2095 q2097 qs101 q127 q2098) (by decide +kernel) rfl rfl hd hr hw kk
end
section
variable {p : Program} {l : Launch} {e : Env} {R : Room} {s : State} {m : MethodId} {args : Array Value} {below : List Frame} {meth : Method} {c : Code}
variable {G : jG}
set_option maxHeartbeats 4000000 in
theorem wb_m_comparison_B23 {res : MS} (hk : jk p R s m args meth c (gn G) cX6_comparison 2 RX6 6 132 none) (hK : mK G s) (N : Nat) (μ : MS) (y0 : Int32) : jj p l e R s m args below meth c (gA G) (gn G) (jZ below args s (gA G) (gn G) (jV res) (mWo G) (mnx G)) (mWo G) (mnx G) 2 μ 23 [(0, .ref (gh G))] [.int y0] (m_comparison_B23 N μ y0 = some res) := by
  unfold m_comparison_B23
  refine jj_istore_n hk (pc := 23) [(1, .int y0), (0, .ref (gh G))] dX6_comparison_23 rfl (Nat.le_of_ble_eq_true rfl) rfl ?_
  refine jj_aload_n hk (pc := 24) dX6_comparison_24 1 rfl rfl ?_
  refine jj_iload_n hk (pc := 25) dX6_comparison_25 0 rfl rfl ?_
  refine jj_bipush hk (pc := 26) (v := (60 : Int32)) dX6_comparison_26 (by decide) ?_
  refine jj_icmp_eq hk (pc := 28) 43 dX6_comparison_28 (by decide) ?_ ?_
  · refine jj_iconst hk (pc := 43) (v := (1 : Int32)) dX6_comparison_43 (by decide) ?_
    refine jj_goto hk (pc := 44) 48 dX6_comparison_44 (by decide) ?_
    refine kc_m_wants hk hK (pc := 48) (a0 := true) (fun r h => cc_m_wants l G N μ true r h) dX6_comparison_48 ⟨Nat.le_of_ble_eq_true rfl, Nat.le_of_ble_eq_true rfl⟩ (Nat.le_of_ble_eq_true rfl) (fun r1 => ?_)
    refine jj_aload_n hk (pc := 51) dX6_comparison_51 1 rfl rfl ?_
    refine kc_m_valueHere hk hK (pc := 52)  (fun r h => cc_m_valueHere l G N r1 r h) dX6_comparison_52 ⟨Nat.le_of_ble_eq_true rfl, Nat.le_of_ble_eq_true rfl⟩ (Nat.le_of_ble_eq_true rfl) (fun r2 => ?_)
    refine jj_aload_n hk (pc := 55) dX6_comparison_55 1 rfl rfl ?_
    refine jj_iload_n hk (pc := 56) dX6_comparison_56 0 rfl rfl ?_
    refine jj_bipush hk (pc := 57) (v := (60 : Int32)) dX6_comparison_57 (by decide) ?_
    refine jj_icmp_ne hk (pc := 59) 67 dX6_comparison_59 (by decide) ?_ ?_
    · refine jj_iload_n hk (pc := 67) dX6_comparison_67 0 rfl rfl ?_
      refine jj_bipush hk (pc := 68) (v := (61 : Int32)) dX6_comparison_68 (by decide) ?_
      refine jj_icmp_ne hk (pc := 70) 78 dX6_comparison_70 (by decide) ?_ ?_
      · refine jj_bipush hk (pc := 78) (v := (-13 : Int32)) dX6_comparison_78 (by decide) ?_
        refine kc_m_writes hk hK (pc := 80) (a0 := (-13 : Int32)) (fun r h => cc_m_writes l G r2 (-13 : Int32) r h) dX6_comparison_80 ⟨Nat.le_of_ble_eq_true rfl, Nat.le_of_ble_eq_true rfl⟩ (Nat.le_of_ble_eq_true rfl) (fun r3 => ?_)
        exact jm_retV hk (pc := 83) dX6_comparison_83
      · refine jj_bipush hk (pc := 73) (v := (-12 : Int32)) dX6_comparison_73 (by decide) ?_
        refine jj_goto hk (pc := 75) 80 dX6_comparison_75 (by decide) ?_
        refine kc_m_writes hk hK (pc := 80) (a0 := (-12 : Int32)) (fun r h => cc_m_writes l G r2 (-12 : Int32) r h) dX6_comparison_80 ⟨Nat.le_of_ble_eq_true rfl, Nat.le_of_ble_eq_true rfl⟩ (Nat.le_of_ble_eq_true rfl) (fun r4 => ?_)
        exact jm_retV hk (pc := 83) dX6_comparison_83
    · refine jj_bipush hk (pc := 62) (v := (-11 : Int32)) dX6_comparison_62 (by decide) ?_
      refine jj_goto hk (pc := 64) 80 dX6_comparison_64 (by decide) ?_
      refine kc_m_writes hk hK (pc := 80) (a0 := (-11 : Int32)) (fun r h => cc_m_writes l G r2 (-11 : Int32) r h) dX6_comparison_80 ⟨Nat.le_of_ble_eq_true rfl, Nat.le_of_ble_eq_true rfl⟩ (Nat.le_of_ble_eq_true rfl) (fun r5 => ?_)
      exact jm_retV hk (pc := 83) dX6_comparison_83
  · refine jj_iload_n hk (pc := 31) dX6_comparison_31 0 rfl rfl ?_
    refine jj_bipush hk (pc := 32) (v := (61 : Int32)) dX6_comparison_32 (by decide) ?_
    refine jj_icmp_eq hk (pc := 34) 43 dX6_comparison_34 (by decide) ?_ ?_
    · refine jj_iconst hk (pc := 43) (v := (1 : Int32)) dX6_comparison_43 (by decide) ?_
      refine jj_goto hk (pc := 44) 48 dX6_comparison_44 (by decide) ?_
      refine kc_m_wants hk hK (pc := 48) (a0 := true) (fun r h => cc_m_wants l G N μ true r h) dX6_comparison_48 ⟨Nat.le_of_ble_eq_true rfl, Nat.le_of_ble_eq_true rfl⟩ (Nat.le_of_ble_eq_true rfl) (fun r6 => ?_)
      refine jj_aload_n hk (pc := 51) dX6_comparison_51 1 rfl rfl ?_
      refine kc_m_valueHere hk hK (pc := 52)  (fun r h => cc_m_valueHere l G N r6 r h) dX6_comparison_52 ⟨Nat.le_of_ble_eq_true rfl, Nat.le_of_ble_eq_true rfl⟩ (Nat.le_of_ble_eq_true rfl) (fun r7 => ?_)
      refine jj_aload_n hk (pc := 55) dX6_comparison_55 1 rfl rfl ?_
      refine jj_iload_n hk (pc := 56) dX6_comparison_56 0 rfl rfl ?_
      refine jj_bipush hk (pc := 57) (v := (60 : Int32)) dX6_comparison_57 (by decide) ?_
      refine jj_icmp_ne hk (pc := 59) 67 dX6_comparison_59 (by decide) ?_ ?_
      · refine jj_iload_n hk (pc := 67) dX6_comparison_67 0 rfl rfl ?_
        refine jj_bipush hk (pc := 68) (v := (61 : Int32)) dX6_comparison_68 (by decide) ?_
        refine jj_icmp_ne hk (pc := 70) 78 dX6_comparison_70 (by decide) ?_ ?_
        · refine jj_bipush hk (pc := 78) (v := (-13 : Int32)) dX6_comparison_78 (by decide) ?_
          refine kc_m_writes hk hK (pc := 80) (a0 := (-13 : Int32)) (fun r h => cc_m_writes l G r7 (-13 : Int32) r h) dX6_comparison_80 ⟨Nat.le_of_ble_eq_true rfl, Nat.le_of_ble_eq_true rfl⟩ (Nat.le_of_ble_eq_true rfl) (fun r8 => ?_)
          exact jm_retV hk (pc := 83) dX6_comparison_83
        · refine jj_bipush hk (pc := 73) (v := (-12 : Int32)) dX6_comparison_73 (by decide) ?_
          refine jj_goto hk (pc := 75) 80 dX6_comparison_75 (by decide) ?_
          refine kc_m_writes hk hK (pc := 80) (a0 := (-12 : Int32)) (fun r h => cc_m_writes l G r7 (-12 : Int32) r h) dX6_comparison_80 ⟨Nat.le_of_ble_eq_true rfl, Nat.le_of_ble_eq_true rfl⟩ (Nat.le_of_ble_eq_true rfl) (fun r9 => ?_)
          exact jm_retV hk (pc := 83) dX6_comparison_83
      · refine jj_bipush hk (pc := 62) (v := (-11 : Int32)) dX6_comparison_62 (by decide) ?_
        refine jj_goto hk (pc := 64) 80 dX6_comparison_64 (by decide) ?_
        refine kc_m_writes hk hK (pc := 80) (a0 := (-11 : Int32)) (fun r h => cc_m_writes l G r7 (-11 : Int32) r h) dX6_comparison_80 ⟨Nat.le_of_ble_eq_true rfl, Nat.le_of_ble_eq_true rfl⟩ (Nat.le_of_ble_eq_true rfl) (fun r10 => ?_)
        exact jm_retV hk (pc := 83) dX6_comparison_83
    · refine jj_iload_n hk (pc := 37) dX6_comparison_37 0 rfl rfl ?_
      refine jj_bipush hk (pc := 38) (v := (62 : Int32)) dX6_comparison_38 (by decide) ?_
      refine jj_icmp_ne hk (pc := 40) 47 dX6_comparison_40 (by decide) ?_ ?_
      · refine jj_iconst hk (pc := 47) (v := (0 : Int32)) dX6_comparison_47 (by decide) ?_
        refine kc_m_wants hk hK (pc := 48) (a0 := false) (fun r h => cc_m_wants l G N μ false r h) dX6_comparison_48 ⟨Nat.le_of_ble_eq_true rfl, Nat.le_of_ble_eq_true rfl⟩ (Nat.le_of_ble_eq_true rfl) (fun r11 => ?_)
        refine jj_aload_n hk (pc := 51) dX6_comparison_51 1 rfl rfl ?_
        refine kc_m_valueHere hk hK (pc := 52)  (fun r h => cc_m_valueHere l G N r11 r h) dX6_comparison_52 ⟨Nat.le_of_ble_eq_true rfl, Nat.le_of_ble_eq_true rfl⟩ (Nat.le_of_ble_eq_true rfl) (fun r12 => ?_)
        refine jj_aload_n hk (pc := 55) dX6_comparison_55 1 rfl rfl ?_
        refine jj_iload_n hk (pc := 56) dX6_comparison_56 0 rfl rfl ?_
        refine jj_bipush hk (pc := 57) (v := (60 : Int32)) dX6_comparison_57 (by decide) ?_
        refine jj_icmp_ne hk (pc := 59) 67 dX6_comparison_59 (by decide) ?_ ?_
        · refine jj_iload_n hk (pc := 67) dX6_comparison_67 0 rfl rfl ?_
          refine jj_bipush hk (pc := 68) (v := (61 : Int32)) dX6_comparison_68 (by decide) ?_
          refine jj_icmp_ne hk (pc := 70) 78 dX6_comparison_70 (by decide) ?_ ?_
          · refine jj_bipush hk (pc := 78) (v := (-13 : Int32)) dX6_comparison_78 (by decide) ?_
            refine kc_m_writes hk hK (pc := 80) (a0 := (-13 : Int32)) (fun r h => cc_m_writes l G r12 (-13 : Int32) r h) dX6_comparison_80 ⟨Nat.le_of_ble_eq_true rfl, Nat.le_of_ble_eq_true rfl⟩ (Nat.le_of_ble_eq_true rfl) (fun r13 => ?_)
            exact jm_retV hk (pc := 83) dX6_comparison_83
          · refine jj_bipush hk (pc := 73) (v := (-12 : Int32)) dX6_comparison_73 (by decide) ?_
            refine jj_goto hk (pc := 75) 80 dX6_comparison_75 (by decide) ?_
            refine kc_m_writes hk hK (pc := 80) (a0 := (-12 : Int32)) (fun r h => cc_m_writes l G r12 (-12 : Int32) r h) dX6_comparison_80 ⟨Nat.le_of_ble_eq_true rfl, Nat.le_of_ble_eq_true rfl⟩ (Nat.le_of_ble_eq_true rfl) (fun r14 => ?_)
            exact jm_retV hk (pc := 83) dX6_comparison_83
        · refine jj_bipush hk (pc := 62) (v := (-11 : Int32)) dX6_comparison_62 (by decide) ?_
          refine jj_goto hk (pc := 64) 80 dX6_comparison_64 (by decide) ?_
          refine kc_m_writes hk hK (pc := 80) (a0 := (-11 : Int32)) (fun r h => cc_m_writes l G r12 (-11 : Int32) r h) dX6_comparison_80 ⟨Nat.le_of_ble_eq_true rfl, Nat.le_of_ble_eq_true rfl⟩ (Nat.le_of_ble_eq_true rfl) (fun r15 => ?_)
          exact jm_retV hk (pc := 83) dX6_comparison_83
      · refine jj_iconst hk (pc := 43) (v := (1 : Int32)) dX6_comparison_43 (by decide) ?_
        refine jj_goto hk (pc := 44) 48 dX6_comparison_44 (by decide) ?_
        refine kc_m_wants hk hK (pc := 48) (a0 := true) (fun r h => cc_m_wants l G N μ true r h) dX6_comparison_48 ⟨Nat.le_of_ble_eq_true rfl, Nat.le_of_ble_eq_true rfl⟩ (Nat.le_of_ble_eq_true rfl) (fun r16 => ?_)
        refine jj_aload_n hk (pc := 51) dX6_comparison_51 1 rfl rfl ?_
        refine kc_m_valueHere hk hK (pc := 52)  (fun r h => cc_m_valueHere l G N r16 r h) dX6_comparison_52 ⟨Nat.le_of_ble_eq_true rfl, Nat.le_of_ble_eq_true rfl⟩ (Nat.le_of_ble_eq_true rfl) (fun r17 => ?_)
        refine jj_aload_n hk (pc := 55) dX6_comparison_55 1 rfl rfl ?_
        refine jj_iload_n hk (pc := 56) dX6_comparison_56 0 rfl rfl ?_
        refine jj_bipush hk (pc := 57) (v := (60 : Int32)) dX6_comparison_57 (by decide) ?_
        refine jj_icmp_ne hk (pc := 59) 67 dX6_comparison_59 (by decide) ?_ ?_
        · refine jj_iload_n hk (pc := 67) dX6_comparison_67 0 rfl rfl ?_
          refine jj_bipush hk (pc := 68) (v := (61 : Int32)) dX6_comparison_68 (by decide) ?_
          refine jj_icmp_ne hk (pc := 70) 78 dX6_comparison_70 (by decide) ?_ ?_
          · refine jj_bipush hk (pc := 78) (v := (-13 : Int32)) dX6_comparison_78 (by decide) ?_
            refine kc_m_writes hk hK (pc := 80) (a0 := (-13 : Int32)) (fun r h => cc_m_writes l G r17 (-13 : Int32) r h) dX6_comparison_80 ⟨Nat.le_of_ble_eq_true rfl, Nat.le_of_ble_eq_true rfl⟩ (Nat.le_of_ble_eq_true rfl) (fun r18 => ?_)
            exact jm_retV hk (pc := 83) dX6_comparison_83
          · refine jj_bipush hk (pc := 73) (v := (-12 : Int32)) dX6_comparison_73 (by decide) ?_
            refine jj_goto hk (pc := 75) 80 dX6_comparison_75 (by decide) ?_
            refine kc_m_writes hk hK (pc := 80) (a0 := (-12 : Int32)) (fun r h => cc_m_writes l G r17 (-12 : Int32) r h) dX6_comparison_80 ⟨Nat.le_of_ble_eq_true rfl, Nat.le_of_ble_eq_true rfl⟩ (Nat.le_of_ble_eq_true rfl) (fun r19 => ?_)
            exact jm_retV hk (pc := 83) dX6_comparison_83
        · refine jj_bipush hk (pc := 62) (v := (-11 : Int32)) dX6_comparison_62 (by decide) ?_
          refine jj_goto hk (pc := 64) 80 dX6_comparison_64 (by decide) ?_
          refine kc_m_writes hk hK (pc := 80) (a0 := (-11 : Int32)) (fun r h => cc_m_writes l G r17 (-11 : Int32) r h) dX6_comparison_80 ⟨Nat.le_of_ble_eq_true rfl, Nat.le_of_ble_eq_true rfl⟩ (Nat.le_of_ble_eq_true rfl) (fun r20 => ?_)
          exact jm_retV hk (pc := 83) dX6_comparison_83
set_option maxHeartbeats 4000000 in
theorem cc_m_comparison (l : Launch) (G : jG) (N : Nat) (μ : MS)  (res : MS) (hf : m_comparison N μ = some res) : jM l yX6_comparison (ws_ yX6_comparison cX6_comparison 2 none) 6 132 [.ref (gh G)] (mWo G) (mnx G) (mK G) μ (jV res) (gA G) (gn G) := by
  refine jj_start [(0, .ref (gh G))] (by decide) (Nat.le_of_ble_eq_true rfl) rfl (fun p e R s m args below meth c hk hK hsz => ?_) hf
  have hk : jk p R s m args meth c (gn G) cX6_comparison 2 RX6 6 132 none := hk
  unfold m_comparison
  refine jj_aload_n hk (pc := 0) dX6_comparison_0 0 rfl rfl ?_
  refine kc_m_valueHere hk hK (pc := 1)  (fun r h => cc_m_valueHere l G N μ r h) dX6_comparison_1 ⟨Nat.le_of_ble_eq_true rfl, Nat.le_of_ble_eq_true rfl⟩ (Nat.le_of_ble_eq_true rfl) (fun r1 => ?_)
  refine jj_aload_n hk (pc := 4) dX6_comparison_4 0 rfl rfl ?_
  refine jm_g_isWrong hk hK (pc := 5) dX6_comparison_5 ?_
  refine jj_if_eq hk (pc := 8) 15 dX6_comparison_8 (by decide) ?_ ?_
  · refine jj_aload_n hk (pc := 15) dX6_comparison_15 0 rfl rfl ?_
    refine jj_aload_n hk (pc := 16) dX6_comparison_16 0 rfl rfl ?_
    refine jm_g_from hk hK (pc := 17) dX6_comparison_17 ?_
    refine kc_m_byteAt hk hK (pc := 20) (a0 := (r1.1 24)) (fun r h => cc_m_byteAt l G r1 (r1.1 24) r h) dX6_comparison_20 ⟨Nat.le_of_ble_eq_true rfl, Nat.le_of_ble_eq_true rfl⟩ (Nat.le_of_ble_eq_true rfl) (fun r2 => ?_)
    refine jj_loc [(0, .ref (gh G))] [0] rfl ?_
    exact wb_m_comparison_B23 hk hK N r1 r2
  · refine jj_iconst hk (pc := 11) (v := (-1 : Int32)) dX6_comparison_11 (by decide) ?_
    refine jj_goto hk (pc := 12) 23 dX6_comparison_12 (by decide) ?_
    refine jj_loc [(0, .ref (gh G))] [0] rfl ?_
    exact wb_m_comparison_B23 hk hK N r1 (-1 : Int32)
end
section
variable {p : Program} {l : Launch} {e : Env} {R : Room} {s : State} {m : MethodId} {args : Array Value} {below : List Frame} {meth : Method} {c : Code}
variable {G : jG}
variable {NX : Nat} {Q : State → Prop} {nL : Nat} {cc : ByteArray} {fr lo frc loc : Nat} {ret : Option FieldType}
variable {pc : Nat} {μ : MS} {lv : List (Nat × Value)} {st : List Value} {ρ : Type} {res : ρ}
theorem kc_m_comparison (hk : jk p R s m args meth c NX cc nL RX6 fr lo ret) (hK : mK G s)  {F : Option MS} {K : MS → Option ρ} (hM : ∀ r, F = some r → jM l yX6_comparison (ws_ yX6_comparison cX6_comparison 2 none) frc loc [.ref (gh G)] (mWo G) (mnx G) (mK G) μ (jV r) (gA G) (gn G)) (hd : decode cc pc = .ok (.invokevirtual 370, 3)) (hr : frc + 1 ≤ fr ∧ 8 + (2 + 11) + loc ≤ lo) (hw : (st.map fun v => v.category).sum ≤ 8) (kk : ∀ r, jj p l e R s m args below meth c (gA G) NX Q (mWo G) (mnx G) nL r (pc + 3) lv st (K r = some res)) : jj p l e R s m args below meth c (gA G) NX Q (mWo G) (mnx G) nL μ pc lv (.ref (gh G) :: st) (F.bind K = some res) :=
  jm_VV (n := 0) hk hK [] hM (lw_V q2091 q2093 qs100 q127 q2094) (by decide +kernel) rfl rfl hd hr hw kk
end
section
variable {p : Program} {l : Launch} {e : Env} {R : Room} {s : State} {m : MethodId} {args : Array Value} {below : List Frame} {meth : Method} {c : Code}
variable {G : jG}
variable {NX : Nat} {Q : State → Prop} {nL : Nat} {cc : ByteArray} {fr lo frc loc : Nat} {ret : Option FieldType}
variable {pc : Nat} {μ : MS} {lv : List (Nat × Value)} {st : List Value} {ρ : Type} {res : ρ}
theorem kc_m_condition (hk : jk p R s m args meth c NX cc nL RX6 fr lo ret) (hK : mK G s)  {F : Option MS} {K : MS → Option ρ} (hM : ∀ r, F = some r → jM l yX6_condition (ws_ yX6_condition cX6_condition 1 none) frc loc [.ref (gh G)] (mWo G) (mnx G) (mK G) μ (jV r) (gA G) (gn G)) (hd : decode cc pc = .ok (.invokevirtual 367, 3)) (hr : frc + 1 ≤ fr ∧ 8 + (1 + 11) + loc ≤ lo) (hw : (st.map fun v => v.category).sum ≤ 8) (kk : ∀ r, jj p l e R s m args below meth c (gA G) NX Q (mWo G) (mnx G) nL r (pc + 3) lv st (K r = some res)) : jj p l e R s m args below meth c (gA G) NX Q (mWo G) (mnx G) nL μ pc lv (.ref (gh G) :: st) (F.bind K = some res) :=
  jm_VV (n := 0) hk hK [] hM (lw_V q2078 q2080 qs97 q127 q2081) (by decide +kernel) rfl rfl hd hr hw kk
end
section
variable {p : Program} {l : Launch} {e : Env} {R : Room} {s : State} {m : MethodId} {args : Array Value} {below : List Frame} {meth : Method} {c : Code}
variable {G : jG}
set_option maxHeartbeats 4000000 in
theorem wb_m_one_B65 {res : MS} {fr0 lo0 : Nat} (hk : jk p R s m args meth c (gn G) cX6_one 2 RX6 (fr0 + 7) (lo0 + 153) none) (hK : mK G s) {k_condition : MS → Option MS} (hk_condition : ∀ (μ : MS)  (r : MS), k_condition μ  = some r → jM l yX6_condition (ws_ yX6_condition cX6_condition 1 none) fr0 lo0 [.ref (gh G)] (mWo G) (mnx G) (mK G) μ (jV r) (gA G) (gn G)) (N : Nat) (μ : MS) (x1 : Bool) (y0 : Bool) : jj p l e R s m args below meth c (gA G) (gn G) (jZ below args s (gA G) (gn G) (jV res) (mWo G) (mnx G)) (mWo G) (mnx G) 2 μ 65 [(0, .ref (gh G)), (1, .int (bI x1))] [.int (bI y0), .ref (gh G)] (m_one_B65 N k_condition μ x1 y0 = some res) := by
  unfold m_one_B65
  refine kc_m_wants hk hK (pc := 65) (a0 := y0) (fun r h => cc_m_wants l G N μ y0 r h) dX6_one_65 ⟨by omega, by omega⟩ (Nat.le_of_ble_eq_true rfl) (fun r1 => ?_)
  refine jj_aload_n hk (pc := 68) dX6_one_68 0 rfl rfl ?_
  refine jj_dup hk (pc := 69) dX6_one_69 rfl ?_
  refine jm_g_open hk hK (pc := 70) dX6_one_70 ?_
  refine jj_iconst hk (pc := 73) (v := (1 : Int32)) dX6_one_73 (by decide) ?_
  refine jj_iadd hk (pc := 74) dX6_one_74 ?_
  refine jm_p_open hk hK (pc := 75) dX6_one_75 (fun μ2 => ?_)
  refine jj_aload_n hk (pc := 78) dX6_one_78 0 rfl rfl ?_
  refine kc_m_condition hk hK (pc := 79)  (hk_condition μ2) dX6_one_79 ⟨by omega, by omega⟩ (Nat.le_of_ble_eq_true rfl) (fun r3 => ?_)
  refine jj_aload_n hk (pc := 82) dX6_one_82 0 rfl rfl ?_
  refine jj_dup hk (pc := 83) dX6_one_83 rfl ?_
  refine jm_g_open hk hK (pc := 84) dX6_one_84 ?_
  refine jj_iconst hk (pc := 87) (v := (1 : Int32)) dX6_one_87 (by decide) ?_
  refine jj_isub hk (pc := 88) dX6_one_88 ?_
  refine jm_p_open hk hK (pc := 89) dX6_one_89 (fun μ4 => ?_)
  refine jj_aload_n hk (pc := 92) dX6_one_92 0 rfl rfl ?_
  refine jj_aload_n hk (pc := 93) dX6_one_93 0 rfl rfl ?_
  refine jm_g_isWrong hk hK (pc := 94) dX6_one_94 ?_
  refine jj_if_ne hk (pc := 97) 117 dX6_one_97 (by decide) ?_ ?_
  · refine jj_iconst hk (pc := 117) (v := (0 : Int32)) dX6_one_117 (by decide) ?_
    refine kc_m_wants hk hK (pc := 118) (a0 := false) (fun r h => cc_m_wants l G N μ4 false r h) dX6_one_118 ⟨by omega, by omega⟩ (Nat.le_of_ble_eq_true rfl) (fun r5 => ?_)
    refine jj_goto hk (pc := 121) 128 dX6_one_121 (by decide) ?_
    refine jj_iload_n hk (pc := 128) dX6_one_128 1 rfl rfl ?_
    refine jj_if_eq_b hk (pc := 129) 138 dX6_one_129 (by decide) ?_ ?_
    · exact jm_retV hk (pc := 138) dX6_one_138
    · refine jj_aload_n hk (pc := 132) dX6_one_132 0 rfl rfl ?_
      refine jj_bipush hk (pc := 133) (v := (-20 : Int32)) dX6_one_133 (by decide) ?_
      refine kc_m_writes hk hK (pc := 135) (a0 := (-20 : Int32)) (fun r h => cc_m_writes l G r5 (-20 : Int32) r h) dX6_one_135 ⟨by omega, by omega⟩ (Nat.le_of_ble_eq_true rfl) (fun r6 => ?_)
      exact jm_retV hk (pc := 138) dX6_one_138
  · refine jj_aload_n hk (pc := 100) dX6_one_100 0 rfl rfl ?_
    refine jj_aload_n hk (pc := 101) dX6_one_101 0 rfl rfl ?_
    refine jm_g_from hk hK (pc := 102) dX6_one_102 ?_
    refine kc_m_byteAt hk hK (pc := 105) (a0 := (μ4.1 24)) (fun r h => cc_m_byteAt l G μ4 (μ4.1 24) r h) dX6_one_105 ⟨by omega, by omega⟩ (Nat.le_of_ble_eq_true rfl) (fun r7 => ?_)
    refine jj_bipush hk (pc := 108) (v := (41 : Int32)) dX6_one_108 (by decide) ?_
    refine jj_icmp_ne hk (pc := 110) 117 dX6_one_110 (by decide) ?_ ?_
    · refine jj_iconst hk (pc := 117) (v := (0 : Int32)) dX6_one_117 (by decide) ?_
      refine kc_m_wants hk hK (pc := 118) (a0 := false) (fun r h => cc_m_wants l G N μ4 false r h) dX6_one_118 ⟨by omega, by omega⟩ (Nat.le_of_ble_eq_true rfl) (fun r8 => ?_)
      refine jj_goto hk (pc := 121) 128 dX6_one_121 (by decide) ?_
      refine jj_iload_n hk (pc := 128) dX6_one_128 1 rfl rfl ?_
      refine jj_if_eq_b hk (pc := 129) 138 dX6_one_129 (by decide) ?_ ?_
      · exact jm_retV hk (pc := 138) dX6_one_138
      · refine jj_aload_n hk (pc := 132) dX6_one_132 0 rfl rfl ?_
        refine jj_bipush hk (pc := 133) (v := (-20 : Int32)) dX6_one_133 (by decide) ?_
        refine kc_m_writes hk hK (pc := 135) (a0 := (-20 : Int32)) (fun r h => cc_m_writes l G r8 (-20 : Int32) r h) dX6_one_135 ⟨by omega, by omega⟩ (Nat.le_of_ble_eq_true rfl) (fun r9 => ?_)
        exact jm_retV hk (pc := 138) dX6_one_138
    · refine jj_iconst hk (pc := 113) (v := (1 : Int32)) dX6_one_113 (by decide) ?_
      refine jj_goto hk (pc := 114) 118 dX6_one_114 (by decide) ?_
      refine kc_m_wants hk hK (pc := 118) (a0 := true) (fun r h => cc_m_wants l G N μ4 true r h) dX6_one_118 ⟨by omega, by omega⟩ (Nat.le_of_ble_eq_true rfl) (fun r10 => ?_)
      refine jj_goto hk (pc := 121) 128 dX6_one_121 (by decide) ?_
      refine jj_iload_n hk (pc := 128) dX6_one_128 1 rfl rfl ?_
      refine jj_if_eq_b hk (pc := 129) 138 dX6_one_129 (by decide) ?_ ?_
      · exact jm_retV hk (pc := 138) dX6_one_138
      · refine jj_aload_n hk (pc := 132) dX6_one_132 0 rfl rfl ?_
        refine jj_bipush hk (pc := 133) (v := (-20 : Int32)) dX6_one_133 (by decide) ?_
        refine kc_m_writes hk hK (pc := 135) (a0 := (-20 : Int32)) (fun r h => cc_m_writes l G r10 (-20 : Int32) r h) dX6_one_135 ⟨by omega, by omega⟩ (Nat.le_of_ble_eq_true rfl) (fun r11 => ?_)
        exact jm_retV hk (pc := 138) dX6_one_138
set_option maxHeartbeats 4000000 in
theorem wb_m_one_L2 {res : MS} {fr0 lo0 : Nat} (hk : jk p R s m args meth c (gn G) cX6_one 2 RX6 (fr0 + 7) (lo0 + 153) none) (hK : mK G s) {k_condition : MS → Option MS} (hk_condition : ∀ (μ : MS)  (r : MS), k_condition μ  = some r → jM l yX6_condition (ws_ yX6_condition cX6_condition 1 none) fr0 lo0 [.ref (gh G)] (mWo G) (mnx G) (mK G) μ (jV r) (gA G) (gn G)) (N : Nat) : ∀ (n : Nat) (μ : MS) (x1 : Bool), jj p l e R s m args below meth c (gA G) (gn G) (jZ below args s (gA G) (gn G) (jV res) (mWo G) (mnx G)) (mWo G) (mnx G) 2 μ 2 [(0, .ref (gh G)), (1, .int (bI x1))] [] (m_one_L2 N k_condition n μ x1 = some res) := by
  intro n
  induction n with
  | zero => intro μ x1; exact jj_eq (fun hz => by rw [m_one_L2] at hz; exact hz) jj_no
  | succ n ih =>
    intro μ x1
    rw [m_one_L2]
    refine jj_aload_n hk (pc := 2) dX6_one_2 0 rfl rfl ?_
    refine kc_m_word hk hK (pc := 3)  (fun r h => cc_m_word l G N μ r h) dX6_one_3 ⟨by omega, by omega⟩ (Nat.le_of_ble_eq_true rfl) (fun r1 => ?_)
    refine jj_ldc2_w hk (pc := 6) q2090 dX6_one_6 ?_
    refine jj_lcmp hk (pc := 9) dX6_one_9 ?_
    refine jj_if_ne hk (pc := 10) 31 dX6_one_10 (by decide) ?_ ?_
    · refine jj_aload_n hk (pc := 31) dX6_one_31 0 rfl rfl ?_
      refine jm_g_isWrong hk hK (pc := 32) dX6_one_32 ?_
      refine jj_if_ne hk (pc := 35) 124 dX6_one_35 (by decide) ?_ ?_
      · refine jj_aload_n hk (pc := 124) dX6_one_124 0 rfl rfl ?_
        refine kc_m_comparison hk hK (pc := 125)  (fun r h => cc_m_comparison l G N μ r h) dX6_one_125 ⟨by omega, by omega⟩ (Nat.le_of_ble_eq_true rfl) (fun r2 => ?_)
        refine jj_iload_n hk (pc := 128) dX6_one_128 1 rfl rfl ?_
        refine jj_if_eq_b hk (pc := 129) 138 dX6_one_129 (by decide) ?_ ?_
        · exact jm_retV hk (pc := 138) dX6_one_138
        · refine jj_aload_n hk (pc := 132) dX6_one_132 0 rfl rfl ?_
          refine jj_bipush hk (pc := 133) (v := (-20 : Int32)) dX6_one_133 (by decide) ?_
          refine kc_m_writes hk hK (pc := 135) (a0 := (-20 : Int32)) (fun r h => cc_m_writes l G r2 (-20 : Int32) r h) dX6_one_135 ⟨by omega, by omega⟩ (Nat.le_of_ble_eq_true rfl) (fun r3 => ?_)
          exact jm_retV hk (pc := 138) dX6_one_138
      · refine jj_aload_n hk (pc := 38) dX6_one_38 0 rfl rfl ?_
        refine jj_aload_n hk (pc := 39) dX6_one_39 0 rfl rfl ?_
        refine jm_g_from hk hK (pc := 40) dX6_one_40 ?_
        refine kc_m_byteAt hk hK (pc := 43) (a0 := (μ.1 24)) (fun r h => cc_m_byteAt l G μ (μ.1 24) r h) dX6_one_43 ⟨by omega, by omega⟩ (Nat.le_of_ble_eq_true rfl) (fun r4 => ?_)
        refine jj_bipush hk (pc := 46) (v := (40 : Int32)) dX6_one_46 (by decide) ?_
        refine jj_icmp_ne hk (pc := 48) 124 dX6_one_48 (by decide) ?_ ?_
        · refine jj_aload_n hk (pc := 124) dX6_one_124 0 rfl rfl ?_
          refine kc_m_comparison hk hK (pc := 125)  (fun r h => cc_m_comparison l G N μ r h) dX6_one_125 ⟨by omega, by omega⟩ (Nat.le_of_ble_eq_true rfl) (fun r5 => ?_)
          refine jj_iload_n hk (pc := 128) dX6_one_128 1 rfl rfl ?_
          refine jj_if_eq_b hk (pc := 129) 138 dX6_one_129 (by decide) ?_ ?_
          · exact jm_retV hk (pc := 138) dX6_one_138
          · refine jj_aload_n hk (pc := 132) dX6_one_132 0 rfl rfl ?_
            refine jj_bipush hk (pc := 133) (v := (-20 : Int32)) dX6_one_133 (by decide) ?_
            refine kc_m_writes hk hK (pc := 135) (a0 := (-20 : Int32)) (fun r h => cc_m_writes l G r5 (-20 : Int32) r h) dX6_one_135 ⟨by omega, by omega⟩ (Nat.le_of_ble_eq_true rfl) (fun r6 => ?_)
            exact jm_retV hk (pc := 138) dX6_one_138
        · refine jj_aload_n hk (pc := 51) dX6_one_51 0 rfl rfl ?_
          refine jj_aload_n hk (pc := 52) dX6_one_52 0 rfl rfl ?_
          refine jm_g_open hk hK (pc := 53) dX6_one_53 ?_
          refine jj_iconst hk (pc := 56) (v := (3 : Int32)) dX6_one_56 (by decide) ?_
          refine jj_icmp_ge hk (pc := 57) 64 dX6_one_57 (by decide) ?_ ?_
          · refine jj_iconst hk (pc := 64) (v := (0 : Int32)) dX6_one_64 (by decide) ?_
            refine jj_loc [(0, .ref (gh G)), (1, .int (bI x1))] [0, 1] rfl ?_
            exact wb_m_one_B65 hk hK hk_condition N μ x1 false
          · refine jj_iconst hk (pc := 60) (v := (1 : Int32)) dX6_one_60 (by decide) ?_
            refine jj_goto hk (pc := 61) 65 dX6_one_61 (by decide) ?_
            refine jj_loc [(0, .ref (gh G)), (1, .int (bI x1))] [0, 1] rfl ?_
            exact wb_m_one_B65 hk hK hk_condition N μ x1 true
    · refine jj_iload_n hk (pc := 13) dX6_one_13 1 rfl rfl ?_
      refine jj_if_ne_b hk (pc := 14) 21 dX6_one_14 (by decide) ?_ ?_
      · refine jj_iconst hk (pc := 21) (v := (0 : Int32)) dX6_one_21 (by decide) ?_
        refine jj_istore_n hk (pc := 22) [(1, .int (0 : Int32)), (0, .ref (gh G))] dX6_one_22 rfl (Nat.le_of_ble_eq_true rfl) rfl ?_
        refine jj_aload_n hk (pc := 23) dX6_one_23 1 rfl rfl ?_
        refine jj_iconst hk (pc := 24) (v := (1 : Int32)) dX6_one_24 (by decide) ?_
        refine kc_m_wants hk hK (pc := 25) (a0 := true) (fun r h => cc_m_wants l G N μ true r h) dX6_one_25 ⟨by omega, by omega⟩ (Nat.le_of_ble_eq_true rfl) (fun r7 => ?_)
        refine jj_goto hk (pc := 28) 2 dX6_one_28 (by decide) ?_
        refine jj_loc [(0, .ref (gh G)), (1, .int (bI false))] [1, 0] rfl ?_
        exact ih r7 false
      · refine jj_iconst hk (pc := 17) (v := (1 : Int32)) dX6_one_17 (by decide) ?_
        refine jj_goto hk (pc := 18) 22 dX6_one_18 (by decide) ?_
        refine jj_istore_n hk (pc := 22) [(1, .int (1 : Int32)), (0, .ref (gh G))] dX6_one_22 rfl (Nat.le_of_ble_eq_true rfl) rfl ?_
        refine jj_aload_n hk (pc := 23) dX6_one_23 1 rfl rfl ?_
        refine jj_iconst hk (pc := 24) (v := (1 : Int32)) dX6_one_24 (by decide) ?_
        refine kc_m_wants hk hK (pc := 25) (a0 := true) (fun r h => cc_m_wants l G N μ true r h) dX6_one_25 ⟨by omega, by omega⟩ (Nat.le_of_ble_eq_true rfl) (fun r8 => ?_)
        refine jj_goto hk (pc := 28) 2 dX6_one_28 (by decide) ?_
        refine jj_loc [(0, .ref (gh G)), (1, .int (bI true))] [1, 0] rfl ?_
        exact ih r8 true
set_option maxHeartbeats 4000000 in
theorem cc_m_one (l : Launch) (G : jG) (N : Nat) (k_condition : MS → Option MS) (fr0 lo0 : Nat) (hk_condition : ∀ (μ : MS)  (r : MS), k_condition μ  = some r → jM l yX6_condition (ws_ yX6_condition cX6_condition 1 none) fr0 lo0 [.ref (gh G)] (mWo G) (mnx G) (mK G) μ (jV r) (gA G) (gn G)) (μ : MS)  (res : MS) (hf : m_one N k_condition μ = some res) : jM l yX6_one (ws_ yX6_one cX6_one 2 none) (fr0 + 7) (lo0 + 153) [.ref (gh G)] (mWo G) (mnx G) (mK G) μ (jV res) (gA G) (gn G) := by
  refine jj_start [(0, .ref (gh G))] (by decide) (Nat.le_of_ble_eq_true rfl) rfl (fun p e R s m args below meth c hk hK hsz => ?_) hf
  have hk : jk p R s m args meth c (gn G) cX6_one 2 RX6 (fr0 + 7) (lo0 + 153) none := hk
  unfold m_one
  refine jj_iconst hk (pc := 0) (v := (0 : Int32)) dX6_one_0 (by decide) ?_
  refine jj_istore_n hk (pc := 1) [(1, .int (0 : Int32)), (0, .ref (gh G))] dX6_one_1 rfl (Nat.le_of_ble_eq_true rfl) rfl ?_
  refine jj_loc [(0, .ref (gh G)), (1, .int (bI false))] [1, 0] rfl ?_
  exact wb_m_one_L2 hk hK hk_condition N N μ false
end
section
variable {p : Program} {l : Launch} {e : Env} {R : Room} {s : State} {m : MethodId} {args : Array Value} {below : List Frame} {meth : Method} {c : Code}
variable {G : jG}
variable {NX : Nat} {Q : State → Prop} {nL : Nat} {cc : ByteArray} {fr lo frc loc : Nat} {ret : Option FieldType}
variable {pc : Nat} {μ : MS} {lv : List (Nat × Value)} {st : List Value} {ρ : Type} {res : ρ}
theorem kc_m_one (hk : jk p R s m args meth c NX cc nL RX6 fr lo ret) (hK : mK G s)  {F : Option MS} {K : MS → Option ρ} (hM : ∀ r, F = some r → jM l yX6_one (ws_ yX6_one cX6_one 2 none) frc loc [.ref (gh G)] (mWo G) (mnx G) (mK G) μ (jV r) (gA G) (gn G)) (hd : decode cc pc = .ok (.invokevirtual 373, 3)) (hr : frc + 1 ≤ fr ∧ 8 + (2 + 11) + loc ≤ lo) (hw : (st.map fun v => v.category).sum ≤ 8) (kk : ∀ r, jj p l e R s m args below meth c (gA G) NX Q (mWo G) (mnx G) nL r (pc + 3) lv st (K r = some res)) : jj p l e R s m args below meth c (gA G) NX Q (mWo G) (mnx G) nL μ pc lv (.ref (gh G) :: st) (F.bind K = some res) :=
  jm_VV (n := 0) hk hK [] hM (lw_V q2086 q2088 qs99 q127 q2089) (by decide +kernel) rfl rfl hd hr hw kk
end
section
variable {p : Program} {l : Launch} {e : Env} {R : Room} {s : State} {m : MethodId} {args : Array Value} {below : List Frame} {meth : Method} {c : Code}
variable {G : jG}
set_option maxHeartbeats 4000000 in
theorem wb_m_all_L4 {res : MS} {fr0 lo0 : Nat} (hk : jk p R s m args meth c (gn G) cX6_all 1 RX6 (fr0 + 8) (lo0 + 174) none) (hK : mK G s) {k_condition : MS → Option MS} (hk_condition : ∀ (μ : MS)  (r : MS), k_condition μ  = some r → jM l yX6_condition (ws_ yX6_condition cX6_condition 1 none) fr0 lo0 [.ref (gh G)] (mWo G) (mnx G) (mK G) μ (jV r) (gA G) (gn G)) (N : Nat) : ∀ (n : Nat) (μ : MS), jj p l e R s m args below meth c (gA G) (gn G) (jZ below args s (gA G) (gn G) (jV res) (mWo G) (mnx G)) (mWo G) (mnx G) 1 μ 4 [(0, .ref (gh G))] [] (m_all_L4 N k_condition n μ = some res) := by
  intro n
  induction n with
  | zero => intro μ; exact jj_eq (fun hz => by rw [m_all_L4] at hz; exact hz) jj_no
  | succ n ih =>
    intro μ
    rw [m_all_L4]
    refine jj_aload_n hk (pc := 4) dX6_all_4 0 rfl rfl ?_
    refine kc_m_word hk hK (pc := 5)  (fun r h => cc_m_word l G N μ r h) dX6_all_5 ⟨by omega, by omega⟩ (Nat.le_of_ble_eq_true rfl) (fun r1 => ?_)
    refine jj_ldc2_w hk (pc := 8) q2116 dX6_all_8 ?_
    refine jj_lcmp hk (pc := 11) dX6_all_11 ?_
    refine jj_if_ne hk (pc := 12) 33 dX6_all_12 (by decide) ?_ ?_
    · exact jm_retV hk (pc := 33) dX6_all_33
    · refine jj_aload_n hk (pc := 15) dX6_all_15 0 rfl rfl ?_
      refine jj_iconst hk (pc := 16) (v := (1 : Int32)) dX6_all_16 (by decide) ?_
      refine kc_m_wants hk hK (pc := 17) (a0 := true) (fun r h => cc_m_wants l G N μ true r h) dX6_all_17 ⟨by omega, by omega⟩ (Nat.le_of_ble_eq_true rfl) (fun r2 => ?_)
      refine jj_aload_n hk (pc := 20) dX6_all_20 0 rfl rfl ?_
      refine kc_m_one hk hK (pc := 21)  (fun r h => cc_m_one l G N k_condition fr0 lo0 hk_condition r2 r h) dX6_all_21 ⟨by omega, by omega⟩ (Nat.le_of_ble_eq_true rfl) (fun r3 => ?_)
      refine jj_aload_n hk (pc := 24) dX6_all_24 0 rfl rfl ?_
      refine jj_bipush hk (pc := 25) (v := (-21 : Int32)) dX6_all_25 (by decide) ?_
      refine kc_m_writes hk hK (pc := 27) (a0 := (-21 : Int32)) (fun r h => cc_m_writes l G r3 (-21 : Int32) r h) dX6_all_27 ⟨by omega, by omega⟩ (Nat.le_of_ble_eq_true rfl) (fun r4 => ?_)
      refine jj_goto hk (pc := 30) 4 dX6_all_30 (by decide) ?_
      refine jj_loc [(0, .ref (gh G))] [0] rfl ?_
      exact ih r4
set_option maxHeartbeats 4000000 in
theorem cc_m_all (l : Launch) (G : jG) (N : Nat) (k_condition : MS → Option MS) (fr0 lo0 : Nat) (hk_condition : ∀ (μ : MS)  (r : MS), k_condition μ  = some r → jM l yX6_condition (ws_ yX6_condition cX6_condition 1 none) fr0 lo0 [.ref (gh G)] (mWo G) (mnx G) (mK G) μ (jV r) (gA G) (gn G)) (μ : MS)  (res : MS) (hf : m_all N k_condition μ = some res) : jM l yX6_all (ws_ yX6_all cX6_all 1 none) (fr0 + 8) (lo0 + 174) [.ref (gh G)] (mWo G) (mnx G) (mK G) μ (jV res) (gA G) (gn G) := by
  refine jj_start [(0, .ref (gh G))] (by decide) (Nat.le_of_ble_eq_true rfl) rfl (fun p e R s m args below meth c hk hK hsz => ?_) hf
  have hk : jk p R s m args meth c (gn G) cX6_all 1 RX6 (fr0 + 8) (lo0 + 174) none := hk
  unfold m_all
  refine jj_aload_n hk (pc := 0) dX6_all_0 0 rfl rfl ?_
  refine kc_m_one hk hK (pc := 1)  (fun r h => cc_m_one l G N k_condition fr0 lo0 hk_condition μ r h) dX6_all_1 ⟨by omega, by omega⟩ (Nat.le_of_ble_eq_true rfl) (fun r1 => ?_)
  refine jj_loc [(0, .ref (gh G))] [0] rfl ?_
  exact wb_m_all_L4 hk hK hk_condition N N r1
end
section
variable {p : Program} {l : Launch} {e : Env} {R : Room} {s : State} {m : MethodId} {args : Array Value} {below : List Frame} {meth : Method} {c : Code}
variable {G : jG}
variable {NX : Nat} {Q : State → Prop} {nL : Nat} {cc : ByteArray} {fr lo frc loc : Nat} {ret : Option FieldType}
variable {pc : Nat} {μ : MS} {lv : List (Nat × Value)} {st : List Value} {ρ : Type} {res : ρ}
theorem kc_m_all (hk : jk p R s m args meth c NX cc nL RX6 fr lo ret) (hK : mK G s)  {F : Option MS} {K : MS → Option ρ} (hM : ∀ r, F = some r → jM l yX6_all (ws_ yX6_all cX6_all 1 none) frc loc [.ref (gh G)] (mWo G) (mnx G) (mK G) μ (jV r) (gA G) (gn G)) (hd : decode cc pc = .ok (.invokevirtual 378, 3)) (hr : frc + 1 ≤ fr ∧ 8 + (1 + 11) + loc ≤ lo) (hw : (st.map fun v => v.category).sum ≤ 8) (kk : ∀ r, jj p l e R s m args below meth c (gA G) NX Q (mWo G) (mnx G) nL r (pc + 3) lv st (K r = some res)) : jj p l e R s m args below meth c (gA G) NX Q (mWo G) (mnx G) nL μ pc lv (.ref (gh G) :: st) (F.bind K = some res) :=
  jm_VV (n := 0) hk hK [] hM (lw_V q2082 q2084 qs98 q127 q2085) (by decide +kernel) rfl rfl hd hr hw kk
end
section
variable {p : Program} {l : Launch} {e : Env} {R : Room} {s : State} {m : MethodId} {args : Array Value} {below : List Frame} {meth : Method} {c : Code}
variable {G : jG}
set_option maxHeartbeats 4000000 in
theorem wb_m_condition_L12 {res : MS} {fr0 lo0 : Nat} (hk : jk p R s m args meth c (gn G) cX6_condition 1 RX6 (fr0 + 9) (lo0 + 194) none) (hK : mK G s) {k_condition : MS → Option MS} (hk_condition : ∀ (μ : MS)  (r : MS), k_condition μ  = some r → jM l yX6_condition (ws_ yX6_condition cX6_condition 1 none) fr0 lo0 [.ref (gh G)] (mWo G) (mnx G) (mK G) μ (jV r) (gA G) (gn G)) (N : Nat) : ∀ (n : Nat) (μ : MS), jj p l e R s m args below meth c (gA G) (gn G) (jZ below args s (gA G) (gn G) (jV res) (mWo G) (mnx G)) (mWo G) (mnx G) 1 μ 12 [(0, .ref (gh G))] [] (m_condition_L12 N k_condition n μ = some res) := by
  intro n
  induction n with
  | zero => intro μ; exact jj_eq (fun hz => by rw [m_condition_L12] at hz; exact hz) jj_no
  | succ n ih =>
    intro μ
    rw [m_condition_L12]
    refine jj_aload_n hk (pc := 12) dX6_condition_12 0 rfl rfl ?_
    refine kc_m_word hk hK (pc := 13)  (fun r h => cc_m_word l G N μ r h) dX6_condition_13 ⟨by omega, by omega⟩ (Nat.le_of_ble_eq_true rfl) (fun r1 => ?_)
    refine jj_ldc2_w hk (pc := 16) q2117 dX6_condition_16 ?_
    refine jj_lcmp hk (pc := 19) dX6_condition_19 ?_
    refine jj_if_ne hk (pc := 20) 41 dX6_condition_20 (by decide) ?_ ?_
    · exact jm_retV hk (pc := 41) dX6_condition_41
    · refine jj_aload_n hk (pc := 23) dX6_condition_23 0 rfl rfl ?_
      refine jj_iconst hk (pc := 24) (v := (1 : Int32)) dX6_condition_24 (by decide) ?_
      refine kc_m_wants hk hK (pc := 25) (a0 := true) (fun r h => cc_m_wants l G N μ true r h) dX6_condition_25 ⟨by omega, by omega⟩ (Nat.le_of_ble_eq_true rfl) (fun r2 => ?_)
      refine jj_aload_n hk (pc := 28) dX6_condition_28 0 rfl rfl ?_
      refine kc_m_all hk hK (pc := 29)  (fun r h => cc_m_all l G N k_condition fr0 lo0 hk_condition r2 r h) dX6_condition_29 ⟨by omega, by omega⟩ (Nat.le_of_ble_eq_true rfl) (fun r3 => ?_)
      refine jj_aload_n hk (pc := 32) dX6_condition_32 0 rfl rfl ?_
      refine jj_bipush hk (pc := 33) (v := (-22 : Int32)) dX6_condition_33 (by decide) ?_
      refine kc_m_writes hk hK (pc := 35) (a0 := (-22 : Int32)) (fun r h => cc_m_writes l G r3 (-22 : Int32) r h) dX6_condition_35 ⟨by omega, by omega⟩ (Nat.le_of_ble_eq_true rfl) (fun r4 => ?_)
      refine jj_goto hk (pc := 38) 12 dX6_condition_38 (by decide) ?_
      refine jj_loc [(0, .ref (gh G))] [0] rfl ?_
      exact ih r4
set_option maxHeartbeats 4000000 in
theorem cc_m_condition (l : Launch) (G : jG) (N : Nat) : ∀ (d : Nat) (μ : MS)  (res : MS) (hf : m_condition N d μ  = some res), jM l yX6_condition (ws_ yX6_condition cX6_condition 1 none) (9 * d) (194 * d) [.ref (gh G)] (mWo G) (mnx G) (mK G) μ (jV res) (gA G) (gn G) := by
  intro d
  induction d with
  | zero => intro μ  res hf; rw [m_condition] at hf; cases hf
  | succ d ih =>
    intro μ  res hf
    rw [m_condition] at hf
    have hk_condition := ih
    refine jj_start [(0, .ref (gh G))] (by decide) (Nat.le_of_ble_eq_true rfl) rfl (fun p e R s m args below meth c hk hK hsz => ?_) hf
    have hk : jk p R s m args meth c (gn G) cX6_condition 1 RX6 (9 * d + 9) (194 * d + 194) none := hk
    have hsz : True := trivial
    refine jj_aload_n hk (pc := 0) dX6_condition_0 0 rfl rfl ?_
    refine jm_g_isWrong hk hK (pc := 1) dX6_condition_1 ?_
    refine jj_if_eq hk (pc := 4) 8 dX6_condition_4 (by decide) ?_ ?_
    · refine jj_aload_n hk (pc := 8) dX6_condition_8 0 rfl rfl ?_
      refine kc_m_all hk hK (pc := 9)  (fun r h => cc_m_all l G N (m_condition N d) (9 * d) (194 * d) hk_condition μ r h) dX6_condition_9 ⟨by omega, by omega⟩ (Nat.le_of_ble_eq_true rfl) (fun r1 => ?_)
      refine jj_loc [(0, .ref (gh G))] [0] rfl ?_
      exact wb_m_condition_L12 hk hK hk_condition N N r1
    · exact jm_retV hk (pc := 7) dX6_condition_7
end
section
variable {p : Program} {l : Launch} {e : Env} {R : Room} {s : State} {m : MethodId} {args : Array Value} {below : List Frame} {meth : Method} {c : Code}
variable {G : jG}
set_option maxHeartbeats 4000000 in
theorem cc_m_kindHere (l : Launch) (G : jG) (N : Nat) (μ : MS)  (res : Int32) (hf : m_kindHere N μ = some res) : jM l yX6_kindHere (ws_ yX6_kindHere cX6_kindHere 3 (some .int)) 3 68 [.ref (gh G)] (mWo G) (mnx G) (mK G) μ (jR μ res) (gA G) (gn G) := by
  refine jj_start [(0, .ref (gh G))] (by decide) (Nat.le_of_ble_eq_true rfl) rfl (fun p e R s m args below meth c hk hK hsz => ?_) hf
  have hk : jk p R s m args meth c (gn G) cX6_kindHere 3 RX6 3 68 (some .int) := hk
  unfold m_kindHere
  refine jj_aload_n hk (pc := 0) dX6_kindHere_0 0 rfl rfl ?_
  refine kc_m_word hk hK (pc := 1)  (fun r h => cc_m_word l G N μ r h) dX6_kindHere_1 ⟨Nat.le_of_ble_eq_true rfl, Nat.le_of_ble_eq_true rfl⟩ (Nat.le_of_ble_eq_true rfl) (fun r1 => ?_)
  refine jj_lstore_n hk (pc := 4) [(1, .long r1), (0, .ref (gh G))] dX6_kindHere_4 rfl (Nat.le_of_ble_eq_true rfl) rfl ?_
  refine jj_lload_n hk (pc := 5) dX6_kindHere_5 0 rfl rfl ?_
  refine jj_ldc2_w hk (pc := 6) q2067 dX6_kindHere_6 ?_
  refine jj_lcmp hk (pc := 9) dX6_kindHere_9 ?_
  refine jj_if_ne hk (pc := 10) 17 dX6_kindHere_10 (by decide) ?_ ?_
  · refine jj_lload_n hk (pc := 17) dX6_kindHere_17 0 rfl rfl ?_
    refine jj_ldc2_w hk (pc := 18) q2068 dX6_kindHere_18 ?_
    refine jj_lcmp hk (pc := 21) dX6_kindHere_21 ?_
    refine jj_if_ne hk (pc := 22) 29 dX6_kindHere_22 (by decide) ?_ ?_
    · refine jj_lload_n hk (pc := 29) dX6_kindHere_29 0 rfl rfl ?_
      refine jj_ldc2_w hk (pc := 30) q2069 dX6_kindHere_30 ?_
      refine jj_lcmp hk (pc := 33) dX6_kindHere_33 ?_
      refine jj_if_ne hk (pc := 34) 41 dX6_kindHere_34 (by decide) ?_ ?_
      · refine jj_lload_n hk (pc := 41) dX6_kindHere_41 0 rfl rfl ?_
        refine jj_ldc2_w hk (pc := 42) q2070 dX6_kindHere_42 ?_
        refine jj_lcmp hk (pc := 45) dX6_kindHere_45 ?_
        refine jj_if_ne hk (pc := 46) 53 dX6_kindHere_46 (by decide) ?_ ?_
        · refine jj_lload_n hk (pc := 53) dX6_kindHere_53 0 rfl rfl ?_
          refine jj_ldc2_w hk (pc := 54) q2071 dX6_kindHere_54 ?_
          refine jj_lcmp hk (pc := 57) dX6_kindHere_57 ?_
          refine jj_if_ne hk (pc := 58) 65 dX6_kindHere_58 (by decide) ?_ ?_
          · refine jj_lload_n hk (pc := 65) dX6_kindHere_65 0 rfl rfl ?_
            refine jj_ldc2_w hk (pc := 66) q2072 dX6_kindHere_66 ?_
            refine jj_lcmp hk (pc := 69) dX6_kindHere_69 ?_
            refine jj_if_ne hk (pc := 70) 77 dX6_kindHere_70 (by decide) ?_ ?_
            · refine jj_iconst hk (pc := 77) (v := (-1 : Int32)) dX6_kindHere_77 (by decide) ?_
              exact jm_retRi hk (pc := 78) dX6_kindHere_78
            · refine jj_iconst hk (pc := 73) (v := (5 : Int32)) dX6_kindHere_73 (by decide) ?_
              refine jj_goto hk (pc := 74) 78 dX6_kindHere_74 (by decide) ?_
              exact jm_retRi hk (pc := 78) dX6_kindHere_78
          · refine jj_iconst hk (pc := 61) (v := (4 : Int32)) dX6_kindHere_61 (by decide) ?_
            refine jj_goto hk (pc := 62) 78 dX6_kindHere_62 (by decide) ?_
            exact jm_retRi hk (pc := 78) dX6_kindHere_78
        · refine jj_iconst hk (pc := 49) (v := (3 : Int32)) dX6_kindHere_49 (by decide) ?_
          refine jj_goto hk (pc := 50) 78 dX6_kindHere_50 (by decide) ?_
          exact jm_retRi hk (pc := 78) dX6_kindHere_78
      · refine jj_iconst hk (pc := 37) (v := (2 : Int32)) dX6_kindHere_37 (by decide) ?_
        refine jj_goto hk (pc := 38) 78 dX6_kindHere_38 (by decide) ?_
        exact jm_retRi hk (pc := 78) dX6_kindHere_78
    · refine jj_iconst hk (pc := 25) (v := (1 : Int32)) dX6_kindHere_25 (by decide) ?_
      refine jj_goto hk (pc := 26) 78 dX6_kindHere_26 (by decide) ?_
      exact jm_retRi hk (pc := 78) dX6_kindHere_78
  · refine jj_iconst hk (pc := 13) (v := (0 : Int32)) dX6_kindHere_13 (by decide) ?_
    refine jj_goto hk (pc := 14) 78 dX6_kindHere_14 (by decide) ?_
    exact jm_retRi hk (pc := 78) dX6_kindHere_78
end
section
variable {p : Program} {l : Launch} {e : Env} {R : Room} {s : State} {m : MethodId} {args : Array Value} {below : List Frame} {meth : Method} {c : Code}
variable {G : jG}
variable {NX : Nat} {Q : State → Prop} {nL : Nat} {cc : ByteArray} {fr lo frc loc : Nat} {ret : Option FieldType}
variable {pc : Nat} {μ : MS} {lv : List (Nat × Value)} {st : List Value} {ρ : Type} {res : ρ}
theorem kc_m_kindHere (hk : jk p R s m args meth c NX cc nL RX6 fr lo ret) (hK : mK G s)  {F : Option Int32} {K : Int32 → Option ρ} (hM : ∀ r, F = some r → jM l yX6_kindHere (ws_ yX6_kindHere cX6_kindHere 3 (some .int)) frc loc [.ref (gh G)] (mWo G) (mnx G) (mK G) μ (jR μ r) (gA G) (gn G)) (hd : decode cc pc = .ok (.invokevirtual 383, 3)) (hr : frc + 1 ≤ fr ∧ 8 + (3 + 11) + loc ≤ lo) (hw : (st.map fun v => v.category).sum ≤ 8) (kk : ∀ r, jj p l e R s m args below meth c (gA G) NX Q (mWo G) (mnx G) nL μ (pc + 3) lv (.int r :: st) (K r = some res)) : jj p l e R s m args below meth c (gA G) NX Q (mWo G) (mnx G) nL μ pc lv (.ref (gh G) :: st) (F.bind K = some res) :=
  jm_VRi (n := 0) hk hK [] hM (lw_V q2057 q2059 qs94 q127 q2060) (by decide +kernel) rfl rfl hd hr hw kk
end
section
variable {p : Program} {l : Launch} {e : Env} {R : Room} {s : State} {m : MethodId} {args : Array Value} {below : List Frame} {meth : Method} {c : Code}
variable {G : jG}
set_option maxHeartbeats 4000000 in
theorem wb_m_rule_B168 {res : MS} (hk : jk p R s m args meth c (gn G) cX6_rule 7 RX6 55 1184 none) (hK : mK G s) (N : Nat) (μ : MS) (x1 : Int32) (x4 : Int32) (x5 : Int32) (y0 : Bool) : jj p l e R s m args below meth c (gA G) (gn G) (jZ below args s (gA G) (gn G) (jV res) (mWo G) (mnx G)) (mWo G) (mnx G) 7 μ 168 [(0, .ref (gh G)), (1, .int x1), (4, .int x4), (5, .int x5)] [.int (bI y0), .ref (gh G)] (m_rule_B168 N μ x1 x4 x5 y0 = some res) := by
  unfold m_rule_B168
  refine kc_m_wants hk hK (pc := 168) (a0 := y0) (fun r h => cc_m_wants l G N μ y0 r h) dX6_rule_168 ⟨Nat.le_of_ble_eq_true rfl, Nat.le_of_ble_eq_true rfl⟩ (Nat.le_of_ble_eq_true rfl) (fun r1 => ?_)
  refine jj_aload_n hk (pc := 171) dX6_rule_171 0 rfl rfl ?_
  refine jm_g_isWrong hk hK (pc := 172) dX6_rule_172 ?_
  refine jj_if_ne hk (pc := 175) 247 dX6_rule_175 (by decide) ?_ ?_
  · exact jm_retV hk (pc := 247) dX6_rule_247
  · refine jj_sipush hk (pc := 178) (v := (136 : Int32)) dX6_rule_178 (by decide) ?_
    refine jj_iconst hk (pc := 181) (v := (4 : Int32)) dX6_rule_181 (by decide) ?_
    refine jj_aload_n hk (pc := 182) dX6_rule_182 0 rfl rfl ?_
    refine jm_g_s hk hK (pc := 183) dX6_rule_183 ?_
    refine jj_iconst hk (pc := 186) (v := (1 : Int32)) dX6_rule_186 (by decide) ?_
    refine jm_ld hk hK (pc := 187) (by decide) dX6_rule_187 (fun v2 => ?_)
    refine jj_imul hk (pc := 188) dX6_rule_188 ?_
    refine jj_iadd hk (pc := 189) dX6_rule_189 ?_
    refine jj_istore hk (pc := 190) [(6, .int ((136 : Int32) + ((4 : Int32) * v2))), (0, .ref (gh G)), (1, .int x1), (4, .int x4), (5, .int x5)] dX6_rule_190 (Nat.le_of_ble_eq_true rfl) rfl ?_
    refine jj_aload_n hk (pc := 192) dX6_rule_192 1 rfl rfl ?_
    refine jm_g_s hk hK (pc := 193) dX6_rule_193 ?_
    refine jj_iload hk (pc := 196) dX6_rule_196 0 rfl ?_
    refine jj_iconst hk (pc := 198) (v := (0 : Int32)) dX6_rule_198 (by decide) ?_
    refine jj_iadd hk (pc := 199) dX6_rule_199 ?_
    refine jj_iload_n hk (pc := 200) dX6_rule_200 2 rfl rfl ?_
    refine jm_st hk hK (pc := 201) (by decide) dX6_rule_201 (fun μ3 => ?_)
    refine jj_aload_n hk (pc := 202) dX6_rule_202 1 rfl rfl ?_
    refine jm_g_s hk hK (pc := 203) dX6_rule_203 ?_
    refine jj_iload hk (pc := 206) dX6_rule_206 0 rfl ?_
    refine jj_iconst hk (pc := 208) (v := (1 : Int32)) dX6_rule_208 (by decide) ?_
    refine jj_iadd hk (pc := 209) dX6_rule_209 ?_
    refine jj_iload hk (pc := 210) dX6_rule_210 3 rfl ?_
    refine jm_st hk hK (pc := 212) (by decide) dX6_rule_212 (fun μ4 => ?_)
    refine jj_aload_n hk (pc := 213) dX6_rule_213 1 rfl rfl ?_
    refine jm_g_s hk hK (pc := 214) dX6_rule_214 ?_
    refine jj_iload hk (pc := 217) dX6_rule_217 0 rfl ?_
    refine jj_iconst hk (pc := 219) (v := (2 : Int32)) dX6_rule_219 (by decide) ?_
    refine jj_iadd hk (pc := 220) dX6_rule_220 ?_
    refine jj_iload hk (pc := 221) dX6_rule_221 4 rfl ?_
    refine jm_st hk hK (pc := 223) (by decide) dX6_rule_223 (fun μ5 => ?_)
    refine jj_aload_n hk (pc := 224) dX6_rule_224 1 rfl rfl ?_
    refine jm_g_s hk hK (pc := 225) dX6_rule_225 ?_
    refine jj_iload hk (pc := 228) dX6_rule_228 0 rfl ?_
    refine jj_iconst hk (pc := 230) (v := (3 : Int32)) dX6_rule_230 (by decide) ?_
    refine jj_iadd hk (pc := 231) dX6_rule_231 ?_
    refine jj_aload_n hk (pc := 232) dX6_rule_232 1 rfl rfl ?_
    refine jm_g_coded hk hK (pc := 233) dX6_rule_233 ?_
    refine jm_st hk hK (pc := 236) (by decide) dX6_rule_236 (fun μ6 => ?_)
    refine jj_aload_n hk (pc := 237) dX6_rule_237 1 rfl rfl ?_
    refine jm_g_s hk hK (pc := 238) dX6_rule_238 ?_
    refine jj_iconst hk (pc := 241) (v := (1 : Int32)) dX6_rule_241 (by decide) ?_
    refine jj_dup2 hk (pc := 242) dX6_rule_242 rfl rfl ?_
    refine jm_ld hk hK (pc := 243) (by decide) dX6_rule_243 (fun v7 => ?_)
    refine jj_iconst hk (pc := 244) (v := (1 : Int32)) dX6_rule_244 (by decide) ?_
    refine jj_iadd hk (pc := 245) dX6_rule_245 ?_
    refine jm_st hk hK (pc := 246) (by decide) dX6_rule_246 (fun μ8 => ?_)
    exact jm_retV hk (pc := 247) dX6_rule_247
set_option maxHeartbeats 4000000 in
theorem wb_m_rule_B104 {res : MS} (hk : jk p R s m args meth c (gn G) cX6_rule 7 RX6 55 1184 none) (hK : mK G s) (N : Nat) (μ : MS) (x1 : Int32) (x4 : Int32) (y0 : Bool) : jj p l e R s m args below meth c (gA G) (gn G) (jZ below args s (gA G) (gn G) (jV res) (mWo G) (mnx G)) (mWo G) (mnx G) 7 μ 104 [(0, .ref (gh G)), (1, .int x1), (4, .int x4)] [.int (bI y0), .ref (gh G)] (m_rule_B104 N μ x1 x4 y0 = some res) := by
  unfold m_rule_B104
  refine kc_m_wants hk hK (pc := 104) (a0 := y0) (fun r h => cc_m_wants l G N μ y0 r h) dX6_rule_104 ⟨Nat.le_of_ble_eq_true rfl, Nat.le_of_ble_eq_true rfl⟩ (Nat.le_of_ble_eq_true rfl) (fun r1 => ?_)
  refine jj_aload_n hk (pc := 107) dX6_rule_107 0 rfl rfl ?_
  refine jj_iconst hk (pc := 108) (v := (0 : Int32)) dX6_rule_108 (by decide) ?_
  refine jm_p_value hk hK (pc := 109) dX6_rule_109 (fun μ2 => ?_)
  refine jj_iload hk (pc := 112) dX6_rule_112 2 rfl ?_
  refine jj_if_lt hk (pc := 114) 136 dX6_rule_114 (by decide) ?_ ?_
  · refine jj_aload_n hk (pc := 136) dX6_rule_136 0 rfl rfl ?_
    refine jm_g_value hk hK (pc := 137) dX6_rule_137 ?_
    refine jj_istore hk (pc := 140) [(5, .int (μ2.1 26)), (0, .ref (gh G)), (1, .int x1), (4, .int x4)] dX6_rule_140 (Nat.le_of_ble_eq_true rfl) rfl ?_
    refine jj_aload_n hk (pc := 142) dX6_rule_142 1 rfl rfl ?_
    refine jj_aload_n hk (pc := 143) dX6_rule_143 1 rfl rfl ?_
    refine jm_g_isWrong hk hK (pc := 144) dX6_rule_144 ?_
    refine jj_if_ne hk (pc := 147) 167 dX6_rule_147 (by decide) ?_ ?_
    · refine jj_iconst hk (pc := 167) (v := (0 : Int32)) dX6_rule_167 (by decide) ?_
      refine jj_loc [(0, .ref (gh G)), (1, .int x1), (4, .int x4), (5, .int (μ2.1 26))] [1, 2, 3, 0] rfl ?_
      exact wb_m_rule_B168 hk hK N μ2 x1 x4 (μ2.1 26) false
    · refine jj_aload_n hk (pc := 150) dX6_rule_150 1 rfl rfl ?_
      refine jj_aload_n hk (pc := 151) dX6_rule_151 1 rfl rfl ?_
      refine jm_g_from hk hK (pc := 152) dX6_rule_152 ?_
      refine kc_m_byteAt hk hK (pc := 155) (a0 := (μ2.1 24)) (fun r h => cc_m_byteAt l G μ2 (μ2.1 24) r h) dX6_rule_155 ⟨Nat.le_of_ble_eq_true rfl, Nat.le_of_ble_eq_true rfl⟩ (Nat.le_of_ble_eq_true rfl) (fun r3 => ?_)
      refine jj_bipush hk (pc := 158) (v := (59 : Int32)) dX6_rule_158 (by decide) ?_
      refine jj_icmp_ne hk (pc := 160) 167 dX6_rule_160 (by decide) ?_ ?_
      · refine jj_iconst hk (pc := 167) (v := (0 : Int32)) dX6_rule_167 (by decide) ?_
        refine jj_loc [(0, .ref (gh G)), (1, .int x1), (4, .int x4), (5, .int (μ2.1 26))] [1, 2, 3, 0] rfl ?_
        exact wb_m_rule_B168 hk hK N μ2 x1 x4 (μ2.1 26) false
      · refine jj_iconst hk (pc := 163) (v := (1 : Int32)) dX6_rule_163 (by decide) ?_
        refine jj_goto hk (pc := 164) 168 dX6_rule_164 (by decide) ?_
        refine jj_loc [(0, .ref (gh G)), (1, .int x1), (4, .int x4), (5, .int (μ2.1 26))] [1, 2, 3, 0] rfl ?_
        exact wb_m_rule_B168 hk hK N μ2 x1 x4 (μ2.1 26) true
  · refine jj_iload hk (pc := 117) dX6_rule_117 2 rfl ?_
    refine jj_iconst hk (pc := 119) (v := (2 : Int32)) dX6_rule_119 (by decide) ?_
    refine jj_icmp_eq hk (pc := 120) 136 dX6_rule_120 (by decide) ?_ ?_
    · refine jj_aload_n hk (pc := 136) dX6_rule_136 0 rfl rfl ?_
      refine jm_g_value hk hK (pc := 137) dX6_rule_137 ?_
      refine jj_istore hk (pc := 140) [(5, .int (μ2.1 26)), (0, .ref (gh G)), (1, .int x1), (4, .int x4)] dX6_rule_140 (Nat.le_of_ble_eq_true rfl) rfl ?_
      refine jj_aload_n hk (pc := 142) dX6_rule_142 1 rfl rfl ?_
      refine jj_aload_n hk (pc := 143) dX6_rule_143 1 rfl rfl ?_
      refine jm_g_isWrong hk hK (pc := 144) dX6_rule_144 ?_
      refine jj_if_ne hk (pc := 147) 167 dX6_rule_147 (by decide) ?_ ?_
      · refine jj_iconst hk (pc := 167) (v := (0 : Int32)) dX6_rule_167 (by decide) ?_
        refine jj_loc [(0, .ref (gh G)), (1, .int x1), (4, .int x4), (5, .int (μ2.1 26))] [1, 2, 3, 0] rfl ?_
        exact wb_m_rule_B168 hk hK N μ2 x1 x4 (μ2.1 26) false
      · refine jj_aload_n hk (pc := 150) dX6_rule_150 1 rfl rfl ?_
        refine jj_aload_n hk (pc := 151) dX6_rule_151 1 rfl rfl ?_
        refine jm_g_from hk hK (pc := 152) dX6_rule_152 ?_
        refine kc_m_byteAt hk hK (pc := 155) (a0 := (μ2.1 24)) (fun r h => cc_m_byteAt l G μ2 (μ2.1 24) r h) dX6_rule_155 ⟨Nat.le_of_ble_eq_true rfl, Nat.le_of_ble_eq_true rfl⟩ (Nat.le_of_ble_eq_true rfl) (fun r4 => ?_)
        refine jj_bipush hk (pc := 158) (v := (59 : Int32)) dX6_rule_158 (by decide) ?_
        refine jj_icmp_ne hk (pc := 160) 167 dX6_rule_160 (by decide) ?_ ?_
        · refine jj_iconst hk (pc := 167) (v := (0 : Int32)) dX6_rule_167 (by decide) ?_
          refine jj_loc [(0, .ref (gh G)), (1, .int x1), (4, .int x4), (5, .int (μ2.1 26))] [1, 2, 3, 0] rfl ?_
          exact wb_m_rule_B168 hk hK N μ2 x1 x4 (μ2.1 26) false
        · refine jj_iconst hk (pc := 163) (v := (1 : Int32)) dX6_rule_163 (by decide) ?_
          refine jj_goto hk (pc := 164) 168 dX6_rule_164 (by decide) ?_
          refine jj_loc [(0, .ref (gh G)), (1, .int x1), (4, .int x4), (5, .int (μ2.1 26))] [1, 2, 3, 0] rfl ?_
          exact wb_m_rule_B168 hk hK N μ2 x1 x4 (μ2.1 26) true
    · refine jj_aload_n hk (pc := 123) dX6_rule_123 0 rfl rfl ?_
      refine jm_g_isWrong hk hK (pc := 124) dX6_rule_124 ?_
      refine jj_if_ne hk (pc := 127) 136 dX6_rule_127 (by decide) ?_ ?_
      · refine jj_aload_n hk (pc := 136) dX6_rule_136 0 rfl rfl ?_
        refine jm_g_value hk hK (pc := 137) dX6_rule_137 ?_
        refine jj_istore hk (pc := 140) [(5, .int (μ2.1 26)), (0, .ref (gh G)), (1, .int x1), (4, .int x4)] dX6_rule_140 (Nat.le_of_ble_eq_true rfl) rfl ?_
        refine jj_aload_n hk (pc := 142) dX6_rule_142 1 rfl rfl ?_
        refine jj_aload_n hk (pc := 143) dX6_rule_143 1 rfl rfl ?_
        refine jm_g_isWrong hk hK (pc := 144) dX6_rule_144 ?_
        refine jj_if_ne hk (pc := 147) 167 dX6_rule_147 (by decide) ?_ ?_
        · refine jj_iconst hk (pc := 167) (v := (0 : Int32)) dX6_rule_167 (by decide) ?_
          refine jj_loc [(0, .ref (gh G)), (1, .int x1), (4, .int x4), (5, .int (μ2.1 26))] [1, 2, 3, 0] rfl ?_
          exact wb_m_rule_B168 hk hK N μ2 x1 x4 (μ2.1 26) false
        · refine jj_aload_n hk (pc := 150) dX6_rule_150 1 rfl rfl ?_
          refine jj_aload_n hk (pc := 151) dX6_rule_151 1 rfl rfl ?_
          refine jm_g_from hk hK (pc := 152) dX6_rule_152 ?_
          refine kc_m_byteAt hk hK (pc := 155) (a0 := (μ2.1 24)) (fun r h => cc_m_byteAt l G μ2 (μ2.1 24) r h) dX6_rule_155 ⟨Nat.le_of_ble_eq_true rfl, Nat.le_of_ble_eq_true rfl⟩ (Nat.le_of_ble_eq_true rfl) (fun r5 => ?_)
          refine jj_bipush hk (pc := 158) (v := (59 : Int32)) dX6_rule_158 (by decide) ?_
          refine jj_icmp_ne hk (pc := 160) 167 dX6_rule_160 (by decide) ?_ ?_
          · refine jj_iconst hk (pc := 167) (v := (0 : Int32)) dX6_rule_167 (by decide) ?_
            refine jj_loc [(0, .ref (gh G)), (1, .int x1), (4, .int x4), (5, .int (μ2.1 26))] [1, 2, 3, 0] rfl ?_
            exact wb_m_rule_B168 hk hK N μ2 x1 x4 (μ2.1 26) false
          · refine jj_iconst hk (pc := 163) (v := (1 : Int32)) dX6_rule_163 (by decide) ?_
            refine jj_goto hk (pc := 164) 168 dX6_rule_164 (by decide) ?_
            refine jj_loc [(0, .ref (gh G)), (1, .int x1), (4, .int x4), (5, .int (μ2.1 26))] [1, 2, 3, 0] rfl ?_
            exact wb_m_rule_B168 hk hK N μ2 x1 x4 (μ2.1 26) true
      · refine jj_aload_n hk (pc := 130) dX6_rule_130 0 rfl rfl ?_
        refine jj_bipush hk (pc := 131) (v := (99 : Int32)) dX6_rule_131 (by decide) ?_
        refine kc_m_number hk hK (pc := 133) (a0 := (99 : Int32)) (fun r h => cc_m_number l G N μ2 (99 : Int32) r h) dX6_rule_133 ⟨Nat.le_of_ble_eq_true rfl, Nat.le_of_ble_eq_true rfl⟩ (Nat.le_of_ble_eq_true rfl) (fun r6 => ?_)
        refine jj_aload_n hk (pc := 136) dX6_rule_136 0 rfl rfl ?_
        refine jm_g_value hk hK (pc := 137) dX6_rule_137 ?_
        refine jj_istore hk (pc := 140) [(5, .int (r6.1 26)), (0, .ref (gh G)), (1, .int x1), (4, .int x4)] dX6_rule_140 (Nat.le_of_ble_eq_true rfl) rfl ?_
        refine jj_aload_n hk (pc := 142) dX6_rule_142 1 rfl rfl ?_
        refine jj_aload_n hk (pc := 143) dX6_rule_143 1 rfl rfl ?_
        refine jm_g_isWrong hk hK (pc := 144) dX6_rule_144 ?_
        refine jj_if_ne hk (pc := 147) 167 dX6_rule_147 (by decide) ?_ ?_
        · refine jj_iconst hk (pc := 167) (v := (0 : Int32)) dX6_rule_167 (by decide) ?_
          refine jj_loc [(0, .ref (gh G)), (1, .int x1), (4, .int x4), (5, .int (r6.1 26))] [1, 2, 3, 0] rfl ?_
          exact wb_m_rule_B168 hk hK N r6 x1 x4 (r6.1 26) false
        · refine jj_aload_n hk (pc := 150) dX6_rule_150 1 rfl rfl ?_
          refine jj_aload_n hk (pc := 151) dX6_rule_151 1 rfl rfl ?_
          refine jm_g_from hk hK (pc := 152) dX6_rule_152 ?_
          refine kc_m_byteAt hk hK (pc := 155) (a0 := (r6.1 24)) (fun r h => cc_m_byteAt l G r6 (r6.1 24) r h) dX6_rule_155 ⟨Nat.le_of_ble_eq_true rfl, Nat.le_of_ble_eq_true rfl⟩ (Nat.le_of_ble_eq_true rfl) (fun r7 => ?_)
          refine jj_bipush hk (pc := 158) (v := (59 : Int32)) dX6_rule_158 (by decide) ?_
          refine jj_icmp_ne hk (pc := 160) 167 dX6_rule_160 (by decide) ?_ ?_
          · refine jj_iconst hk (pc := 167) (v := (0 : Int32)) dX6_rule_167 (by decide) ?_
            refine jj_loc [(0, .ref (gh G)), (1, .int x1), (4, .int x4), (5, .int (r6.1 26))] [1, 2, 3, 0] rfl ?_
            exact wb_m_rule_B168 hk hK N r6 x1 x4 (r6.1 26) false
          · refine jj_iconst hk (pc := 163) (v := (1 : Int32)) dX6_rule_163 (by decide) ?_
            refine jj_goto hk (pc := 164) 168 dX6_rule_164 (by decide) ?_
            refine jj_loc [(0, .ref (gh G)), (1, .int x1), (4, .int x4), (5, .int (r6.1 26))] [1, 2, 3, 0] rfl ?_
            exact wb_m_rule_B168 hk hK N r6 x1 x4 (r6.1 26) true
set_option maxHeartbeats 4000000 in
theorem wb_m_rule_B49 {res : MS} (hk : jk p R s m args meth c (gn G) cX6_rule 7 RX6 55 1184 none) (hK : mK G s) (N : Nat) (μ : MS) (x1 : Int32) : jj p l e R s m args below meth c (gA G) (gn G) (jZ below args s (gA G) (gn G) (jV res) (mWo G) (mnx G)) (mWo G) (mnx G) 7 μ 49 [(0, .ref (gh G)), (1, .int x1)] [] (m_rule_B49 N μ x1 = some res) := by
  unfold m_rule_B49
  refine jj_aload_n hk (pc := 49) dX6_rule_49 0 rfl rfl ?_
  refine kc_m_word hk hK (pc := 50)  (fun r h => cc_m_word l G N μ r h) dX6_rule_50 ⟨Nat.le_of_ble_eq_true rfl, Nat.le_of_ble_eq_true rfl⟩ (Nat.le_of_ble_eq_true rfl) (fun r1 => ?_)
  refine jj_lstore_n hk (pc := 53) [(2, .long r1), (0, .ref (gh G)), (1, .int x1)] dX6_rule_53 rfl (Nat.le_of_ble_eq_true rfl) rfl ?_
  refine jj_lload_n hk (pc := 54) dX6_rule_54 0 rfl rfl ?_
  refine jj_ldc2_w hk (pc := 55) q2118 dX6_rule_55 ?_
  refine jj_lcmp hk (pc := 58) dX6_rule_58 ?_
  refine jj_if_ne hk (pc := 59) 66 dX6_rule_59 (by decide) ?_ ?_
  · refine jj_lload_n hk (pc := 66) dX6_rule_66 0 rfl rfl ?_
    refine jj_ldc2_w hk (pc := 67) q2119 dX6_rule_67 ?_
    refine jj_lcmp hk (pc := 70) dX6_rule_70 ?_
    refine jj_if_ne hk (pc := 71) 78 dX6_rule_71 (by decide) ?_ ?_
    · refine jj_lload_n hk (pc := 78) dX6_rule_78 0 rfl rfl ?_
      refine jj_ldc2_w hk (pc := 79) q2120 dX6_rule_79 ?_
      refine jj_lcmp hk (pc := 82) dX6_rule_82 ?_
      refine jj_if_ne hk (pc := 83) 90 dX6_rule_83 (by decide) ?_ ?_
      · refine jj_iconst hk (pc := 90) (v := (-1 : Int32)) dX6_rule_90 (by decide) ?_
        refine jj_istore hk (pc := 91) [(4, .int (-1 : Int32)), (2, .long r1), (0, .ref (gh G)), (1, .int x1)] dX6_rule_91 (Nat.le_of_ble_eq_true rfl) rfl ?_
        refine jj_aload_n hk (pc := 93) dX6_rule_93 2 rfl rfl ?_
        refine jj_iload hk (pc := 94) dX6_rule_94 0 rfl ?_
        refine jj_if_lt_T hk (pc := 96) 103 dX6_rule_96 (by decide) (by decide) ?_
        refine jj_iconst hk (pc := 103) (v := (0 : Int32)) dX6_rule_103 (by decide) ?_
        refine jj_loc [(0, .ref (gh G)), (1, .int x1), (4, .int (-1 : Int32))] [2, 3, 0] rfl ?_
        exact wb_m_rule_B104 hk hK N μ x1 (-1 : Int32) false
      · refine jj_iconst hk (pc := 86) (v := (2 : Int32)) dX6_rule_86 (by decide) ?_
        refine jj_goto hk (pc := 87) 91 dX6_rule_87 (by decide) ?_
        refine jj_istore hk (pc := 91) [(4, .int (2 : Int32)), (2, .long r1), (0, .ref (gh G)), (1, .int x1)] dX6_rule_91 (Nat.le_of_ble_eq_true rfl) rfl ?_
        refine jj_aload_n hk (pc := 93) dX6_rule_93 2 rfl rfl ?_
        refine jj_iload hk (pc := 94) dX6_rule_94 0 rfl ?_
        refine jj_if_lt_F hk (pc := 96) dX6_rule_96 103 (by decide) (by decide) ?_
        refine jj_iconst hk (pc := 99) (v := (1 : Int32)) dX6_rule_99 (by decide) ?_
        refine jj_goto hk (pc := 100) 104 dX6_rule_100 (by decide) ?_
        refine jj_loc [(0, .ref (gh G)), (1, .int x1), (4, .int (2 : Int32))] [2, 3, 0] rfl ?_
        exact wb_m_rule_B104 hk hK N μ x1 (2 : Int32) true
    · refine jj_iconst hk (pc := 74) (v := (1 : Int32)) dX6_rule_74 (by decide) ?_
      refine jj_goto hk (pc := 75) 91 dX6_rule_75 (by decide) ?_
      refine jj_istore hk (pc := 91) [(4, .int (1 : Int32)), (2, .long r1), (0, .ref (gh G)), (1, .int x1)] dX6_rule_91 (Nat.le_of_ble_eq_true rfl) rfl ?_
      refine jj_aload_n hk (pc := 93) dX6_rule_93 2 rfl rfl ?_
      refine jj_iload hk (pc := 94) dX6_rule_94 0 rfl ?_
      refine jj_if_lt_F hk (pc := 96) dX6_rule_96 103 (by decide) (by decide) ?_
      refine jj_iconst hk (pc := 99) (v := (1 : Int32)) dX6_rule_99 (by decide) ?_
      refine jj_goto hk (pc := 100) 104 dX6_rule_100 (by decide) ?_
      refine jj_loc [(0, .ref (gh G)), (1, .int x1), (4, .int (1 : Int32))] [2, 3, 0] rfl ?_
      exact wb_m_rule_B104 hk hK N μ x1 (1 : Int32) true
  · refine jj_iconst hk (pc := 62) (v := (0 : Int32)) dX6_rule_62 (by decide) ?_
    refine jj_goto hk (pc := 63) 91 dX6_rule_63 (by decide) ?_
    refine jj_istore hk (pc := 91) [(4, .int (0 : Int32)), (2, .long r1), (0, .ref (gh G)), (1, .int x1)] dX6_rule_91 (Nat.le_of_ble_eq_true rfl) rfl ?_
    refine jj_aload_n hk (pc := 93) dX6_rule_93 2 rfl rfl ?_
    refine jj_iload hk (pc := 94) dX6_rule_94 0 rfl ?_
    refine jj_if_lt_F hk (pc := 96) dX6_rule_96 103 (by decide) (by decide) ?_
    refine jj_iconst hk (pc := 99) (v := (1 : Int32)) dX6_rule_99 (by decide) ?_
    refine jj_goto hk (pc := 100) 104 dX6_rule_100 (by decide) ?_
    refine jj_loc [(0, .ref (gh G)), (1, .int x1), (4, .int (0 : Int32))] [2, 3, 0] rfl ?_
    exact wb_m_rule_B104 hk hK N μ x1 (0 : Int32) true
set_option maxHeartbeats 4000000 in
theorem cc_m_rule (l : Launch) (G : jG) (N : Nat) (μ : MS)  (res : MS) (hf : m_rule N μ = some res) : jM l yX6_rule (ws_ yX6_rule cX6_rule 7 none) 55 1184 [.ref (gh G)] (mWo G) (mnx G) (mK G) μ (jV res) (gA G) (gn G) := by
  refine jj_start [(0, .ref (gh G))] (by decide) (Nat.le_of_ble_eq_true rfl) rfl (fun p e R s m args below meth c hk hK hsz => ?_) hf
  have hk : jk p R s m args meth c (gn G) cX6_rule 7 RX6 55 1184 none := hk
  unfold m_rule
  refine jj_aload_n hk (pc := 0) dX6_rule_0 0 rfl rfl ?_
  refine kc_m_kindHere hk hK (pc := 1)  (fun r h => cc_m_kindHere l G N μ r h) dX6_rule_1 ⟨Nat.le_of_ble_eq_true rfl, Nat.le_of_ble_eq_true rfl⟩ (Nat.le_of_ble_eq_true rfl) (fun r1 => ?_)
  refine jj_istore_n hk (pc := 4) [(1, .int r1), (0, .ref (gh G))] dX6_rule_4 rfl (Nat.le_of_ble_eq_true rfl) rfl ?_
  refine jj_aload_n hk (pc := 5) dX6_rule_5 1 rfl rfl ?_
  refine jj_iload_n hk (pc := 6) dX6_rule_6 0 rfl rfl ?_
  refine jj_if_lt hk (pc := 7) 25 dX6_rule_7 (by decide) ?_ ?_
  · refine jj_iconst hk (pc := 25) (v := (0 : Int32)) dX6_rule_25 (by decide) ?_
    refine kc_m_wants hk hK (pc := 26) (a0 := false) (fun r h => cc_m_wants l G N μ false r h) dX6_rule_26 ⟨Nat.le_of_ble_eq_true rfl, Nat.le_of_ble_eq_true rfl⟩ (Nat.le_of_ble_eq_true rfl) (fun r2 => ?_)
    refine jj_aload_n hk (pc := 29) dX6_rule_29 1 rfl rfl ?_
    refine kc_m_word hk hK (pc := 30)  (fun r h => cc_m_word l G N r2 r h) dX6_rule_30 ⟨Nat.le_of_ble_eq_true rfl, Nat.le_of_ble_eq_true rfl⟩ (Nat.le_of_ble_eq_true rfl) (fun r3 => ?_)
    refine jj_ldc2_w hk (pc := 33) q2077 dX6_rule_33 ?_
    refine jj_lcmp hk (pc := 36) dX6_rule_36 ?_
    refine jj_if_ne hk (pc := 37) 49 dX6_rule_37 (by decide) ?_ ?_
    · refine jj_loc [(0, .ref (gh G)), (1, .int r1)] [1, 0] rfl ?_
      exact wb_m_rule_B49 hk hK N r2 r1
    · refine jj_aload_n hk (pc := 40) dX6_rule_40 1 rfl rfl ?_
      refine jj_iconst hk (pc := 41) (v := (1 : Int32)) dX6_rule_41 (by decide) ?_
      refine kc_m_wants hk hK (pc := 42) (a0 := true) (fun r h => cc_m_wants l G N r2 true r h) dX6_rule_42 ⟨Nat.le_of_ble_eq_true rfl, Nat.le_of_ble_eq_true rfl⟩ (Nat.le_of_ble_eq_true rfl) (fun r4 => ?_)
      refine jj_aload_n hk (pc := 45) dX6_rule_45 1 rfl rfl ?_
      refine kc_m_condition hk hK (pc := 46)  (fun r h => cc_m_condition l G N 6 r4 r h) dX6_rule_46 ⟨Nat.le_of_ble_eq_true rfl, Nat.le_of_ble_eq_true rfl⟩ (Nat.le_of_ble_eq_true rfl) (fun r5 => ?_)
      refine jj_loc [(0, .ref (gh G)), (1, .int r1)] [1, 0] rfl ?_
      exact wb_m_rule_B49 hk hK N r5 r1
  · refine jj_aload_n hk (pc := 10) dX6_rule_10 1 rfl rfl ?_
    refine jm_g_s hk hK (pc := 11) dX6_rule_11 ?_
    refine jj_iconst hk (pc := 14) (v := (1 : Int32)) dX6_rule_14 (by decide) ?_
    refine jm_ld hk hK (pc := 15) (by decide) dX6_rule_15 (fun v6 => ?_)
    refine jj_bipush hk (pc := 16) (v := (8 : Int32)) dX6_rule_16 (by decide) ?_
    refine jj_icmp_ge hk (pc := 18) 25 dX6_rule_18 (by decide) ?_ ?_
    · refine jj_iconst hk (pc := 25) (v := (0 : Int32)) dX6_rule_25 (by decide) ?_
      refine kc_m_wants hk hK (pc := 26) (a0 := false) (fun r h => cc_m_wants l G N μ false r h) dX6_rule_26 ⟨Nat.le_of_ble_eq_true rfl, Nat.le_of_ble_eq_true rfl⟩ (Nat.le_of_ble_eq_true rfl) (fun r7 => ?_)
      refine jj_aload_n hk (pc := 29) dX6_rule_29 1 rfl rfl ?_
      refine kc_m_word hk hK (pc := 30)  (fun r h => cc_m_word l G N r7 r h) dX6_rule_30 ⟨Nat.le_of_ble_eq_true rfl, Nat.le_of_ble_eq_true rfl⟩ (Nat.le_of_ble_eq_true rfl) (fun r8 => ?_)
      refine jj_ldc2_w hk (pc := 33) q2077 dX6_rule_33 ?_
      refine jj_lcmp hk (pc := 36) dX6_rule_36 ?_
      refine jj_if_ne hk (pc := 37) 49 dX6_rule_37 (by decide) ?_ ?_
      · refine jj_loc [(0, .ref (gh G)), (1, .int r1)] [1, 0] rfl ?_
        exact wb_m_rule_B49 hk hK N r7 r1
      · refine jj_aload_n hk (pc := 40) dX6_rule_40 1 rfl rfl ?_
        refine jj_iconst hk (pc := 41) (v := (1 : Int32)) dX6_rule_41 (by decide) ?_
        refine kc_m_wants hk hK (pc := 42) (a0 := true) (fun r h => cc_m_wants l G N r7 true r h) dX6_rule_42 ⟨Nat.le_of_ble_eq_true rfl, Nat.le_of_ble_eq_true rfl⟩ (Nat.le_of_ble_eq_true rfl) (fun r9 => ?_)
        refine jj_aload_n hk (pc := 45) dX6_rule_45 1 rfl rfl ?_
        refine kc_m_condition hk hK (pc := 46)  (fun r h => cc_m_condition l G N 6 r9 r h) dX6_rule_46 ⟨Nat.le_of_ble_eq_true rfl, Nat.le_of_ble_eq_true rfl⟩ (Nat.le_of_ble_eq_true rfl) (fun r10 => ?_)
        refine jj_loc [(0, .ref (gh G)), (1, .int r1)] [1, 0] rfl ?_
        exact wb_m_rule_B49 hk hK N r10 r1
    · refine jj_iconst hk (pc := 21) (v := (1 : Int32)) dX6_rule_21 (by decide) ?_
      refine jj_goto hk (pc := 22) 26 dX6_rule_22 (by decide) ?_
      refine kc_m_wants hk hK (pc := 26) (a0 := true) (fun r h => cc_m_wants l G N μ true r h) dX6_rule_26 ⟨Nat.le_of_ble_eq_true rfl, Nat.le_of_ble_eq_true rfl⟩ (Nat.le_of_ble_eq_true rfl) (fun r11 => ?_)
      refine jj_aload_n hk (pc := 29) dX6_rule_29 1 rfl rfl ?_
      refine kc_m_word hk hK (pc := 30)  (fun r h => cc_m_word l G N r11 r h) dX6_rule_30 ⟨Nat.le_of_ble_eq_true rfl, Nat.le_of_ble_eq_true rfl⟩ (Nat.le_of_ble_eq_true rfl) (fun r12 => ?_)
      refine jj_ldc2_w hk (pc := 33) q2077 dX6_rule_33 ?_
      refine jj_lcmp hk (pc := 36) dX6_rule_36 ?_
      refine jj_if_ne hk (pc := 37) 49 dX6_rule_37 (by decide) ?_ ?_
      · refine jj_loc [(0, .ref (gh G)), (1, .int r1)] [1, 0] rfl ?_
        exact wb_m_rule_B49 hk hK N r11 r1
      · refine jj_aload_n hk (pc := 40) dX6_rule_40 1 rfl rfl ?_
        refine jj_iconst hk (pc := 41) (v := (1 : Int32)) dX6_rule_41 (by decide) ?_
        refine kc_m_wants hk hK (pc := 42) (a0 := true) (fun r h => cc_m_wants l G N r11 true r h) dX6_rule_42 ⟨Nat.le_of_ble_eq_true rfl, Nat.le_of_ble_eq_true rfl⟩ (Nat.le_of_ble_eq_true rfl) (fun r13 => ?_)
        refine jj_aload_n hk (pc := 45) dX6_rule_45 1 rfl rfl ?_
        refine kc_m_condition hk hK (pc := 46)  (fun r h => cc_m_condition l G N 6 r13 r h) dX6_rule_46 ⟨Nat.le_of_ble_eq_true rfl, Nat.le_of_ble_eq_true rfl⟩ (Nat.le_of_ble_eq_true rfl) (fun r14 => ?_)
        refine jj_loc [(0, .ref (gh G)), (1, .int r1)] [1, 0] rfl ?_
        exact wb_m_rule_B49 hk hK N r14 r1
end
section
variable {p : Program} {l : Launch} {e : Env} {R : Room} {s : State} {m : MethodId} {args : Array Value} {below : List Frame} {meth : Method} {c : Code}
variable {G : jG}
variable {NX : Nat} {Q : State → Prop} {nL : Nat} {cc : ByteArray} {fr lo frc loc : Nat} {ret : Option FieldType}
variable {pc : Nat} {μ : MS} {lv : List (Nat × Value)} {st : List Value} {ρ : Type} {res : ρ}
theorem kc_m_rule (hk : jk p R s m args meth c NX cc nL RX6 fr lo ret) (hK : mK G s)  {F : Option MS} {K : MS → Option ρ} (hM : ∀ r, F = some r → jM l yX6_rule (ws_ yX6_rule cX6_rule 7 none) frc loc [.ref (gh G)] (mWo G) (mnx G) (mK G) μ (jV r) (gA G) (gn G)) (hd : decode cc pc = .ok (.invokevirtual 394, 3)) (hr : frc + 1 ≤ fr ∧ 8 + (7 + 11) + loc ≤ lo) (hw : (st.map fun v => v.category).sum ≤ 8) (kk : ∀ r, jj p l e R s m args below meth c (gA G) NX Q (mWo G) (mnx G) nL r (pc + 3) lv st (K r = some res)) : jj p l e R s m args below meth c (gA G) NX Q (mWo G) (mnx G) nL μ pc lv (.ref (gh G) :: st) (F.bind K = some res) :=
  jm_VV (n := 0) hk hK [] hM (lw_V q2053 q2055 qs93 q127 q2056) (by decide +kernel) rfl rfl hd hr hw kk
end
