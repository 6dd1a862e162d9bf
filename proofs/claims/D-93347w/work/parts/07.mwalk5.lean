/-! THE MODEL's METHODS: contracts, printed by gen/gen.py -/
set_option maxRecDepth 100000
section
variable {p : Program} {l : Launch} {e : Env} {R : Room} {s : State} {m : MethodId} {args : Array Value} {below : List Frame} {meth : Method} {c : Code}
variable {G : jG}
set_option maxHeartbeats 4000000 in
theorem wb_m_rules_L35 {res : (Int32 × MS)} (hk : jk p R s m args meth c (gn G) cX6_rules 1 RX6 56 1210 (some .int)) (hK : mK G s) (N : Nat) : ∀ (n : Nat) (μ : MS), jj p l e R s m args below meth c (gA G) (gn G) (jZ below args s (gA G) (gn G) (jU res) (mWo G) (mnx G)) (mWo G) (mnx G) 1 μ 35 [(0, .ref (gh G))] [] (m_rules_L35 N n μ = some res) := by
  intro n
  induction n with
  | zero => intro μ; exact jj_eq (fun hz => by rw [m_rules_L35] at hz; exact hz) jj_no
  | succ n ih =>
    intro μ
    rw [m_rules_L35]
    refine jj_aload_n hk (pc := 35) dX6_rules_35 0 rfl rfl ?_
    refine jm_g_isWrong hk hK (pc := 36) dX6_rules_36 ?_
    refine jj_if_ne hk (pc := 39) 60 dX6_rules_39 (by decide) ?_ ?_
    · refine jj_aload_n hk (pc := 60) dX6_rules_60 0 rfl rfl ?_
      refine jj_iconst hk (pc := 61) (v := (0 : Int32)) dX6_rules_61 (by decide) ?_
      refine jm_p_taped hk hK (pc := 62) dX6_rules_62 (fun μ1 => ?_)
      refine jj_aload_n hk (pc := 65) dX6_rules_65 0 rfl rfl ?_
      refine jm_g_isWrong hk hK (pc := 66) dX6_rules_66 ?_
      refine jj_if_eq hk (pc := 69) 84 dX6_rules_69 (by decide) ?_ ?_
      · refine jj_aload_n hk (pc := 84) dX6_rules_84 0 rfl rfl ?_
        refine jm_g_s hk hK (pc := 85) dX6_rules_85 ?_
        refine jj_iconst hk (pc := 88) (v := (1 : Int32)) dX6_rules_88 (by decide) ?_
        refine jm_ld hk hK (pc := 89) (by decide) dX6_rules_89 (fun v2 => ?_)
        exact jm_retUi hk (pc := 90) dX6_rules_90
      · refine jj_aload_n hk (pc := 72) dX6_rules_72 0 rfl rfl ?_
        refine kc_m_putsBack hk hK (pc := 73)  (fun r h => cc_m_putsBack l G N μ1 r h) dX6_rules_73 ⟨Nat.le_of_ble_eq_true rfl, Nat.le_of_ble_eq_true rfl⟩ (Nat.le_of_ble_eq_true rfl) (fun r3 => ?_)
        refine jj_bipush hk (pc := 76) (v := (-100 : Int32)) dX6_rules_76 (by decide) ?_
        refine jj_aload_n hk (pc := 78) dX6_rules_78 0 rfl rfl ?_
        refine jm_g_from hk hK (pc := 79) dX6_rules_79 ?_
        refine jj_isub hk (pc := 82) dX6_rules_82 ?_
        exact jm_retUi hk (pc := 83) dX6_rules_83
    · refine jj_aload_n hk (pc := 42) dX6_rules_42 0 rfl rfl ?_
      refine jm_g_from hk hK (pc := 43) dX6_rules_43 ?_
      refine jj_aload_n hk (pc := 46) dX6_rules_46 0 rfl rfl ?_
      refine jm_g_taped hk hK (pc := 47) dX6_rules_47 ?_
      refine jj_icmp_ge hk (pc := 50) 60 dX6_rules_50 (by decide) ?_ ?_
      · refine jj_aload_n hk (pc := 60) dX6_rules_60 0 rfl rfl ?_
        refine jj_iconst hk (pc := 61) (v := (0 : Int32)) dX6_rules_61 (by decide) ?_
        refine jm_p_taped hk hK (pc := 62) dX6_rules_62 (fun μ4 => ?_)
        refine jj_aload_n hk (pc := 65) dX6_rules_65 0 rfl rfl ?_
        refine jm_g_isWrong hk hK (pc := 66) dX6_rules_66 ?_
        refine jj_if_eq hk (pc := 69) 84 dX6_rules_69 (by decide) ?_ ?_
        · refine jj_aload_n hk (pc := 84) dX6_rules_84 0 rfl rfl ?_
          refine jm_g_s hk hK (pc := 85) dX6_rules_85 ?_
          refine jj_iconst hk (pc := 88) (v := (1 : Int32)) dX6_rules_88 (by decide) ?_
          refine jm_ld hk hK (pc := 89) (by decide) dX6_rules_89 (fun v5 => ?_)
          exact jm_retUi hk (pc := 90) dX6_rules_90
        · refine jj_aload_n hk (pc := 72) dX6_rules_72 0 rfl rfl ?_
          refine kc_m_putsBack hk hK (pc := 73)  (fun r h => cc_m_putsBack l G N μ4 r h) dX6_rules_73 ⟨Nat.le_of_ble_eq_true rfl, Nat.le_of_ble_eq_true rfl⟩ (Nat.le_of_ble_eq_true rfl) (fun r6 => ?_)
          refine jj_bipush hk (pc := 76) (v := (-100 : Int32)) dX6_rules_76 (by decide) ?_
          refine jj_aload_n hk (pc := 78) dX6_rules_78 0 rfl rfl ?_
          refine jm_g_from hk hK (pc := 79) dX6_rules_79 ?_
          refine jj_isub hk (pc := 82) dX6_rules_82 ?_
          exact jm_retUi hk (pc := 83) dX6_rules_83
      · refine jj_aload_n hk (pc := 53) dX6_rules_53 0 rfl rfl ?_
        refine kc_m_rule hk hK (pc := 54)  (fun r h => cc_m_rule l G N μ r h) dX6_rules_54 ⟨Nat.le_of_ble_eq_true rfl, Nat.le_of_ble_eq_true rfl⟩ (Nat.le_of_ble_eq_true rfl) (fun r7 => ?_)
        refine jj_goto hk (pc := 57) 35 dX6_rules_57 (by decide) ?_
        refine jj_loc [(0, .ref (gh G))] [0] rfl ?_
        exact ih r7
set_option maxHeartbeats 4000000 in
theorem cc_m_rules (l : Launch) (G : jG) (N : Nat) (μ : MS)  (res : (Int32 × MS)) (hf : m_rules N μ = some res) : jM l yX6_rules (ws_ yX6_rules cX6_rules 1 (some .int)) 56 1210 [.ref (gh G)] (mWo G) (mnx G) (mK G) μ (jU res) (gA G) (gn G) := by
  refine jj_start [(0, .ref (gh G))] (by decide) (Nat.le_of_ble_eq_true rfl) rfl (fun p e R s m args below meth c hk hK hsz => ?_) hf
  have hk : jk p R s m args meth c (gn G) cX6_rules 1 RX6 56 1210 (some .int) := hk
  unfold m_rules
  refine jj_aload_n hk (pc := 0) dX6_rules_0 0 rfl rfl ?_
  refine kc_m_puts hk hK (pc := 1)  (fun r h => cc_m_puts l G N μ r h) dX6_rules_1 ⟨Nat.le_of_ble_eq_true rfl, Nat.le_of_ble_eq_true rfl⟩ (Nat.le_of_ble_eq_true rfl) (fun r1 => ?_)
  refine jj_aload_n hk (pc := 4) dX6_rules_4 0 rfl rfl ?_
  refine jm_g_s hk hK (pc := 5) dX6_rules_5 ?_
  refine jj_iconst hk (pc := 8) (v := (1 : Int32)) dX6_rules_8 (by decide) ?_
  refine jj_iconst hk (pc := 9) (v := (0 : Int32)) dX6_rules_9 (by decide) ?_
  refine jm_st hk hK (pc := 10) (by decide) dX6_rules_10 (fun μ2 => ?_)
  refine jj_aload_n hk (pc := 11) dX6_rules_11 0 rfl rfl ?_
  refine jj_iconst hk (pc := 12) (v := (0 : Int32)) dX6_rules_12 (by decide) ?_
  refine jm_p_coded hk hK (pc := 13) dX6_rules_13 (fun μ3 => ?_)
  refine jj_aload_n hk (pc := 16) dX6_rules_16 0 rfl rfl ?_
  refine jj_iconst hk (pc := 17) (v := (0 : Int32)) dX6_rules_17 (by decide) ?_
  refine jm_p_open hk hK (pc := 18) dX6_rules_18 (fun μ4 => ?_)
  refine jj_aload_n hk (pc := 21) dX6_rules_21 0 rfl rfl ?_
  refine jj_iconst hk (pc := 22) (v := (0 : Int32)) dX6_rules_22 (by decide) ?_
  refine jm_p_to hk hK (pc := 23) dX6_rules_23 (fun μ5 => ?_)
  refine jj_aload_n hk (pc := 26) dX6_rules_26 0 rfl rfl ?_
  refine jj_iconst hk (pc := 27) (v := (0 : Int32)) dX6_rules_27 (by decide) ?_
  refine jm_p_isWrong hk hK (pc := 28) (b := false) dX6_rules_28 (fun μ6 => ?_)
  refine jj_aload_n hk (pc := 31) dX6_rules_31 0 rfl rfl ?_
  refine kc_m_token hk hK (pc := 32)  (fun r h => cc_m_token l G N μ6 r h) dX6_rules_32 ⟨Nat.le_of_ble_eq_true rfl, Nat.le_of_ble_eq_true rfl⟩ (Nat.le_of_ble_eq_true rfl) (fun r7 => ?_)
  refine jj_loc [(0, .ref (gh G))] [0] rfl ?_
  exact wb_m_rules_L35 hk hK N N r7
end
section
variable {p : Program} {l : Launch} {e : Env} {R : Room} {s : State} {m : MethodId} {args : Array Value} {below : List Frame} {meth : Method} {c : Code}
variable {G : jG}
set_option maxHeartbeats 4000000 in
theorem cc_m_isOne (l : Launch) (G : jG)  (μ : MS) (a0 : Int32) (res : Bool) (hf : m_isOne a0 = some res) : jM l yX6_isOne (ws_ yX6_isOne cX6_isOne 1 (some .boolean)) 1 25 [.int a0] (mWo G) (mnx G) (mK G) μ (jRz μ res) (gA G) (gn G) := by
  refine jj_start [(0, .int a0)] (by decide) (Nat.le_of_ble_eq_true rfl) rfl (fun p e R s m args below meth c hk hK hsz => ?_) hf
  have hk : jk p R s m args meth c (gn G) cX6_isOne 1 RX6 1 25 (some .boolean) := hk
  unfold m_isOne
  refine jj_iload_n hk (pc := 0) dX6_isOne_0 0 rfl rfl ?_
  refine jj_i2l hk (pc := 1) dX6_isOne_1 ?_
  refine jj_lconst hk (pc := 2) (v := (0 : Int64)) dX6_isOne_2 (by decide) ?_
  refine jj_ldc2_w hk (pc := 3) q1924 dX6_isOne_3 ?_
  refine kc_m_in hk hK (pc := 6) (a0 := a0.toInt64) (a1 := (0 : Int64)) (a2 := (3 : Int64)) (fun r h => cc_m_in l G μ a0.toInt64 (0 : Int64) (3 : Int64) r h) dX6_isOne_6 ⟨Nat.le_of_ble_eq_true rfl, Nat.le_of_ble_eq_true rfl⟩ (Nat.le_of_ble_eq_true rfl) (fun r1 => ?_)
  exact jm_retRz hk (pc := 9) (b := r1) dX6_isOne_9
end
section
variable {p : Program} {l : Launch} {e : Env} {R : Room} {s : State} {m : MethodId} {args : Array Value} {below : List Frame} {meth : Method} {c : Code}
variable {G : jG}
variable {NX : Nat} {Q : State → Prop} {nL : Nat} {cc : ByteArray} {fr lo frc loc : Nat} {ret : Option FieldType}
variable {pc : Nat} {μ : MS} {lv : List (Nat × Value)} {st : List Value} {ρ : Type} {res : ρ}
theorem kc_m_isOne (hk : jk p R s m args meth c NX cc nL RX6 fr lo ret) (hK : mK G s) {a0 : Int32} {F : Option Bool} {K : Bool → Option ρ} (hM : ∀ r, F = some r → jM l yX6_isOne (ws_ yX6_isOne cX6_isOne 1 (some .boolean)) frc loc [.int a0] (mWo G) (mnx G) (mK G) μ (jRz μ r) (gA G) (gn G)) (hd : decode cc pc = .ok (.invokestatic 397, 3)) (hr : frc + 1 ≤ fr ∧ 8 + (1 + 11) + loc ≤ lo) (hw : (st.map fun v => v.category).sum ≤ 8) (kk : ∀ r, jj p l e R s m args below meth c (gA G) NX Q (mWo G) (mnx G) nL μ (pc + 3) lv (.int (bI r) :: st) (K r = some res)) : jj p l e R s m args below meth c (gA G) NX Q (mWo G) (mnx G) nL μ pc lv (.int a0 :: st) (F.bind K = some res) :=
  jm_SRz (n := 1) hk hK [.int a0] hM (lw_S q2125 q2126 q127 q2127) (by decide +kernel) rfl rfl hd hr hw kk
end
section
variable {p : Program} {l : Launch} {e : Env} {R : Room} {s : State} {m : MethodId} {args : Array Value} {below : List Frame} {meth : Method} {c : Code}
variable {G : jG}
set_option maxHeartbeats 4000000 in
theorem wb_m_sheet_L69 {res : (Int32 × MS)} (hk : jk p R s m args meth c (gn G) cX6_sheet 5 RX6 2 45 (some .int)) (hK : mK G s) (N : Nat) : ∀ (n : Nat) (μ : MS) (x1 : Int32) (x4 : Int32), jj p l e R s m args below meth c (gA G) (gn G) (jZ below args s (gA G) (gn G) (jU res) (mWo G) (mnx G)) (mWo G) (mnx G) 5 μ 69 [(0, .ref (gh G)), (1, .int x1), (4, .int x4)] [] (m_sheet_L69 N n μ x1 x4 = some res) := by
  intro n
  induction n with
  | zero => intro μ x1 x4; exact jj_eq (fun hz => by rw [m_sheet_L69] at hz; exact hz) jj_no
  | succ n ih =>
    intro μ x1 x4
    rw [m_sheet_L69]
    refine jj_iload hk (pc := 69) dX6_sheet_69 2 rfl ?_
    refine jj_bipush hk (pc := 71) (v := (40 : Int32)) dX6_sheet_71 (by decide) ?_
    refine jj_icmp_ge hk (pc := 73) 95 dX6_sheet_73 (by decide) ?_ ?_
    · refine jj_iconst hk (pc := 95) (v := (1 : Int32)) dX6_sheet_95 (by decide) ?_
      exact jm_retUi hk (pc := 96) dX6_sheet_96
    · refine jj_aload_n hk (pc := 76) dX6_sheet_76 0 rfl rfl ?_
      refine jm_g_items hk hK (pc := 77) dX6_sheet_77 ?_
      refine jj_bipush hk (pc := 80) (v := (40 : Int32)) dX6_sheet_80 (by decide) ?_
      refine jj_iload_n hk (pc := 82) dX6_sheet_82 1 rfl rfl ?_
      refine jj_imul hk (pc := 83) dX6_sheet_83 ?_
      refine jj_iload hk (pc := 84) dX6_sheet_84 2 rfl ?_
      refine jj_iadd hk (pc := 86) dX6_sheet_86 ?_
      refine jj_iconst hk (pc := 87) (v := (0 : Int32)) dX6_sheet_87 (by decide) ?_
      refine jm_st hk hK (pc := 88) (by decide) dX6_sheet_88 (fun μ1 => ?_)
      refine jj_iinc hk (pc := 89) [(4, .int (x4 + 1)), (0, .ref (gh G)), (1, .int x1)] dX6_sheet_89 2 rfl rfl (Nat.le_of_ble_eq_true rfl) rfl ?_
      refine jj_goto hk (pc := 92) 69 dX6_sheet_92 (by decide) ?_
      refine jj_loc [(0, .ref (gh G)), (1, .int x1), (4, .int (x4 + 1))] [1, 2, 0] rfl ?_
      exact ih μ1 x1 (x4 + 1)
set_option maxHeartbeats 4000000 in
theorem wb_m_sheet_B33 {res : (Int32 × MS)} (hk : jk p R s m args meth c (gn G) cX6_sheet 5 RX6 2 45 (some .int)) (hK : mK G s) (N : Nat) (μ : MS) (x1 : Int32) (x2 : Int32) (x3 : Int32) : jj p l e R s m args below meth c (gA G) (gn G) (jZ below args s (gA G) (gn G) (jU res) (mWo G) (mnx G)) (mWo G) (mnx G) 5 μ 33 [(0, .ref (gh G)), (1, .int x1), (2, .int x2), (3, .int x3)] [] (m_sheet_B33 N μ x1 x2 x3 = some res) := by
  unfold m_sheet_B33
  refine jj_iload_n hk (pc := 33) dX6_sheet_33 2 rfl rfl ?_
  refine jj_if_lt hk (pc := 34) 44 dX6_sheet_34 (by decide) ?_ ?_
  · refine jj_aload_n hk (pc := 44) dX6_sheet_44 0 rfl rfl ?_
    refine jm_g_sortOf hk hK (pc := 45) dX6_sheet_45 ?_
    refine jj_iload_n hk (pc := 48) dX6_sheet_48 1 rfl rfl ?_
    refine jj_iload_n hk (pc := 49) dX6_sheet_49 2 rfl rfl ?_
    refine jm_st hk hK (pc := 50) (by decide) dX6_sheet_50 (fun μ1 => ?_)
    refine jj_aload_n hk (pc := 51) dX6_sheet_51 0 rfl rfl ?_
    refine jm_g_sizes hk hK (pc := 52) dX6_sheet_52 ?_
    refine jj_iload_n hk (pc := 55) dX6_sheet_55 1 rfl rfl ?_
    refine jj_iload_n hk (pc := 56) dX6_sheet_56 2 rfl rfl ?_
    refine jj_if_ge hk (pc := 57) 64 dX6_sheet_57 (by decide) ?_ ?_
    · refine jj_iload_n hk (pc := 64) dX6_sheet_64 3 rfl rfl ?_
      refine jm_st hk hK (pc := 65) (by decide) dX6_sheet_65 (fun μ2 => ?_)
      refine jj_iconst hk (pc := 66) (v := (0 : Int32)) dX6_sheet_66 (by decide) ?_
      refine jj_istore hk (pc := 67) [(4, .int (0 : Int32)), (0, .ref (gh G)), (1, .int x1), (2, .int x2), (3, .int x3)] dX6_sheet_67 (Nat.le_of_ble_eq_true rfl) rfl ?_
      refine jj_loc [(0, .ref (gh G)), (1, .int x1), (4, .int (0 : Int32))] [1, 2, 0] rfl ?_
      exact wb_m_sheet_L69 hk hK N N μ2 x1 (0 : Int32)
    · refine jj_iconst hk (pc := 60) (v := (0 : Int32)) dX6_sheet_60 (by decide) ?_
      refine jj_goto hk (pc := 61) 65 dX6_sheet_61 (by decide) ?_
      refine jm_st hk hK (pc := 65) (by decide) dX6_sheet_65 (fun μ3 => ?_)
      refine jj_iconst hk (pc := 66) (v := (0 : Int32)) dX6_sheet_66 (by decide) ?_
      refine jj_istore hk (pc := 67) [(4, .int (0 : Int32)), (0, .ref (gh G)), (1, .int x1), (2, .int x2), (3, .int x3)] dX6_sheet_67 (Nat.le_of_ble_eq_true rfl) rfl ?_
      refine jj_loc [(0, .ref (gh G)), (1, .int x1), (4, .int (0 : Int32))] [1, 2, 0] rfl ?_
      exact wb_m_sheet_L69 hk hK N N μ3 x1 (0 : Int32)
  · refine jj_iload_n hk (pc := 37) dX6_sheet_37 3 rfl rfl ?_
    refine jj_if_ge hk (pc := 38) 44 dX6_sheet_38 (by decide) ?_ ?_
    · refine jj_aload_n hk (pc := 44) dX6_sheet_44 0 rfl rfl ?_
      refine jm_g_sortOf hk hK (pc := 45) dX6_sheet_45 ?_
      refine jj_iload_n hk (pc := 48) dX6_sheet_48 1 rfl rfl ?_
      refine jj_iload_n hk (pc := 49) dX6_sheet_49 2 rfl rfl ?_
      refine jm_st hk hK (pc := 50) (by decide) dX6_sheet_50 (fun μ4 => ?_)
      refine jj_aload_n hk (pc := 51) dX6_sheet_51 0 rfl rfl ?_
      refine jm_g_sizes hk hK (pc := 52) dX6_sheet_52 ?_
      refine jj_iload_n hk (pc := 55) dX6_sheet_55 1 rfl rfl ?_
      refine jj_iload_n hk (pc := 56) dX6_sheet_56 2 rfl rfl ?_
      refine jj_if_ge hk (pc := 57) 64 dX6_sheet_57 (by decide) ?_ ?_
      · refine jj_iload_n hk (pc := 64) dX6_sheet_64 3 rfl rfl ?_
        refine jm_st hk hK (pc := 65) (by decide) dX6_sheet_65 (fun μ5 => ?_)
        refine jj_iconst hk (pc := 66) (v := (0 : Int32)) dX6_sheet_66 (by decide) ?_
        refine jj_istore hk (pc := 67) [(4, .int (0 : Int32)), (0, .ref (gh G)), (1, .int x1), (2, .int x2), (3, .int x3)] dX6_sheet_67 (Nat.le_of_ble_eq_true rfl) rfl ?_
        refine jj_loc [(0, .ref (gh G)), (1, .int x1), (4, .int (0 : Int32))] [1, 2, 0] rfl ?_
        exact wb_m_sheet_L69 hk hK N N μ5 x1 (0 : Int32)
      · refine jj_iconst hk (pc := 60) (v := (0 : Int32)) dX6_sheet_60 (by decide) ?_
        refine jj_goto hk (pc := 61) 65 dX6_sheet_61 (by decide) ?_
        refine jm_st hk hK (pc := 65) (by decide) dX6_sheet_65 (fun μ6 => ?_)
        refine jj_iconst hk (pc := 66) (v := (0 : Int32)) dX6_sheet_66 (by decide) ?_
        refine jj_istore hk (pc := 67) [(4, .int (0 : Int32)), (0, .ref (gh G)), (1, .int x1), (2, .int x2), (3, .int x3)] dX6_sheet_67 (Nat.le_of_ble_eq_true rfl) rfl ?_
        refine jj_loc [(0, .ref (gh G)), (1, .int x1), (4, .int (0 : Int32))] [1, 2, 0] rfl ?_
        exact wb_m_sheet_L69 hk hK N N μ6 x1 (0 : Int32)
    · refine jj_bipush hk (pc := 41) (v := (-14 : Int32)) dX6_sheet_41 (by decide) ?_
      exact jm_retUi hk (pc := 43) dX6_sheet_43
set_option maxHeartbeats 4000000 in
theorem cc_m_sheet (l : Launch) (G : jG) (N : Nat) (μ : MS) (a0 : Int32) (a1 : Int32) (a2 : Int32) (res : (Int32 × MS)) (hf : m_sheet N μ a0 a1 a2 = some res) : jM l yX6_sheet (ws_ yX6_sheet cX6_sheet 5 (some .int)) 2 45 [.ref (gh G), .int a0, .int a1, .int a2] (mWo G) (mnx G) (mK G) μ (jU res) (gA G) (gn G) := by
  refine jj_start [(0, .ref (gh G)), (1, .int a0), (2, .int a1), (3, .int a2)] (by decide) (Nat.le_of_ble_eq_true rfl) rfl (fun p e R s m args below meth c hk hK hsz => ?_) hf
  have hk : jk p R s m args meth c (gn G) cX6_sheet 5 RX6 2 45 (some .int) := hk
  unfold m_sheet
  refine jj_iload_n hk (pc := 0) dX6_sheet_0 1 rfl rfl ?_
  refine kc_m_isOne hk hK (pc := 1) (a0 := a0) (fun r h => cc_m_isOne l G μ a0 r h) dX6_sheet_1 ⟨Nat.le_of_ble_eq_true rfl, Nat.le_of_ble_eq_true rfl⟩ (Nat.le_of_ble_eq_true rfl) (fun r1 => ?_)
  refine jj_if_eq_b hk (pc := 4) 31 dX6_sheet_4 (by decide) ?_ ?_
  · refine jj_iconst hk (pc := 31) (v := (-1 : Int32)) dX6_sheet_31 (by decide) ?_
    exact jm_retUi hk (pc := 32) dX6_sheet_32
  · refine jj_iload_n hk (pc := 7) dX6_sheet_7 2 rfl rfl ?_
    refine jj_i2l hk (pc := 8) dX6_sheet_8 ?_
    refine jj_ldc2_w hk (pc := 9) q2128 dX6_sheet_9 ?_
    refine jj_ldc2_w hk (pc := 12) q1803 dX6_sheet_12 ?_
    refine kc_m_in hk hK (pc := 15) (a0 := a1.toInt64) (a1 := (-1 : Int64)) (a2 := (4 : Int64)) (fun r h => cc_m_in l G μ a1.toInt64 (-1 : Int64) (4 : Int64) r h) dX6_sheet_15 ⟨Nat.le_of_ble_eq_true rfl, Nat.le_of_ble_eq_true rfl⟩ (Nat.le_of_ble_eq_true rfl) (fun r2 => ?_)
    refine jj_if_eq_b hk (pc := 18) 31 dX6_sheet_18 (by decide) ?_ ?_
    · refine jj_iconst hk (pc := 31) (v := (-1 : Int32)) dX6_sheet_31 (by decide) ?_
      exact jm_retUi hk (pc := 32) dX6_sheet_32
    · refine jj_iload_n hk (pc := 21) dX6_sheet_21 2 rfl rfl ?_
      refine jj_if_lt hk (pc := 22) 33 dX6_sheet_22 (by decide) ?_ ?_
      · refine jj_loc [(0, .ref (gh G)), (1, .int a0), (2, .int a1), (3, .int a2)] [0, 1, 2, 3] rfl ?_
        exact wb_m_sheet_B33 hk hK N μ a0 a1 a2
      · refine jj_iload_n hk (pc := 25) dX6_sheet_25 3 rfl rfl ?_
        refine jj_bipush hk (pc := 26) (v := (40 : Int32)) dX6_sheet_26 (by decide) ?_
        refine jj_icmp_le hk (pc := 28) 33 dX6_sheet_28 (by decide) ?_ ?_
        · refine jj_loc [(0, .ref (gh G)), (1, .int a0), (2, .int a1), (3, .int a2)] [0, 1, 2, 3] rfl ?_
          exact wb_m_sheet_B33 hk hK N μ a0 a1 a2
        · refine jj_iconst hk (pc := 31) (v := (-1 : Int32)) dX6_sheet_31 (by decide) ?_
          exact jm_retUi hk (pc := 32) dX6_sheet_32
end
section
variable {p : Program} {l : Launch} {e : Env} {R : Room} {s : State} {m : MethodId} {args : Array Value} {below : List Frame} {meth : Method} {c : Code}
variable {G : jG}
set_option maxHeartbeats 4000000 in
theorem cc_m_narrowed (l : Launch) (G : jG)  (μ : MS) (a0 : Int32) (a1 : Int32) (res : Int32) (hf : m_narrowed a0 a1 = some res) : jM l yX6_narrowed (ws_ yX6_narrowed cX6_narrowed 2 (some .int)) 0 0 [.int a0, .int a1] (mWo G) (mnx G) (mK G) μ (jR μ res) (gA G) (gn G) := by
  refine jj_start [(0, .int a0), (1, .int a1)] (by decide) (Nat.le_of_ble_eq_true rfl) rfl (fun p e R s m args below meth c hk hK hsz => ?_) hf
  have hk : jk p R s m args meth c (gn G) cX6_narrowed 2 RX6 0 0 (some .int) := hk
  unfold m_narrowed
  refine jj_iload_n hk (pc := 0) dX6_narrowed_0 0 rfl rfl ?_
  refine jj_if_ne hk (pc := 1) 9 dX6_narrowed_1 (by decide) ?_ ?_
  · refine jj_iload_n hk (pc := 9) dX6_narrowed_9 0 rfl rfl ?_
    refine jj_iconst hk (pc := 10) (v := (1 : Int32)) dX6_narrowed_10 (by decide) ?_
    refine jj_icmp_ne hk (pc := 11) 19 dX6_narrowed_11 (by decide) ?_ ?_
    · refine jj_iload_n hk (pc := 19) dX6_narrowed_19 0 rfl rfl ?_
      refine jj_iconst hk (pc := 20) (v := (4 : Int32)) dX6_narrowed_20 (by decide) ?_
      refine jj_icmp_ne hk (pc := 21) 36 dX6_narrowed_21 (by decide) ?_ ?_
      · refine jj_iload_n hk (pc := 36) dX6_narrowed_36 1 rfl rfl ?_
        exact jm_retRi hk (pc := 37) dX6_narrowed_37
      · refine jj_iload_n hk (pc := 24) dX6_narrowed_24 1 rfl rfl ?_
        refine jj_if_ne hk (pc := 25) 32 dX6_narrowed_25 (by decide) ?_ ?_
        · refine jj_iconst hk (pc := 32) (v := (1 : Int32)) dX6_narrowed_32 (by decide) ?_
          refine jj_goto hk (pc := 33) 37 dX6_narrowed_33 (by decide) ?_
          exact jm_retRi hk (pc := 37) dX6_narrowed_37
        · refine jj_iconst hk (pc := 28) (v := (0 : Int32)) dX6_narrowed_28 (by decide) ?_
          refine jj_goto hk (pc := 29) 37 dX6_narrowed_29 (by decide) ?_
          exact jm_retRi hk (pc := 37) dX6_narrowed_37
    · refine jj_iload_n hk (pc := 14) dX6_narrowed_14 1 rfl rfl ?_
      refine jj_i2s hk (pc := 15) dX6_narrowed_15 ?_
      refine jj_goto hk (pc := 16) 37 dX6_narrowed_16 (by decide) ?_
      exact jm_retRi hk (pc := 37) dX6_narrowed_37
  · refine jj_iload_n hk (pc := 4) dX6_narrowed_4 1 rfl rfl ?_
    refine jj_i2b hk (pc := 5) dX6_narrowed_5 ?_
    refine jj_goto hk (pc := 6) 37 dX6_narrowed_6 (by decide) ?_
    exact jm_retRi hk (pc := 37) dX6_narrowed_37
end
section
variable {p : Program} {l : Launch} {e : Env} {R : Room} {s : State} {m : MethodId} {args : Array Value} {below : List Frame} {meth : Method} {c : Code}
variable {G : jG}
variable {NX : Nat} {Q : State → Prop} {nL : Nat} {cc : ByteArray} {fr lo frc loc : Nat} {ret : Option FieldType}
variable {pc : Nat} {μ : MS} {lv : List (Nat × Value)} {st : List Value} {ρ : Type} {res : ρ}
theorem kc_m_narrowed (hk : jk p R s m args meth c NX cc nL RX6 fr lo ret) (hK : mK G s) {a0 : Int32} {a1 : Int32} {F : Option Int32} {K : Int32 → Option ρ} (hM : ∀ r, F = some r → jM l yX6_narrowed (ws_ yX6_narrowed cX6_narrowed 2 (some .int)) frc loc [.int a0, .int a1] (mWo G) (mnx G) (mK G) μ (jR μ r) (gA G) (gn G)) (hd : decode cc pc = .ok (.invokestatic 402, 3)) (hr : frc + 1 ≤ fr ∧ 8 + (2 + 11) + loc ≤ lo) (hw : (st.map fun v => v.category).sum ≤ 8) (kk : ∀ r, jj p l e R s m args below meth c (gA G) NX Q (mWo G) (mnx G) nL μ (pc + 3) lv (.int r :: st) (K r = some res)) : jj p l e R s m args below meth c (gA G) NX Q (mWo G) (mnx G) nL μ pc lv (.int a1 :: .int a0 :: st) (F.bind K = some res) :=
  jm_SRi (n := 2) hk hK [.int a0, .int a1] hM (lw_S q2133 q2134 q127 q2135) (by decide +kernel) rfl rfl hd hr hw kk
end
section
variable {p : Program} {l : Launch} {e : Env} {R : Room} {s : State} {m : MethodId} {args : Array Value} {below : List Frame} {meth : Method} {c : Code}
variable {G : jG}
set_option maxHeartbeats 4000000 in
theorem cc_m_write (l : Launch) (G : jG)  (μ : MS) (a0 : Int32) (a1 : Int32) (a2 : Int32) (res : (Int32 × MS)) (hf : m_write μ a0 a1 a2 = some res) : jM l yX6_write (ws_ yX6_write cX6_write 4 (some .int)) 2 45 [.ref (gh G), .int a0, .int a1, .int a2] (mWo G) (mnx G) (mK G) μ (jU res) (gA G) (gn G) := by
  refine jj_start [(0, .ref (gh G)), (1, .int a0), (2, .int a1), (3, .int a2)] (by decide) (Nat.le_of_ble_eq_true rfl) rfl (fun p e R s m args below meth c hk hK hsz => ?_) hf
  have hk : jk p R s m args meth c (gn G) cX6_write 4 RX6 2 45 (some .int) := hk
  unfold m_write
  refine jj_iload_n hk (pc := 0) dX6_write_0 1 rfl rfl ?_
  refine kc_m_isOne hk hK (pc := 1) (a0 := a0) (fun r h => cc_m_isOne l G μ a0 r h) dX6_write_1 ⟨Nat.le_of_ble_eq_true rfl, Nat.le_of_ble_eq_true rfl⟩ (Nat.le_of_ble_eq_true rfl) (fun r1 => ?_)
  refine jj_if_ne_b hk (pc := 4) 9 dX6_write_4 (by decide) ?_ ?_
  · refine jj_aload_n hk (pc := 9) dX6_write_9 0 rfl rfl ?_
    refine jm_g_sortOf hk hK (pc := 10) dX6_write_10 ?_
    refine jj_iload_n hk (pc := 13) dX6_write_13 1 rfl rfl ?_
    refine jm_ld hk hK (pc := 14) (by decide) dX6_write_14 (fun v2 => ?_)
    refine jj_if_ge hk (pc := 15) 21 dX6_write_15 (by decide) ?_ ?_
    · refine jj_iload_n hk (pc := 21) dX6_write_21 2 rfl rfl ?_
      refine jj_i2l hk (pc := 22) dX6_write_22 ?_
      refine jj_lconst hk (pc := 23) (v := (0 : Int64)) dX6_write_23 (by decide) ?_
      refine jj_aload_n hk (pc := 24) dX6_write_24 0 rfl rfl ?_
      refine jm_g_sizes hk hK (pc := 25) dX6_write_25 ?_
      refine jj_iload_n hk (pc := 28) dX6_write_28 1 rfl rfl ?_
      refine jm_ld hk hK (pc := 29) (by decide) dX6_write_29 (fun v3 => ?_)
      refine jj_iconst hk (pc := 30) (v := (1 : Int32)) dX6_write_30 (by decide) ?_
      refine jj_isub hk (pc := 31) dX6_write_31 ?_
      refine jj_i2l hk (pc := 32) dX6_write_32 ?_
      refine kc_m_in hk hK (pc := 33) (a0 := a1.toInt64) (a1 := (0 : Int64)) (a2 := ((v3 - (1 : Int32)).toInt64)) (fun r h => cc_m_in l G μ a1.toInt64 (0 : Int64) ((v3 - (1 : Int32)).toInt64) r h) dX6_write_33 ⟨Nat.le_of_ble_eq_true rfl, Nat.le_of_ble_eq_true rfl⟩ (Nat.le_of_ble_eq_true rfl) (fun r4 => ?_)
      refine jj_if_ne_b hk (pc := 36) 42 dX6_write_36 (by decide) ?_ ?_
      · refine jj_aload_n hk (pc := 42) dX6_write_42 0 rfl rfl ?_
        refine jm_g_items hk hK (pc := 43) dX6_write_43 ?_
        refine jj_bipush hk (pc := 46) (v := (40 : Int32)) dX6_write_46 (by decide) ?_
        refine jj_iload_n hk (pc := 48) dX6_write_48 1 rfl rfl ?_
        refine jj_imul hk (pc := 49) dX6_write_49 ?_
        refine jj_iload_n hk (pc := 50) dX6_write_50 2 rfl rfl ?_
        refine jj_iadd hk (pc := 51) dX6_write_51 ?_
        refine jj_aload_n hk (pc := 52) dX6_write_52 0 rfl rfl ?_
        refine jm_g_sortOf hk hK (pc := 53) dX6_write_53 ?_
        refine jj_iload_n hk (pc := 56) dX6_write_56 1 rfl rfl ?_
        refine jm_ld hk hK (pc := 57) (by decide) dX6_write_57 (fun v5 => ?_)
        refine jj_iload_n hk (pc := 58) dX6_write_58 3 rfl rfl ?_
        refine kc_m_narrowed hk hK (pc := 59) (a0 := v5) (a1 := a2) (fun r h => cc_m_narrowed l G μ v5 a2 r h) dX6_write_59 ⟨Nat.le_of_ble_eq_true rfl, Nat.le_of_ble_eq_true rfl⟩ (Nat.le_of_ble_eq_true rfl) (fun r6 => ?_)
        refine jm_st hk hK (pc := 62) (by decide) dX6_write_62 (fun μ7 => ?_)
        refine jj_iconst hk (pc := 63) (v := (1 : Int32)) dX6_write_63 (by decide) ?_
        exact jm_retUi hk (pc := 64) dX6_write_64
      · refine jj_bipush hk (pc := 39) (v := (-12 : Int32)) dX6_write_39 (by decide) ?_
        exact jm_retUi hk (pc := 41) dX6_write_41
    · refine jj_bipush hk (pc := 18) (v := (-11 : Int32)) dX6_write_18 (by decide) ?_
      exact jm_retUi hk (pc := 20) dX6_write_20
  · refine jj_iconst hk (pc := 7) (v := (-1 : Int32)) dX6_write_7 (by decide) ?_
    exact jm_retUi hk (pc := 8) dX6_write_8
end
section
variable {p : Program} {l : Launch} {e : Env} {R : Room} {s : State} {m : MethodId} {args : Array Value} {below : List Frame} {meth : Method} {c : Code}
variable {G : jG}
set_option maxHeartbeats 4000000 in
theorem cc_m_whyNot (l : Launch) (G : jG)  (μ : MS) (a0 : Int32) (a1 : Int32) (res : Int32) (hf : m_whyNot μ a0 a1 = some res) : jM l yX6_whyNot (ws_ yX6_whyNot cX6_whyNot 3 (some .int)) 0 0 [.ref (gh G), .int a0, .int a1] (mWo G) (mnx G) (mK G) μ (jR μ res) (gA G) (gn G) := by
  refine jj_start [(0, .ref (gh G)), (1, .int a0), (2, .int a1)] (by decide) (Nat.le_of_ble_eq_true rfl) rfl (fun p e R s m args below meth c hk hK hsz => ?_) hf
  have hk : jk p R s m args meth c (gn G) cX6_whyNot 3 RX6 0 0 (some .int) := hk
  unfold m_whyNot
  refine jj_aload_n hk (pc := 0) dX6_whyNot_0 0 rfl rfl ?_
  refine jm_g_sortOf hk hK (pc := 1) dX6_whyNot_1 ?_
  refine jj_iload_n hk (pc := 4) dX6_whyNot_4 1 rfl rfl ?_
  refine jm_ld hk hK (pc := 5) (by decide) dX6_whyNot_5 (fun v1 => ?_)
  refine jj_if_ge hk (pc := 6) 14 dX6_whyNot_6 (by decide) ?_ ?_
  · refine jj_aload_n hk (pc := 14) dX6_whyNot_14 0 rfl rfl ?_
    refine jm_g_sortOf hk hK (pc := 15) dX6_whyNot_15 ?_
    refine jj_iload_n hk (pc := 18) dX6_whyNot_18 1 rfl rfl ?_
    refine jm_ld hk hK (pc := 19) (by decide) dX6_whyNot_19 (fun v2 => ?_)
    refine jj_iload_n hk (pc := 20) dX6_whyNot_20 2 rfl rfl ?_
    refine jj_icmp_eq hk (pc := 21) 29 dX6_whyNot_21 (by decide) ?_ ?_
    · refine jj_iconst hk (pc := 29) (v := (0 : Int32)) dX6_whyNot_29 (by decide) ?_
      exact jm_retRi hk (pc := 30) dX6_whyNot_30
    · refine jj_bipush hk (pc := 24) (v := (-13 : Int32)) dX6_whyNot_24 (by decide) ?_
      refine jj_goto hk (pc := 26) 30 dX6_whyNot_26 (by decide) ?_
      exact jm_retRi hk (pc := 30) dX6_whyNot_30
  · refine jj_bipush hk (pc := 9) (v := (-11 : Int32)) dX6_whyNot_9 (by decide) ?_
    refine jj_goto hk (pc := 11) 30 dX6_whyNot_11 (by decide) ?_
    exact jm_retRi hk (pc := 30) dX6_whyNot_30
end
section
variable {p : Program} {l : Launch} {e : Env} {R : Room} {s : State} {m : MethodId} {args : Array Value} {below : List Frame} {meth : Method} {c : Code}
variable {G : jG}
variable {NX : Nat} {Q : State → Prop} {nL : Nat} {cc : ByteArray} {fr lo frc loc : Nat} {ret : Option FieldType}
variable {pc : Nat} {μ : MS} {lv : List (Nat × Value)} {st : List Value} {ρ : Type} {res : ρ}
theorem kc_m_whyNot (hk : jk p R s m args meth c NX cc nL RX6 fr lo ret) (hK : mK G s) {a0 : Int32} {a1 : Int32} {F : Option Int32} {K : Int32 → Option ρ} (hM : ∀ r, F = some r → jM l yX6_whyNot (ws_ yX6_whyNot cX6_whyNot 3 (some .int)) frc loc [.ref (gh G), .int a0, .int a1] (mWo G) (mnx G) (mK G) μ (jR μ r) (gA G) (gn G)) (hd : decode cc pc = .ok (.invokevirtual 405, 3)) (hr : frc + 1 ≤ fr ∧ 8 + (3 + 11) + loc ≤ lo) (hw : (st.map fun v => v.category).sum ≤ 8) (kk : ∀ r, jj p l e R s m args below meth c (gA G) NX Q (mWo G) (mnx G) nL μ (pc + 3) lv (.int r :: st) (K r = some res)) : jj p l e R s m args below meth c (gA G) NX Q (mWo G) (mnx G) nL μ pc lv (.int a1 :: .int a0 :: .ref (gh G) :: st) (F.bind K = some res) :=
  jm_VRi (n := 2) hk hK [.int a0, .int a1] hM (lw_V q2140 q2142 qs105 q127 q2143) (by decide +kernel) rfl rfl hd hr hw kk
end
section
variable {p : Program} {l : Launch} {e : Env} {R : Room} {s : State} {m : MethodId} {args : Array Value} {below : List Frame} {meth : Method} {c : Code}
variable {G : jG}
set_option maxHeartbeats 4000000 in
theorem cc_m_item (l : Launch) (G : jG)  (μ : MS) (a0 : Int32) (a1 : Int32) (a2 : Int32) (res : Int32) (hf : m_item μ a0 a1 a2 = some res) : jM l yX6_item (ws_ yX6_item cX6_item 5 (some .int)) 2 45 [.ref (gh G), .int a0, .int a1, .int a2] (mWo G) (mnx G) (mK G) μ (jR μ res) (gA G) (gn G) := by
  refine jj_start [(0, .ref (gh G)), (1, .int a0), (2, .int a1), (3, .int a2)] (by decide) (Nat.le_of_ble_eq_true rfl) rfl (fun p e R s m args below meth c hk hK hsz => ?_) hf
  have hk : jk p R s m args meth c (gn G) cX6_item 5 RX6 2 45 (some .int) := hk
  unfold m_item
  refine jj_iload_n hk (pc := 0) dX6_item_0 1 rfl rfl ?_
  refine kc_m_isOne hk hK (pc := 1) (a0 := a0) (fun r h => cc_m_isOne l G μ a0 r h) dX6_item_1 ⟨Nat.le_of_ble_eq_true rfl, Nat.le_of_ble_eq_true rfl⟩ (Nat.le_of_ble_eq_true rfl) (fun r1 => ?_)
  refine jj_if_eq_b hk (pc := 4) 19 dX6_item_4 (by decide) ?_ ?_
  · refine jj_iconst hk (pc := 19) (v := (-1 : Int32)) dX6_item_19 (by decide) ?_
    exact jm_retRi hk (pc := 20) dX6_item_20
  · refine jj_iload_n hk (pc := 7) dX6_item_7 2 rfl rfl ?_
    refine jj_i2l hk (pc := 8) dX6_item_8 ?_
    refine jj_lconst hk (pc := 9) (v := (0 : Int64)) dX6_item_9 (by decide) ?_
    refine jj_ldc2_w hk (pc := 10) q1803 dX6_item_10 ?_
    refine kc_m_in hk hK (pc := 13) (a0 := a1.toInt64) (a1 := (0 : Int64)) (a2 := (4 : Int64)) (fun r h => cc_m_in l G μ a1.toInt64 (0 : Int64) (4 : Int64) r h) dX6_item_13 ⟨Nat.le_of_ble_eq_true rfl, Nat.le_of_ble_eq_true rfl⟩ (Nat.le_of_ble_eq_true rfl) (fun r2 => ?_)
    refine jj_if_ne_b hk (pc := 16) 21 dX6_item_16 (by decide) ?_ ?_
    · refine jj_aload_n hk (pc := 21) dX6_item_21 0 rfl rfl ?_
      refine jj_iload_n hk (pc := 22) dX6_item_22 1 rfl rfl ?_
      refine jj_iload_n hk (pc := 23) dX6_item_23 2 rfl rfl ?_
      refine kc_m_whyNot hk hK (pc := 24) (a0 := a0) (a1 := a1) (fun r h => cc_m_whyNot l G μ a0 a1 r h) dX6_item_24 ⟨Nat.le_of_ble_eq_true rfl, Nat.le_of_ble_eq_true rfl⟩ (Nat.le_of_ble_eq_true rfl) (fun r3 => ?_)
      refine jj_istore hk (pc := 27) [(4, .int r3), (0, .ref (gh G)), (1, .int a0), (2, .int a1), (3, .int a2)] dX6_item_27 (Nat.le_of_ble_eq_true rfl) rfl ?_
      refine jj_iload hk (pc := 29) dX6_item_29 0 rfl ?_
      refine jj_if_eq hk (pc := 31) 39 dX6_item_31 (by decide) ?_ ?_
      · refine jj_iload_n hk (pc := 39) dX6_item_39 4 rfl rfl ?_
        refine jj_i2l hk (pc := 40) dX6_item_40 ?_
        refine jj_lconst hk (pc := 41) (v := (0 : Int64)) dX6_item_41 (by decide) ?_
        refine jj_aload_n hk (pc := 42) dX6_item_42 1 rfl rfl ?_
        refine jm_g_sizes hk hK (pc := 43) dX6_item_43 ?_
        refine jj_iload_n hk (pc := 46) dX6_item_46 2 rfl rfl ?_
        refine jm_ld hk hK (pc := 47) (by decide) dX6_item_47 (fun v4 => ?_)
        refine jj_iconst hk (pc := 48) (v := (1 : Int32)) dX6_item_48 (by decide) ?_
        refine jj_isub hk (pc := 49) dX6_item_49 ?_
        refine jj_i2l hk (pc := 50) dX6_item_50 ?_
        refine kc_m_in hk hK (pc := 51) (a0 := a2.toInt64) (a1 := (0 : Int64)) (a2 := ((v4 - (1 : Int32)).toInt64)) (fun r h => cc_m_in l G μ a2.toInt64 (0 : Int64) ((v4 - (1 : Int32)).toInt64) r h) dX6_item_51 ⟨Nat.le_of_ble_eq_true rfl, Nat.le_of_ble_eq_true rfl⟩ (Nat.le_of_ble_eq_true rfl) (fun r5 => ?_)
        refine jj_if_eq_b hk (pc := 54) 71 dX6_item_54 (by decide) ?_ ?_
        · refine jj_bipush hk (pc := 71) (v := (-12 : Int32)) dX6_item_71 (by decide) ?_
          exact jm_retRi hk (pc := 73) dX6_item_73
        · refine jj_aload_n hk (pc := 57) dX6_item_57 1 rfl rfl ?_
          refine jm_g_items hk hK (pc := 58) dX6_item_58 ?_
          refine jj_bipush hk (pc := 61) (v := (40 : Int32)) dX6_item_61 (by decide) ?_
          refine jj_iload_n hk (pc := 63) dX6_item_63 2 rfl rfl ?_
          refine jj_imul hk (pc := 64) dX6_item_64 ?_
          refine jj_iload_n hk (pc := 65) dX6_item_65 4 rfl rfl ?_
          refine jj_iadd hk (pc := 66) dX6_item_66 ?_
          refine jm_ld hk hK (pc := 67) (by decide) dX6_item_67 (fun v6 => ?_)
          refine jj_goto hk (pc := 68) 73 dX6_item_68 (by decide) ?_
          exact jm_retRi hk (pc := 73) dX6_item_73
      · refine jj_iload hk (pc := 34) dX6_item_34 0 rfl ?_
        refine jj_goto hk (pc := 36) 73 dX6_item_36 (by decide) ?_
        exact jm_retRi hk (pc := 73) dX6_item_73
    · refine jj_iconst hk (pc := 19) (v := (-1 : Int32)) dX6_item_19 (by decide) ?_
      exact jm_retRi hk (pc := 20) dX6_item_20
end
section
variable {p : Program} {l : Launch} {e : Env} {R : Room} {s : State} {m : MethodId} {args : Array Value} {below : List Frame} {meth : Method} {c : Code}
variable {G : jG}
set_option maxHeartbeats 4000000 in
theorem cc_m_isItem (l : Launch) (G : jG)  (μ : MS) (a0 : Int32) (a1 : Int64) (res : Bool) (hf : m_isItem μ a0 a1 = some res) : jM l yX6_isItem (ws_ yX6_isItem cX6_isItem 4 (some .boolean)) 1 25 [.ref (gh G), .int a0, .long a1] (mWo G) (mnx G) (mK G) μ (jRz μ res) (gA G) (gn G) := by
  refine jj_start [(0, .ref (gh G)), (1, .int a0), (2, .long a1)] (by decide) (Nat.le_of_ble_eq_true rfl) rfl (fun p e R s m args below meth c hk hK hsz => ?_) hf
  have hk : jk p R s m args meth c (gn G) cX6_isItem 4 RX6 1 25 (some .boolean) := hk
  unfold m_isItem
  refine jj_lload_n hk (pc := 0) dX6_isItem_0 2 rfl rfl ?_
  refine jj_lconst hk (pc := 1) (v := (0 : Int64)) dX6_isItem_1 (by decide) ?_
  refine jj_aload_n hk (pc := 2) dX6_isItem_2 0 rfl rfl ?_
  refine jm_g_sizes hk hK (pc := 3) dX6_isItem_3 ?_
  refine jj_iload_n hk (pc := 6) dX6_isItem_6 1 rfl rfl ?_
  refine jm_ld hk hK (pc := 7) (by decide) dX6_isItem_7 (fun v1 => ?_)
  refine jj_iconst hk (pc := 8) (v := (1 : Int32)) dX6_isItem_8 (by decide) ?_
  refine jj_isub hk (pc := 9) dX6_isItem_9 ?_
  refine jj_i2l hk (pc := 10) dX6_isItem_10 ?_
  refine kc_m_in hk hK (pc := 11) (a0 := a1) (a1 := (0 : Int64)) (a2 := ((v1 - (1 : Int32)).toInt64)) (fun r h => cc_m_in l G μ a1 (0 : Int64) ((v1 - (1 : Int32)).toInt64) r h) dX6_isItem_11 ⟨Nat.le_of_ble_eq_true rfl, Nat.le_of_ble_eq_true rfl⟩ (Nat.le_of_ble_eq_true rfl) (fun r2 => ?_)
  exact jm_retRz hk (pc := 14) (b := r2) dX6_isItem_14
end
section
variable {p : Program} {l : Launch} {e : Env} {R : Room} {s : State} {m : MethodId} {args : Array Value} {below : List Frame} {meth : Method} {c : Code}
variable {G : jG}
variable {NX : Nat} {Q : State → Prop} {nL : Nat} {cc : ByteArray} {fr lo frc loc : Nat} {ret : Option FieldType}
variable {pc : Nat} {μ : MS} {lv : List (Nat × Value)} {st : List Value} {ρ : Type} {res : ρ}
theorem kc_m_isItem (hk : jk p R s m args meth c NX cc nL RX6 fr lo ret) (hK : mK G s) {a0 : Int32} {a1 : Int64} {F : Option Bool} {K : Bool → Option ρ} (hM : ∀ r, F = some r → jM l yX6_isItem (ws_ yX6_isItem cX6_isItem 4 (some .boolean)) frc loc [.ref (gh G), .int a0, .long a1] (mWo G) (mnx G) (mK G) μ (jRz μ r) (gA G) (gn G)) (hd : decode cc pc = .ok (.invokevirtual 413, 3)) (hr : frc + 1 ≤ fr ∧ 8 + (4 + 11) + loc ≤ lo) (hw : (st.map fun v => v.category).sum ≤ 8) (kk : ∀ r, jj p l e R s m args below meth c (gA G) NX Q (mWo G) (mnx G) nL μ (pc + 3) lv (.int (bI r) :: st) (K r = some res)) : jj p l e R s m args below meth c (gA G) NX Q (mWo G) (mnx G) nL μ pc lv (.long a1 :: .int a0 :: .ref (gh G) :: st) (F.bind K = some res) :=
  jm_VRz (n := 2) hk hK [.int a0, .long a1] hM (lw_V q2153 q2155 qs107 q127 q2156) (by decide +kernel) rfl rfl hd hr hw kk
end
section
variable {p : Program} {l : Launch} {e : Env} {R : Room} {s : State} {m : MethodId} {args : Array Value} {below : List Frame} {meth : Method} {c : Code}
variable {G : jG}
set_option maxHeartbeats 4000000 in
theorem cc_m_isSpan (l : Launch) (G : jG)  (μ : MS) (a0 : Int32) (a1 : Int32) (res : Bool) (hf : m_isSpan a0 a1 = some res) : jM l yX6_isSpan (ws_ yX6_isSpan cX6_isSpan 3 (some .boolean)) 2 45 [.ref (gh G), .int a0, .int a1] (mWo G) (mnx G) (mK G) μ (jRz μ res) (gA G) (gn G) := by
  refine jj_start [(0, .ref (gh G)), (1, .int a0), (2, .int a1)] (by decide) (Nat.le_of_ble_eq_true rfl) rfl (fun p e R s m args below meth c hk hK hsz => ?_) hf
  have hk : jk p R s m args meth c (gn G) cX6_isSpan 3 RX6 2 45 (some .boolean) := hk
  unfold m_isSpan
  refine jj_iload_n hk (pc := 0) dX6_isSpan_0 1 rfl rfl ?_
  refine kc_m_isOne hk hK (pc := 1) (a0 := a0) (fun r h => cc_m_isOne l G μ a0 r h) dX6_isSpan_1 ⟨Nat.le_of_ble_eq_true rfl, Nat.le_of_ble_eq_true rfl⟩ (Nat.le_of_ble_eq_true rfl) (fun r1 => ?_)
  refine jj_if_eq_b hk (pc := 4) 23 dX6_isSpan_4 (by decide) ?_ ?_
  · refine jj_iconst hk (pc := 23) (v := (0 : Int32)) dX6_isSpan_23 (by decide) ?_
    exact jm_retRz hk (pc := 24) (b := false) dX6_isSpan_24
  · refine jj_iload_n hk (pc := 7) dX6_isSpan_7 2 rfl rfl ?_
    refine jj_i2l hk (pc := 8) dX6_isSpan_8 ?_
    refine jj_lconst hk (pc := 9) (v := (0 : Int64)) dX6_isSpan_9 (by decide) ?_
    refine jj_ldc2_w hk (pc := 10) q2152 dX6_isSpan_10 ?_
    refine kc_m_in hk hK (pc := 13) (a0 := a1.toInt64) (a1 := (0 : Int64)) (a2 := (20 : Int64)) (fun r h => cc_m_in l G μ a1.toInt64 (0 : Int64) (20 : Int64) r h) dX6_isSpan_13 ⟨Nat.le_of_ble_eq_true rfl, Nat.le_of_ble_eq_true rfl⟩ (Nat.le_of_ble_eq_true rfl) (fun r2 => ?_)
    refine jj_if_eq_b hk (pc := 16) 23 dX6_isSpan_16 (by decide) ?_ ?_
    · refine jj_iconst hk (pc := 23) (v := (0 : Int32)) dX6_isSpan_23 (by decide) ?_
      exact jm_retRz hk (pc := 24) (b := false) dX6_isSpan_24
    · refine jj_iconst hk (pc := 19) (v := (1 : Int32)) dX6_isSpan_19 (by decide) ?_
      refine jj_goto hk (pc := 20) 24 dX6_isSpan_20 (by decide) ?_
      exact jm_retRz hk (pc := 24) (b := true) dX6_isSpan_24
end
section
variable {p : Program} {l : Launch} {e : Env} {R : Room} {s : State} {m : MethodId} {args : Array Value} {below : List Frame} {meth : Method} {c : Code}
variable {G : jG}
variable {NX : Nat} {Q : State → Prop} {nL : Nat} {cc : ByteArray} {fr lo frc loc : Nat} {ret : Option FieldType}
variable {pc : Nat} {μ : MS} {lv : List (Nat × Value)} {st : List Value} {ρ : Type} {res : ρ}
theorem kc_m_isSpan (hk : jk p R s m args meth c NX cc nL RX6 fr lo ret) (hK : mK G s) {a0 : Int32} {a1 : Int32} {F : Option Bool} {K : Bool → Option ρ} (hM : ∀ r, F = some r → jM l yX6_isSpan (ws_ yX6_isSpan cX6_isSpan 3 (some .boolean)) frc loc [.ref (gh G), .int a0, .int a1] (mWo G) (mnx G) (mK G) μ (jRz μ r) (gA G) (gn G)) (hd : decode cc pc = .ok (.invokevirtual 410, 3)) (hr : frc + 1 ≤ fr ∧ 8 + (3 + 11) + loc ≤ lo) (hw : (st.map fun v => v.category).sum ≤ 8) (kk : ∀ r, jj p l e R s m args below meth c (gA G) NX Q (mWo G) (mnx G) nL μ (pc + 3) lv (.int (bI r) :: st) (K r = some res)) : jj p l e R s m args below meth c (gA G) NX Q (mWo G) (mnx G) nL μ pc lv (.int a1 :: .int a0 :: .ref (gh G) :: st) (F.bind K = some res) :=
  jm_VRz (n := 2) hk hK [.int a0, .int a1] hM (lw_V q2148 q2150 qs106 q127 q2151) (by decide +kernel) rfl rfl hd hr hw kk
end
section
variable {p : Program} {l : Launch} {e : Env} {R : Room} {s : State} {m : MethodId} {args : Array Value} {below : List Frame} {meth : Method} {c : Code}
variable {G : jG}
set_option maxHeartbeats 4000000 in
theorem wb_m_goAll_L33 {res : (Int32 × MS)} (hk : jk p R s m args meth c (gn G) cX6_goAll 8 RX6 7 168 (some .int)) (hK : mK G s) (N : Nat) : ∀ (n : Nat) (μ : MS) (x1 : Int32) (x2 : Int32) (x3 : Int32) (x5 : Int32) (x6 : Int32), jj p l e R s m args below meth c (gA G) (gn G) (jZ below args s (gA G) (gn G) (jU res) (mWo G) (mnx G)) (mWo G) (mnx G) 8 μ 33 [(0, .ref (gh G)), (1, .int x1), (2, .int x2), (3, .int x3), (5, .int x5), (6, .int x6)] [] (m_goAll_L33 N n μ x1 x2 x3 x5 x6 = some res) := by
  intro n
  induction n with
  | zero => intro μ x1 x2 x3 x5 x6; exact jj_eq (fun hz => by rw [m_goAll_L33] at hz; exact hz) jj_no
  | succ n ih =>
    intro μ x1 x2 x3 x5 x6
    rw [m_goAll_L33]
    refine jj_iload hk (pc := 33) dX6_goAll_33 5 rfl ?_
    refine jj_iload_n hk (pc := 35) dX6_goAll_35 3 rfl rfl ?_
    refine jj_icmp_ge hk (pc := 36) 102 dX6_goAll_36 (by decide) ?_ ?_
    · refine jj_iload hk (pc := 102) dX6_goAll_102 4 rfl ?_
      exact jm_retUi hk (pc := 104) dX6_goAll_104
    · refine jj_aload_n hk (pc := 39) dX6_goAll_39 0 rfl rfl ?_
      refine jj_iload_n hk (pc := 40) dX6_goAll_40 1 rfl rfl ?_
      refine jj_iload_n hk (pc := 41) dX6_goAll_41 2 rfl rfl ?_
      refine jj_i2l hk (pc := 42) dX6_goAll_42 ?_
      refine jj_iload hk (pc := 43) dX6_goAll_43 5 rfl ?_
      refine jj_i2l hk (pc := 45) dX6_goAll_45 ?_
      refine jj_ladd hk (pc := 46) dX6_goAll_46 ?_
      refine kc_m_isItem hk hK (pc := 47) (a0 := x1) (a1 := (x2.toInt64 + x6.toInt64)) (fun r h => cc_m_isItem l G μ x1 (x2.toInt64 + x6.toInt64) r h) dX6_goAll_47 ⟨Nat.le_of_ble_eq_true rfl, Nat.le_of_ble_eq_true rfl⟩ (Nat.le_of_ble_eq_true rfl) (fun r1 => ?_)
      refine jj_if_ne_b hk (pc := 50) 56 dX6_goAll_50 (by decide) ?_ ?_
      · refine jj_aload_n hk (pc := 56) dX6_goAll_56 0 rfl rfl ?_
        refine jm_g_items hk hK (pc := 57) dX6_goAll_57 ?_
        refine jj_bipush hk (pc := 60) (v := (40 : Int32)) dX6_goAll_60 (by decide) ?_
        refine jj_iload_n hk (pc := 62) dX6_goAll_62 1 rfl rfl ?_
        refine jj_imul hk (pc := 63) dX6_goAll_63 ?_
        refine jj_iload_n hk (pc := 64) dX6_goAll_64 2 rfl rfl ?_
        refine jj_iadd hk (pc := 65) dX6_goAll_65 ?_
        refine jj_iload hk (pc := 66) dX6_goAll_66 5 rfl ?_
        refine jj_iadd hk (pc := 68) dX6_goAll_68 ?_
        refine jm_ld hk hK (pc := 69) (by decide) dX6_goAll_69 (fun v2 => ?_)
        refine jj_istore hk (pc := 70) [(7, .int v2), (0, .ref (gh G)), (1, .int x1), (2, .int x2), (3, .int x3), (5, .int x5), (6, .int x6)] dX6_goAll_70 (Nat.le_of_ble_eq_true rfl) rfl ?_
        refine jj_iload hk (pc := 72) dX6_goAll_72 5 rfl ?_
        refine jj_aload_n hk (pc := 74) dX6_goAll_74 1 rfl rfl ?_
        refine jj_iload hk (pc := 75) dX6_goAll_75 0 rfl ?_
        refine kc_m_isAct hk hK (pc := 77) (a0 := v2) (fun r h => cc_m_isAct l G μ v2 r h) dX6_goAll_77 ⟨Nat.le_of_ble_eq_true rfl, Nat.le_of_ble_eq_true rfl⟩ (Nat.le_of_ble_eq_true rfl) (fun r3 => ?_)
        refine jj_if_eq_b hk (pc := 80) 92 dX6_goAll_80 (by decide) ?_ ?_
        · refine jj_iconst hk (pc := 92) (v := (0 : Int32)) dX6_goAll_92 (by decide) ?_
          refine jj_iadd hk (pc := 93) dX6_goAll_93 ?_
          refine jj_istore hk (pc := 94) [(5, .int (x5 + (0 : Int32))), (7, .int v2), (0, .ref (gh G)), (1, .int x1), (2, .int x2), (3, .int x3), (6, .int x6)] dX6_goAll_94 (Nat.le_of_ble_eq_true rfl) rfl ?_
          refine jj_iinc hk (pc := 96) [(6, .int (x6 + 1)), (5, .int (x5 + (0 : Int32))), (7, .int v2), (0, .ref (gh G)), (1, .int x1), (2, .int x2), (3, .int x3)] dX6_goAll_96 6 rfl rfl (Nat.le_of_ble_eq_true rfl) rfl ?_
          refine jj_goto hk (pc := 99) 33 dX6_goAll_99 (by decide) ?_
          refine jj_loc [(0, .ref (gh G)), (1, .int x1), (2, .int x2), (3, .int x3), (5, .int (x5 + (0 : Int32))), (6, .int (x6 + 1))] [3, 4, 5, 6, 1, 0] rfl ?_
          exact ih μ x1 x2 x3 (x5 + (0 : Int32)) (x6 + 1)
        · refine jj_aload_n hk (pc := 83) dX6_goAll_83 1 rfl rfl ?_
          refine jj_iload hk (pc := 84) dX6_goAll_84 0 rfl ?_
          refine kc_m_goes hk hK (pc := 86) (a0 := v2) (fun r h => cc_m_goes l G N μ v2 r h) dX6_goAll_86 ⟨Nat.le_of_ble_eq_true rfl, Nat.le_of_ble_eq_true rfl⟩ (Nat.le_of_ble_eq_true rfl) (fun r4 => ?_)
          refine jj_goto hk (pc := 89) 93 dX6_goAll_89 (by decide) ?_
          refine jj_iadd hk (pc := 93) dX6_goAll_93 ?_
          refine jj_istore hk (pc := 94) [(5, .int (x5 + r4.1)), (7, .int v2), (0, .ref (gh G)), (1, .int x1), (2, .int x2), (3, .int x3), (6, .int x6)] dX6_goAll_94 (Nat.le_of_ble_eq_true rfl) rfl ?_
          refine jj_iinc hk (pc := 96) [(6, .int (x6 + 1)), (5, .int (x5 + r4.1)), (7, .int v2), (0, .ref (gh G)), (1, .int x1), (2, .int x2), (3, .int x3)] dX6_goAll_96 6 rfl rfl (Nat.le_of_ble_eq_true rfl) rfl ?_
          refine jj_goto hk (pc := 99) 33 dX6_goAll_99 (by decide) ?_
          refine jj_loc [(0, .ref (gh G)), (1, .int x1), (2, .int x2), (3, .int x3), (5, .int (x5 + r4.1)), (6, .int (x6 + 1))] [3, 4, 5, 6, 1, 0] rfl ?_
          exact ih r4.2 x1 x2 x3 (x5 + r4.1) (x6 + 1)
      · refine jj_bipush hk (pc := 53) (v := (-12 : Int32)) dX6_goAll_53 (by decide) ?_
        exact jm_retUi hk (pc := 55) dX6_goAll_55
set_option maxHeartbeats 4000000 in
theorem cc_m_goAll (l : Launch) (G : jG) (N : Nat) (μ : MS) (a0 : Int32) (a1 : Int32) (a2 : Int32) (res : (Int32 × MS)) (hf : m_goAll N μ a0 a1 a2 = some res) : jM l yX6_goAll (ws_ yX6_goAll cX6_goAll 8 (some .int)) 7 168 [.ref (gh G), .int a0, .int a1, .int a2] (mWo G) (mnx G) (mK G) μ (jU res) (gA G) (gn G) := by
  refine jj_start [(0, .ref (gh G)), (1, .int a0), (2, .int a1), (3, .int a2)] (by decide) (Nat.le_of_ble_eq_true rfl) rfl (fun p e R s m args below meth c hk hK hsz => ?_) hf
  have hk : jk p R s m args meth c (gn G) cX6_goAll 8 RX6 7 168 (some .int) := hk
  unfold m_goAll
  refine jj_aload_n hk (pc := 0) dX6_goAll_0 0 rfl rfl ?_
  refine jj_iload_n hk (pc := 1) dX6_goAll_1 1 rfl rfl ?_
  refine jj_iload_n hk (pc := 2) dX6_goAll_2 3 rfl rfl ?_
  refine kc_m_isSpan hk hK (pc := 3) (a0 := a0) (a1 := a2) (fun r h => cc_m_isSpan l G μ a0 a2 r h) dX6_goAll_3 ⟨Nat.le_of_ble_eq_true rfl, Nat.le_of_ble_eq_true rfl⟩ (Nat.le_of_ble_eq_true rfl) (fun r1 => ?_)
  refine jj_if_ne_b hk (pc := 6) 11 dX6_goAll_6 (by decide) ?_ ?_
  · refine jj_aload_n hk (pc := 11) dX6_goAll_11 0 rfl rfl ?_
    refine jj_iload_n hk (pc := 12) dX6_goAll_12 1 rfl rfl ?_
    refine jj_iconst hk (pc := 13) (v := (0 : Int32)) dX6_goAll_13 (by decide) ?_
    refine kc_m_whyNot hk hK (pc := 14) (a0 := a0) (a1 := (0 : Int32)) (fun r h => cc_m_whyNot l G μ a0 (0 : Int32) r h) dX6_goAll_14 ⟨Nat.le_of_ble_eq_true rfl, Nat.le_of_ble_eq_true rfl⟩ (Nat.le_of_ble_eq_true rfl) (fun r2 => ?_)
    refine jj_istore hk (pc := 17) [(4, .int r2), (0, .ref (gh G)), (1, .int a0), (2, .int a1), (3, .int a2)] dX6_goAll_17 (Nat.le_of_ble_eq_true rfl) rfl ?_
    refine jj_iload hk (pc := 19) dX6_goAll_19 0 rfl ?_
    refine jj_if_eq hk (pc := 21) 27 dX6_goAll_21 (by decide) ?_ ?_
    · refine jj_iconst hk (pc := 27) (v := (0 : Int32)) dX6_goAll_27 (by decide) ?_
      refine jj_istore hk (pc := 28) [(5, .int (0 : Int32)), (4, .int r2), (0, .ref (gh G)), (1, .int a0), (2, .int a1), (3, .int a2)] dX6_goAll_28 (Nat.le_of_ble_eq_true rfl) rfl ?_
      refine jj_iconst hk (pc := 30) (v := (0 : Int32)) dX6_goAll_30 (by decide) ?_
      refine jj_istore hk (pc := 31) [(6, .int (0 : Int32)), (5, .int (0 : Int32)), (4, .int r2), (0, .ref (gh G)), (1, .int a0), (2, .int a1), (3, .int a2)] dX6_goAll_31 (Nat.le_of_ble_eq_true rfl) rfl ?_
      refine jj_loc [(0, .ref (gh G)), (1, .int a0), (2, .int a1), (3, .int a2), (5, .int (0 : Int32)), (6, .int (0 : Int32))] [3, 4, 5, 6, 1, 0] rfl ?_
      exact wb_m_goAll_L33 hk hK N N μ a0 a1 a2 (0 : Int32) (0 : Int32)
    · refine jj_iload hk (pc := 24) dX6_goAll_24 0 rfl ?_
      exact jm_retUi hk (pc := 26) dX6_goAll_26
  · refine jj_iconst hk (pc := 9) (v := (-1 : Int32)) dX6_goAll_9 (by decide) ?_
    exact jm_retUi hk (pc := 10) dX6_goAll_10
end
section
variable {p : Program} {l : Launch} {e : Env} {R : Room} {s : State} {m : MethodId} {args : Array Value} {below : List Frame} {meth : Method} {c : Code}
variable {G : jG}
set_option maxHeartbeats 4000000 in
theorem wb_m_wouldBe_L37 {res : (Int32 × MS)} (hk : jk p R s m args meth c (gn G) cX6_wouldBe 8 RX6 7 168 (some .int)) (hK : mK G s) (N : Nat) : ∀ (n : Nat) (μ : MS) (x1 : Int32) (x2 : Int32) (x3 : Int32) (x4 : Int32) (x5 : Int32) (x6 : Int32), jj p l e R s m args below meth c (gA G) (gn G) (jZ below args s (gA G) (gn G) (jU res) (mWo G) (mnx G)) (mWo G) (mnx G) 8 μ 37 [(0, .ref (gh G)), (1, .int x1), (2, .int x2), (3, .int x3), (4, .int x4), (5, .int x5), (6, .int x6)] [] (m_wouldBe_L37 N n μ x1 x2 x3 x4 x5 x6 = some res) := by
  intro n
  induction n with
  | zero => intro μ x1 x2 x3 x4 x5 x6; exact jj_eq (fun hz => by rw [m_wouldBe_L37] at hz; exact hz) jj_no
  | succ n ih =>
    intro μ x1 x2 x3 x4 x5 x6
    rw [m_wouldBe_L37]
    refine jj_iload hk (pc := 37) dX6_wouldBe_37 6 rfl ?_
    refine jj_iload_n hk (pc := 39) dX6_wouldBe_39 3 rfl rfl ?_
    refine jj_icmp_ge hk (pc := 40) 138 dX6_wouldBe_40 (by decide) ?_ ?_
    · refine jj_aload_n hk (pc := 138) dX6_wouldBe_138 0 rfl rfl ?_
      refine kc_m_putsBack hk hK (pc := 139)  (fun r h => cc_m_putsBack l G N μ r h) dX6_wouldBe_139 ⟨Nat.le_of_ble_eq_true rfl, Nat.le_of_ble_eq_true rfl⟩ (Nat.le_of_ble_eq_true rfl) (fun r1 => ?_)
      refine jj_iload hk (pc := 142) dX6_wouldBe_142 4 rfl ?_
      refine jj_if_eq hk (pc := 144) 152 dX6_wouldBe_144 (by decide) ?_ ?_
      · refine jj_iload hk (pc := 152) dX6_wouldBe_152 5 rfl ?_
        exact jm_retUi hk (pc := 154) dX6_wouldBe_154
      · refine jj_iload hk (pc := 147) dX6_wouldBe_147 4 rfl ?_
        refine jj_goto hk (pc := 149) 154 dX6_wouldBe_149 (by decide) ?_
        exact jm_retUi hk (pc := 154) dX6_wouldBe_154
    · refine jj_iload hk (pc := 43) dX6_wouldBe_43 4 rfl ?_
      refine jj_if_ne hk (pc := 45) 138 dX6_wouldBe_45 (by decide) ?_ ?_
      · refine jj_aload_n hk (pc := 138) dX6_wouldBe_138 0 rfl rfl ?_
        refine kc_m_putsBack hk hK (pc := 139)  (fun r h => cc_m_putsBack l G N μ r h) dX6_wouldBe_139 ⟨Nat.le_of_ble_eq_true rfl, Nat.le_of_ble_eq_true rfl⟩ (Nat.le_of_ble_eq_true rfl) (fun r2 => ?_)
        refine jj_iload hk (pc := 142) dX6_wouldBe_142 4 rfl ?_
        refine jj_if_eq hk (pc := 144) 152 dX6_wouldBe_144 (by decide) ?_ ?_
        · refine jj_iload hk (pc := 152) dX6_wouldBe_152 5 rfl ?_
          exact jm_retUi hk (pc := 154) dX6_wouldBe_154
        · refine jj_iload hk (pc := 147) dX6_wouldBe_147 4 rfl ?_
          refine jj_goto hk (pc := 149) 154 dX6_wouldBe_149 (by decide) ?_
          exact jm_retUi hk (pc := 154) dX6_wouldBe_154
      · refine jj_aload_n hk (pc := 48) dX6_wouldBe_48 0 rfl rfl ?_
        refine jj_iload_n hk (pc := 49) dX6_wouldBe_49 1 rfl rfl ?_
        refine jj_iload_n hk (pc := 50) dX6_wouldBe_50 2 rfl rfl ?_
        refine jj_i2l hk (pc := 51) dX6_wouldBe_51 ?_
        refine jj_iload hk (pc := 52) dX6_wouldBe_52 6 rfl ?_
        refine jj_i2l hk (pc := 54) dX6_wouldBe_54 ?_
        refine jj_ladd hk (pc := 55) dX6_wouldBe_55 ?_
        refine kc_m_isItem hk hK (pc := 56) (a0 := x1) (a1 := (x2.toInt64 + x6.toInt64)) (fun r h => cc_m_isItem l G μ x1 (x2.toInt64 + x6.toInt64) r h) dX6_wouldBe_56 ⟨Nat.le_of_ble_eq_true rfl, Nat.le_of_ble_eq_true rfl⟩ (Nat.le_of_ble_eq_true rfl) (fun r3 => ?_)
        refine jj_istore hk (pc := 59) [(7, .int (bI r3)), (0, .ref (gh G)), (1, .int x1), (2, .int x2), (3, .int x3), (4, .int x4), (5, .int x5), (6, .int x6)] dX6_wouldBe_59 (Nat.le_of_ble_eq_true rfl) rfl ?_
        refine jj_iload hk (pc := 61) dX6_wouldBe_61 0 rfl ?_
        refine jj_if_ne_b hk (pc := 63) 71 dX6_wouldBe_63 (by decide) ?_ ?_
        · refine jj_aload_n hk (pc := 71) dX6_wouldBe_71 1 rfl rfl ?_
          refine jj_aload_n hk (pc := 72) dX6_wouldBe_72 1 rfl rfl ?_
          refine jm_g_items hk hK (pc := 73) dX6_wouldBe_73 ?_
          refine jj_bipush hk (pc := 76) (v := (40 : Int32)) dX6_wouldBe_76 (by decide) ?_
          refine jj_iload_n hk (pc := 78) dX6_wouldBe_78 2 rfl rfl ?_
          refine jj_imul hk (pc := 79) dX6_wouldBe_79 ?_
          refine jj_iload_n hk (pc := 80) dX6_wouldBe_80 3 rfl rfl ?_
          refine jj_iadd hk (pc := 81) dX6_wouldBe_81 ?_
          refine jj_iload hk (pc := 82) dX6_wouldBe_82 7 rfl ?_
          refine jj_iadd hk (pc := 84) dX6_wouldBe_84 ?_
          refine jm_ld hk hK (pc := 85) (by decide) dX6_wouldBe_85 (fun v4 => ?_)
          refine kc_m_isAct hk hK (pc := 86) (a0 := v4) (fun r h => cc_m_isAct l G μ v4 r h) dX6_wouldBe_86 ⟨Nat.le_of_ble_eq_true rfl, Nat.le_of_ble_eq_true rfl⟩ (Nat.le_of_ble_eq_true rfl) (fun r5 => ?_)
          refine jj_if_ne_b hk (pc := 89) 97 dX6_wouldBe_89 (by decide) ?_ ?_
          · refine jj_iconst hk (pc := 97) (v := (0 : Int32)) dX6_wouldBe_97 (by decide) ?_
            refine jj_istore hk (pc := 98) [(4, .int (0 : Int32)), (7, .int (bI r3)), (0, .ref (gh G)), (1, .int x1), (2, .int x2), (3, .int x3), (5, .int x5), (6, .int x6)] dX6_wouldBe_98 (Nat.le_of_ble_eq_true rfl) rfl ?_
            refine jj_iload hk (pc := 100) dX6_wouldBe_100 6 rfl ?_
            refine jj_iload hk (pc := 102) dX6_wouldBe_102 0 rfl ?_
            refine jj_if_ne_F hk (pc := 104) dX6_wouldBe_104 128 (by decide) (by decide) ?_
            refine jj_aload_n hk (pc := 107) dX6_wouldBe_107 2 rfl rfl ?_
            refine jj_aload_n hk (pc := 108) dX6_wouldBe_108 2 rfl rfl ?_
            refine jm_g_items hk hK (pc := 109) dX6_wouldBe_109 ?_
            refine jj_bipush hk (pc := 112) (v := (40 : Int32)) dX6_wouldBe_112 (by decide) ?_
            refine jj_iload_n hk (pc := 114) dX6_wouldBe_114 3 rfl rfl ?_
            refine jj_imul hk (pc := 115) dX6_wouldBe_115 ?_
            refine jj_iload_n hk (pc := 116) dX6_wouldBe_116 4 rfl rfl ?_
            refine jj_iadd hk (pc := 117) dX6_wouldBe_117 ?_
            refine jj_iload hk (pc := 118) dX6_wouldBe_118 7 rfl ?_
            refine jj_iadd hk (pc := 120) dX6_wouldBe_120 ?_
            refine jm_ld hk hK (pc := 121) (by decide) dX6_wouldBe_121 (fun v6 => ?_)
            refine kc_m_goes hk hK (pc := 122) (a0 := v6) (fun r h => cc_m_goes l G N μ v6 r h) dX6_wouldBe_122 ⟨Nat.le_of_ble_eq_true rfl, Nat.le_of_ble_eq_true rfl⟩ (Nat.le_of_ble_eq_true rfl) (fun r7 => ?_)
            refine jj_goto hk (pc := 125) 129 dX6_wouldBe_125 (by decide) ?_
            refine jj_iadd hk (pc := 129) dX6_wouldBe_129 ?_
            refine jj_istore hk (pc := 130) [(5, .int (x5 + r7.1)), (4, .int (0 : Int32)), (7, .int (bI r3)), (0, .ref (gh G)), (1, .int x1), (2, .int x2), (3, .int x3), (6, .int x6)] dX6_wouldBe_130 (Nat.le_of_ble_eq_true rfl) rfl ?_
            refine jj_iinc hk (pc := 132) [(6, .int (x6 + 1)), (5, .int (x5 + r7.1)), (4, .int (0 : Int32)), (7, .int (bI r3)), (0, .ref (gh G)), (1, .int x1), (2, .int x2), (3, .int x3)] dX6_wouldBe_132 7 rfl rfl (Nat.le_of_ble_eq_true rfl) rfl ?_
            refine jj_goto hk (pc := 135) 37 dX6_wouldBe_135 (by decide) ?_
            refine jj_loc [(0, .ref (gh G)), (1, .int x1), (2, .int x2), (3, .int x3), (4, .int (0 : Int32)), (5, .int (x5 + r7.1)), (6, .int (x6 + 1))] [4, 5, 6, 7, 2, 1, 0] rfl ?_
            exact ih r7.2 x1 x2 x3 (0 : Int32) (x5 + r7.1) (x6 + 1)
          · refine jj_bipush hk (pc := 92) (v := (-4 : Int32)) dX6_wouldBe_92 (by decide) ?_
            refine jj_goto hk (pc := 94) 98 dX6_wouldBe_94 (by decide) ?_
            refine jj_istore hk (pc := 98) [(4, .int (-4 : Int32)), (7, .int (bI r3)), (0, .ref (gh G)), (1, .int x1), (2, .int x2), (3, .int x3), (5, .int x5), (6, .int x6)] dX6_wouldBe_98 (Nat.le_of_ble_eq_true rfl) rfl ?_
            refine jj_iload hk (pc := 100) dX6_wouldBe_100 6 rfl ?_
            refine jj_iload hk (pc := 102) dX6_wouldBe_102 0 rfl ?_
            refine jj_if_ne_T hk (pc := 104) 128 dX6_wouldBe_104 (by decide) (by decide) ?_
            refine jj_iconst hk (pc := 128) (v := (0 : Int32)) dX6_wouldBe_128 (by decide) ?_
            refine jj_iadd hk (pc := 129) dX6_wouldBe_129 ?_
            refine jj_istore hk (pc := 130) [(5, .int (x5 + (0 : Int32))), (4, .int (-4 : Int32)), (7, .int (bI r3)), (0, .ref (gh G)), (1, .int x1), (2, .int x2), (3, .int x3), (6, .int x6)] dX6_wouldBe_130 (Nat.le_of_ble_eq_true rfl) rfl ?_
            refine jj_iinc hk (pc := 132) [(6, .int (x6 + 1)), (5, .int (x5 + (0 : Int32))), (4, .int (-4 : Int32)), (7, .int (bI r3)), (0, .ref (gh G)), (1, .int x1), (2, .int x2), (3, .int x3)] dX6_wouldBe_132 7 rfl rfl (Nat.le_of_ble_eq_true rfl) rfl ?_
            refine jj_goto hk (pc := 135) 37 dX6_wouldBe_135 (by decide) ?_
            refine jj_loc [(0, .ref (gh G)), (1, .int x1), (2, .int x2), (3, .int x3), (4, .int (-4 : Int32)), (5, .int (x5 + (0 : Int32))), (6, .int (x6 + 1))] [4, 5, 6, 7, 2, 1, 0] rfl ?_
            exact ih μ x1 x2 x3 (-4 : Int32) (x5 + (0 : Int32)) (x6 + 1)
        · refine jj_bipush hk (pc := 66) (v := (-12 : Int32)) dX6_wouldBe_66 (by decide) ?_
          refine jj_goto hk (pc := 68) 98 dX6_wouldBe_68 (by decide) ?_
          refine jj_istore hk (pc := 98) [(4, .int (-12 : Int32)), (7, .int (bI r3)), (0, .ref (gh G)), (1, .int x1), (2, .int x2), (3, .int x3), (5, .int x5), (6, .int x6)] dX6_wouldBe_98 (Nat.le_of_ble_eq_true rfl) rfl ?_
          refine jj_iload hk (pc := 100) dX6_wouldBe_100 6 rfl ?_
          refine jj_iload hk (pc := 102) dX6_wouldBe_102 0 rfl ?_
          refine jj_if_ne_T hk (pc := 104) 128 dX6_wouldBe_104 (by decide) (by decide) ?_
          refine jj_iconst hk (pc := 128) (v := (0 : Int32)) dX6_wouldBe_128 (by decide) ?_
          refine jj_iadd hk (pc := 129) dX6_wouldBe_129 ?_
          refine jj_istore hk (pc := 130) [(5, .int (x5 + (0 : Int32))), (4, .int (-12 : Int32)), (7, .int (bI r3)), (0, .ref (gh G)), (1, .int x1), (2, .int x2), (3, .int x3), (6, .int x6)] dX6_wouldBe_130 (Nat.le_of_ble_eq_true rfl) rfl ?_
          refine jj_iinc hk (pc := 132) [(6, .int (x6 + 1)), (5, .int (x5 + (0 : Int32))), (4, .int (-12 : Int32)), (7, .int (bI r3)), (0, .ref (gh G)), (1, .int x1), (2, .int x2), (3, .int x3)] dX6_wouldBe_132 7 rfl rfl (Nat.le_of_ble_eq_true rfl) rfl ?_
          refine jj_goto hk (pc := 135) 37 dX6_wouldBe_135 (by decide) ?_
          refine jj_loc [(0, .ref (gh G)), (1, .int x1), (2, .int x2), (3, .int x3), (4, .int (-12 : Int32)), (5, .int (x5 + (0 : Int32))), (6, .int (x6 + 1))] [4, 5, 6, 7, 2, 1, 0] rfl ?_
          exact ih μ x1 x2 x3 (-12 : Int32) (x5 + (0 : Int32)) (x6 + 1)
set_option maxHeartbeats 4000000 in
theorem cc_m_wouldBe (l : Launch) (G : jG) (N : Nat) (μ : MS) (a0 : Int32) (a1 : Int32) (a2 : Int32) (res : (Int32 × MS)) (hf : m_wouldBe N μ a0 a1 a2 = some res) : jM l yX6_wouldBe (ws_ yX6_wouldBe cX6_wouldBe 8 (some .int)) 7 168 [.ref (gh G), .int a0, .int a1, .int a2] (mWo G) (mnx G) (mK G) μ (jU res) (gA G) (gn G) := by
  refine jj_start [(0, .ref (gh G)), (1, .int a0), (2, .int a1), (3, .int a2)] (by decide) (Nat.le_of_ble_eq_true rfl) rfl (fun p e R s m args below meth c hk hK hsz => ?_) hf
  have hk : jk p R s m args meth c (gn G) cX6_wouldBe 8 RX6 7 168 (some .int) := hk
  unfold m_wouldBe
  refine jj_aload_n hk (pc := 0) dX6_wouldBe_0 0 rfl rfl ?_
  refine jj_iload_n hk (pc := 1) dX6_wouldBe_1 1 rfl rfl ?_
  refine jj_iload_n hk (pc := 2) dX6_wouldBe_2 3 rfl rfl ?_
  refine kc_m_isSpan hk hK (pc := 3) (a0 := a0) (a1 := a2) (fun r h => cc_m_isSpan l G μ a0 a2 r h) dX6_wouldBe_3 ⟨Nat.le_of_ble_eq_true rfl, Nat.le_of_ble_eq_true rfl⟩ (Nat.le_of_ble_eq_true rfl) (fun r1 => ?_)
  refine jj_if_ne_b hk (pc := 6) 11 dX6_wouldBe_6 (by decide) ?_ ?_
  · refine jj_aload_n hk (pc := 11) dX6_wouldBe_11 0 rfl rfl ?_
    refine jj_iload_n hk (pc := 12) dX6_wouldBe_12 1 rfl rfl ?_
    refine jj_iconst hk (pc := 13) (v := (0 : Int32)) dX6_wouldBe_13 (by decide) ?_
    refine kc_m_whyNot hk hK (pc := 14) (a0 := a0) (a1 := (0 : Int32)) (fun r h => cc_m_whyNot l G μ a0 (0 : Int32) r h) dX6_wouldBe_14 ⟨Nat.le_of_ble_eq_true rfl, Nat.le_of_ble_eq_true rfl⟩ (Nat.le_of_ble_eq_true rfl) (fun r2 => ?_)
    refine jj_istore hk (pc := 17) [(4, .int r2), (0, .ref (gh G)), (1, .int a0), (2, .int a1), (3, .int a2)] dX6_wouldBe_17 (Nat.le_of_ble_eq_true rfl) rfl ?_
    refine jj_iload hk (pc := 19) dX6_wouldBe_19 0 rfl ?_
    refine jj_if_eq hk (pc := 21) 27 dX6_wouldBe_21 (by decide) ?_ ?_
    · refine jj_aload_n hk (pc := 27) dX6_wouldBe_27 1 rfl rfl ?_
      refine kc_m_puts hk hK (pc := 28)  (fun r h => cc_m_puts l G N μ r h) dX6_wouldBe_28 ⟨Nat.le_of_ble_eq_true rfl, Nat.le_of_ble_eq_true rfl⟩ (Nat.le_of_ble_eq_true rfl) (fun r3 => ?_)
      refine jj_iconst hk (pc := 31) (v := (0 : Int32)) dX6_wouldBe_31 (by decide) ?_
      refine jj_istore hk (pc := 32) [(5, .int (0 : Int32)), (4, .int r2), (0, .ref (gh G)), (1, .int a0), (2, .int a1), (3, .int a2)] dX6_wouldBe_32 (Nat.le_of_ble_eq_true rfl) rfl ?_
      refine jj_iconst hk (pc := 34) (v := (0 : Int32)) dX6_wouldBe_34 (by decide) ?_
      refine jj_istore hk (pc := 35) [(6, .int (0 : Int32)), (5, .int (0 : Int32)), (4, .int r2), (0, .ref (gh G)), (1, .int a0), (2, .int a1), (3, .int a2)] dX6_wouldBe_35 (Nat.le_of_ble_eq_true rfl) rfl ?_
      refine jj_loc [(0, .ref (gh G)), (1, .int a0), (2, .int a1), (3, .int a2), (4, .int r2), (5, .int (0 : Int32)), (6, .int (0 : Int32))] [3, 4, 5, 6, 2, 1, 0] rfl ?_
      exact wb_m_wouldBe_L37 hk hK N N r3 a0 a1 a2 r2 (0 : Int32) (0 : Int32)
    · refine jj_iload hk (pc := 24) dX6_wouldBe_24 0 rfl ?_
      exact jm_retUi hk (pc := 26) dX6_wouldBe_26
  · refine jj_iconst hk (pc := 9) (v := (-1 : Int32)) dX6_wouldBe_9 (by decide) ?_
    exact jm_retUi hk (pc := 10) dX6_wouldBe_10
end
section
variable {p : Program} {l : Launch} {e : Env} {R : Room} {s : State} {m : MethodId} {args : Array Value} {below : List Frame} {meth : Method} {c : Code}
variable {G : jG}
set_option maxHeartbeats 4000000 in
theorem wb_m_shelf_B77 {res : (Int32 × MS)} (hk : jk p R s m args meth c (gn G) cX6_shelf 4 RX6 2 46 (some .int)) (hK : mK G s)  (μ : MS) (x1 : Int32) (x2 : Int32) (x3 : Int32) (y0 : Int32) (y1 : Int32) : jj p l e R s m args below meth c (gA G) (gn G) (jZ below args s (gA G) (gn G) (jU res) (mWo G) (mnx G)) (mWo G) (mnx G) 4 μ 77 [(0, .ref (gh G)), (1, .int x1), (2, .int x2), (3, .int x3)] [.int y0, .int y1, .ref (ga G 14)] (m_shelf_B77 μ x1 x2 x3 y0 y1 = some res) := by
  unfold m_shelf_B77
  refine jm_st hk hK (pc := 77) (by decide) dX6_shelf_77 (fun μ1 => ?_)
  refine jj_aload_n hk (pc := 78) dX6_shelf_78 0 rfl rfl ?_
  refine jm_g_liesNumber hk hK (pc := 79) dX6_shelf_79 ?_
  refine jj_iload_n hk (pc := 82) dX6_shelf_82 1 rfl rfl ?_
  refine jj_iload_n hk (pc := 83) dX6_shelf_83 2 rfl rfl ?_
  refine jj_if_ne hk (pc := 84) 91 dX6_shelf_84 (by decide) ?_ ?_
  · refine jj_iload_n hk (pc := 91) dX6_shelf_91 2 rfl rfl ?_
    refine jj_iconst hk (pc := 92) (v := (1 : Int32)) dX6_shelf_92 (by decide) ?_
    refine jj_icmp_ne hk (pc := 93) 105 dX6_shelf_93 (by decide) ?_ ?_
    · refine jj_iconst hk (pc := 105) (v := (0 : Int32)) dX6_shelf_105 (by decide) ?_
      refine jm_st hk hK (pc := 106) (by decide) dX6_shelf_106 (fun μ2 => ?_)
      refine jj_aload_n hk (pc := 107) dX6_shelf_107 0 rfl rfl ?_
      refine jm_g_liesSort hk hK (pc := 108) dX6_shelf_108 ?_
      refine jj_iload_n hk (pc := 111) dX6_shelf_111 1 rfl rfl ?_
      refine jj_iload_n hk (pc := 112) dX6_shelf_112 2 rfl rfl ?_
      refine jj_iconst hk (pc := 113) (v := (1 : Int32)) dX6_shelf_113 (by decide) ?_
      refine jj_icmp_ne hk (pc := 114) 126 dX6_shelf_114 (by decide) ?_ ?_
      · refine jj_iconst hk (pc := 126) (v := (0 : Int32)) dX6_shelf_126 (by decide) ?_
        refine jm_st hk hK (pc := 127) (by decide) dX6_shelf_127 (fun μ3 => ?_)
        refine jj_iconst hk (pc := 128) (v := (1 : Int32)) dX6_shelf_128 (by decide) ?_
        exact jm_retUi hk (pc := 129) dX6_shelf_129
      · refine jj_aload_n hk (pc := 117) dX6_shelf_117 0 rfl rfl ?_
        refine jm_g_sortOf hk hK (pc := 118) dX6_shelf_118 ?_
        refine jj_iload_n hk (pc := 121) dX6_shelf_121 3 rfl rfl ?_
        refine jm_ld hk hK (pc := 122) (by decide) dX6_shelf_122 (fun v4 => ?_)
        refine jj_goto hk (pc := 123) 127 dX6_shelf_123 (by decide) ?_
        refine jm_st hk hK (pc := 127) (by decide) dX6_shelf_127 (fun μ5 => ?_)
        refine jj_iconst hk (pc := 128) (v := (1 : Int32)) dX6_shelf_128 (by decide) ?_
        exact jm_retUi hk (pc := 129) dX6_shelf_129
    · refine jj_aload_n hk (pc := 96) dX6_shelf_96 0 rfl rfl ?_
      refine jm_g_sizes hk hK (pc := 97) dX6_shelf_97 ?_
      refine jj_iload_n hk (pc := 100) dX6_shelf_100 3 rfl rfl ?_
      refine jm_ld hk hK (pc := 101) (by decide) dX6_shelf_101 (fun v6 => ?_)
      refine jj_goto hk (pc := 102) 106 dX6_shelf_102 (by decide) ?_
      refine jm_st hk hK (pc := 106) (by decide) dX6_shelf_106 (fun μ7 => ?_)
      refine jj_aload_n hk (pc := 107) dX6_shelf_107 0 rfl rfl ?_
      refine jm_g_liesSort hk hK (pc := 108) dX6_shelf_108 ?_
      refine jj_iload_n hk (pc := 111) dX6_shelf_111 1 rfl rfl ?_
      refine jj_iload_n hk (pc := 112) dX6_shelf_112 2 rfl rfl ?_
      refine jj_iconst hk (pc := 113) (v := (1 : Int32)) dX6_shelf_113 (by decide) ?_
      refine jj_icmp_ne hk (pc := 114) 126 dX6_shelf_114 (by decide) ?_ ?_
      · refine jj_iconst hk (pc := 126) (v := (0 : Int32)) dX6_shelf_126 (by decide) ?_
        refine jm_st hk hK (pc := 127) (by decide) dX6_shelf_127 (fun μ8 => ?_)
        refine jj_iconst hk (pc := 128) (v := (1 : Int32)) dX6_shelf_128 (by decide) ?_
        exact jm_retUi hk (pc := 129) dX6_shelf_129
      · refine jj_aload_n hk (pc := 117) dX6_shelf_117 0 rfl rfl ?_
        refine jm_g_sortOf hk hK (pc := 118) dX6_shelf_118 ?_
        refine jj_iload_n hk (pc := 121) dX6_shelf_121 3 rfl rfl ?_
        refine jm_ld hk hK (pc := 122) (by decide) dX6_shelf_122 (fun v9 => ?_)
        refine jj_goto hk (pc := 123) 127 dX6_shelf_123 (by decide) ?_
        refine jm_st hk hK (pc := 127) (by decide) dX6_shelf_127 (fun μ10 => ?_)
        refine jj_iconst hk (pc := 128) (v := (1 : Int32)) dX6_shelf_128 (by decide) ?_
        exact jm_retUi hk (pc := 129) dX6_shelf_129
  · refine jj_iload_n hk (pc := 87) dX6_shelf_87 3 rfl rfl ?_
    refine jj_goto hk (pc := 88) 106 dX6_shelf_88 (by decide) ?_
    refine jm_st hk hK (pc := 106) (by decide) dX6_shelf_106 (fun μ11 => ?_)
    refine jj_aload_n hk (pc := 107) dX6_shelf_107 0 rfl rfl ?_
    refine jm_g_liesSort hk hK (pc := 108) dX6_shelf_108 ?_
    refine jj_iload_n hk (pc := 111) dX6_shelf_111 1 rfl rfl ?_
    refine jj_iload_n hk (pc := 112) dX6_shelf_112 2 rfl rfl ?_
    refine jj_iconst hk (pc := 113) (v := (1 : Int32)) dX6_shelf_113 (by decide) ?_
    refine jj_icmp_ne hk (pc := 114) 126 dX6_shelf_114 (by decide) ?_ ?_
    · refine jj_iconst hk (pc := 126) (v := (0 : Int32)) dX6_shelf_126 (by decide) ?_
      refine jm_st hk hK (pc := 127) (by decide) dX6_shelf_127 (fun μ12 => ?_)
      refine jj_iconst hk (pc := 128) (v := (1 : Int32)) dX6_shelf_128 (by decide) ?_
      exact jm_retUi hk (pc := 129) dX6_shelf_129
    · refine jj_aload_n hk (pc := 117) dX6_shelf_117 0 rfl rfl ?_
      refine jm_g_sortOf hk hK (pc := 118) dX6_shelf_118 ?_
      refine jj_iload_n hk (pc := 121) dX6_shelf_121 3 rfl rfl ?_
      refine jm_ld hk hK (pc := 122) (by decide) dX6_shelf_122 (fun v13 => ?_)
      refine jj_goto hk (pc := 123) 127 dX6_shelf_123 (by decide) ?_
      refine jm_st hk hK (pc := 127) (by decide) dX6_shelf_127 (fun μ14 => ?_)
      refine jj_iconst hk (pc := 128) (v := (1 : Int32)) dX6_shelf_128 (by decide) ?_
      exact jm_retUi hk (pc := 129) dX6_shelf_129
set_option maxHeartbeats 4000000 in
theorem wb_m_shelf_B31 {res : (Int32 × MS)} (hk : jk p R s m args meth c (gn G) cX6_shelf 4 RX6 2 46 (some .int)) (hK : mK G s)  (μ : MS) (x1 : Int32) (x2 : Int32) (x3 : Int32) : jj p l e R s m args below meth c (gA G) (gn G) (jZ below args s (gA G) (gn G) (jU res) (mWo G) (mnx G)) (mWo G) (mnx G) 4 μ 31 [(0, .ref (gh G)), (1, .int x1), (2, .int x2), (3, .int x3)] [] (m_shelf_B31 μ x1 x2 x3 = some res) := by
  unfold m_shelf_B31
  refine jj_iload_n hk (pc := 31) dX6_shelf_31 2 rfl rfl ?_
  refine jj_iconst hk (pc := 32) (v := (1 : Int32)) dX6_shelf_32 (by decide) ?_
  refine jj_icmp_ne hk (pc := 33) 45 dX6_shelf_33 (by decide) ?_ ?_
  · refine jj_aload_n hk (pc := 45) dX6_shelf_45 0 rfl rfl ?_
    refine jm_g_lies hk hK (pc := 46) dX6_shelf_46 ?_
    refine jj_iload_n hk (pc := 49) dX6_shelf_49 1 rfl rfl ?_
    refine jj_iload_n hk (pc := 50) dX6_shelf_50 2 rfl rfl ?_
    refine jj_if_ne hk (pc := 51) 58 dX6_shelf_51 (by decide) ?_ ?_
    · refine jj_iload_n hk (pc := 58) dX6_shelf_58 2 rfl rfl ?_
      refine jj_iconst hk (pc := 59) (v := (1 : Int32)) dX6_shelf_59 (by decide) ?_
      refine jj_icmp_ne hk (pc := 60) 76 dX6_shelf_60 (by decide) ?_ ?_
      · refine jj_iconst hk (pc := 76) (v := (0 : Int32)) dX6_shelf_76 (by decide) ?_
        refine jj_loc [(0, .ref (gh G)), (1, .int x1), (2, .int x2), (3, .int x3)] [0, 1, 2, 3] rfl ?_
        exact wb_m_shelf_B77 hk hK μ x1 x2 x3 (0 : Int32) x1
      · refine jj_aload_n hk (pc := 63) dX6_shelf_63 0 rfl rfl ?_
        refine jm_g_sortOf hk hK (pc := 64) dX6_shelf_64 ?_
        refine jj_iload_n hk (pc := 67) dX6_shelf_67 3 rfl rfl ?_
        refine jm_ld hk hK (pc := 68) (by decide) dX6_shelf_68 (fun v1 => ?_)
        refine jj_if_lt hk (pc := 69) 76 dX6_shelf_69 (by decide) ?_ ?_
        · refine jj_iconst hk (pc := 76) (v := (0 : Int32)) dX6_shelf_76 (by decide) ?_
          refine jj_loc [(0, .ref (gh G)), (1, .int x1), (2, .int x2), (3, .int x3)] [0, 1, 2, 3] rfl ?_
          exact wb_m_shelf_B77 hk hK μ x1 x2 x3 (0 : Int32) x1
        · refine jj_iconst hk (pc := 72) (v := (2 : Int32)) dX6_shelf_72 (by decide) ?_
          refine jj_goto hk (pc := 73) 77 dX6_shelf_73 (by decide) ?_
          refine jj_loc [(0, .ref (gh G)), (1, .int x1), (2, .int x2), (3, .int x3)] [0, 1, 2, 3] rfl ?_
          exact wb_m_shelf_B77 hk hK μ x1 x2 x3 (2 : Int32) x1
    · refine jj_iconst hk (pc := 54) (v := (1 : Int32)) dX6_shelf_54 (by decide) ?_
      refine jj_goto hk (pc := 55) 77 dX6_shelf_55 (by decide) ?_
      refine jj_loc [(0, .ref (gh G)), (1, .int x1), (2, .int x2), (3, .int x3)] [0, 1, 2, 3] rfl ?_
      exact wb_m_shelf_B77 hk hK μ x1 x2 x3 (1 : Int32) x1
  · refine jj_iload_n hk (pc := 36) dX6_shelf_36 3 rfl rfl ?_
    refine kc_m_isOne hk hK (pc := 37) (a0 := x3) (fun r h => cc_m_isOne l G μ x3 r h) dX6_shelf_37 ⟨Nat.le_of_ble_eq_true rfl, Nat.le_of_ble_eq_true rfl⟩ (Nat.le_of_ble_eq_true rfl) (fun r2 => ?_)
    refine jj_if_ne_b hk (pc := 40) 45 dX6_shelf_40 (by decide) ?_ ?_
    · refine jj_aload_n hk (pc := 45) dX6_shelf_45 0 rfl rfl ?_
      refine jm_g_lies hk hK (pc := 46) dX6_shelf_46 ?_
      refine jj_iload_n hk (pc := 49) dX6_shelf_49 1 rfl rfl ?_
      refine jj_iload_n hk (pc := 50) dX6_shelf_50 2 rfl rfl ?_
      refine jj_if_ne hk (pc := 51) 58 dX6_shelf_51 (by decide) ?_ ?_
      · refine jj_iload_n hk (pc := 58) dX6_shelf_58 2 rfl rfl ?_
        refine jj_iconst hk (pc := 59) (v := (1 : Int32)) dX6_shelf_59 (by decide) ?_
        refine jj_icmp_ne hk (pc := 60) 76 dX6_shelf_60 (by decide) ?_ ?_
        · refine jj_iconst hk (pc := 76) (v := (0 : Int32)) dX6_shelf_76 (by decide) ?_
          refine jj_loc [(0, .ref (gh G)), (1, .int x1), (2, .int x2), (3, .int x3)] [0, 1, 2, 3] rfl ?_
          exact wb_m_shelf_B77 hk hK μ x1 x2 x3 (0 : Int32) x1
        · refine jj_aload_n hk (pc := 63) dX6_shelf_63 0 rfl rfl ?_
          refine jm_g_sortOf hk hK (pc := 64) dX6_shelf_64 ?_
          refine jj_iload_n hk (pc := 67) dX6_shelf_67 3 rfl rfl ?_
          refine jm_ld hk hK (pc := 68) (by decide) dX6_shelf_68 (fun v3 => ?_)
          refine jj_if_lt hk (pc := 69) 76 dX6_shelf_69 (by decide) ?_ ?_
          · refine jj_iconst hk (pc := 76) (v := (0 : Int32)) dX6_shelf_76 (by decide) ?_
            refine jj_loc [(0, .ref (gh G)), (1, .int x1), (2, .int x2), (3, .int x3)] [0, 1, 2, 3] rfl ?_
            exact wb_m_shelf_B77 hk hK μ x1 x2 x3 (0 : Int32) x1
          · refine jj_iconst hk (pc := 72) (v := (2 : Int32)) dX6_shelf_72 (by decide) ?_
            refine jj_goto hk (pc := 73) 77 dX6_shelf_73 (by decide) ?_
            refine jj_loc [(0, .ref (gh G)), (1, .int x1), (2, .int x2), (3, .int x3)] [0, 1, 2, 3] rfl ?_
            exact wb_m_shelf_B77 hk hK μ x1 x2 x3 (2 : Int32) x1
      · refine jj_iconst hk (pc := 54) (v := (1 : Int32)) dX6_shelf_54 (by decide) ?_
        refine jj_goto hk (pc := 55) 77 dX6_shelf_55 (by decide) ?_
        refine jj_loc [(0, .ref (gh G)), (1, .int x1), (2, .int x2), (3, .int x3)] [0, 1, 2, 3] rfl ?_
        exact wb_m_shelf_B77 hk hK μ x1 x2 x3 (1 : Int32) x1
    · refine jj_iconst hk (pc := 43) (v := (-1 : Int32)) dX6_shelf_43 (by decide) ?_
      exact jm_retUi hk (pc := 44) dX6_shelf_44
set_option maxHeartbeats 4000000 in
theorem cc_m_shelf (l : Launch) (G : jG)  (μ : MS) (a0 : Int32) (a1 : Int32) (a2 : Int32) (res : (Int32 × MS)) (hf : m_shelf μ a0 a1 a2 = some res) : jM l yX6_shelf (ws_ yX6_shelf cX6_shelf 4 (some .int)) 2 46 [.ref (gh G), .int a0, .int a1, .int a2] (mWo G) (mnx G) (mK G) μ (jU res) (gA G) (gn G) := by
  refine jj_start [(0, .ref (gh G)), (1, .int a0), (2, .int a1), (3, .int a2)] (by decide) (Nat.le_of_ble_eq_true rfl) rfl (fun p e R s m args below meth c hk hK hsz => ?_) hf
  have hk : jk p R s m args meth c (gn G) cX6_shelf 4 RX6 2 46 (some .int) := hk
  unfold m_shelf
  refine jj_iload_n hk (pc := 0) dX6_shelf_0 1 rfl rfl ?_
  refine kc_m_isOne hk hK (pc := 1) (a0 := a0) (fun r h => cc_m_isOne l G μ a0 r h) dX6_shelf_1 ⟨Nat.le_of_ble_eq_true rfl, Nat.le_of_ble_eq_true rfl⟩ (Nat.le_of_ble_eq_true rfl) (fun r1 => ?_)
  refine jj_if_eq_b hk (pc := 4) 43 dX6_shelf_4 (by decide) ?_ ?_
  · refine jj_iconst hk (pc := 43) (v := (-1 : Int32)) dX6_shelf_43 (by decide) ?_
    exact jm_retUi hk (pc := 44) dX6_shelf_44
  · refine jj_iload_n hk (pc := 7) dX6_shelf_7 2 rfl rfl ?_
    refine jj_i2l hk (pc := 8) dX6_shelf_8 ?_
    refine jj_lconst hk (pc := 9) (v := (0 : Int64)) dX6_shelf_9 (by decide) ?_
    refine jj_ldc2_w hk (pc := 10) q1748 dX6_shelf_10 ?_
    refine kc_m_in hk hK (pc := 13) (a0 := a1.toInt64) (a1 := (0 : Int64)) (a2 := (2 : Int64)) (fun r h => cc_m_in l G μ a1.toInt64 (0 : Int64) (2 : Int64) r h) dX6_shelf_13 ⟨Nat.le_of_ble_eq_true rfl, Nat.le_of_ble_eq_true rfl⟩ (Nat.le_of_ble_eq_true rfl) (fun r2 => ?_)
    refine jj_if_eq_b hk (pc := 16) 43 dX6_shelf_16 (by decide) ?_ ?_
    · refine jj_iconst hk (pc := 43) (v := (-1 : Int32)) dX6_shelf_43 (by decide) ?_
      exact jm_retUi hk (pc := 44) dX6_shelf_44
    · refine jj_iload_n hk (pc := 19) dX6_shelf_19 2 rfl rfl ?_
      refine jj_if_ne hk (pc := 20) 31 dX6_shelf_20 (by decide) ?_ ?_
      · refine jj_loc [(0, .ref (gh G)), (1, .int a0), (2, .int a1), (3, .int a2)] [0, 1, 2, 3] rfl ?_
        exact wb_m_shelf_B31 hk hK μ a0 a1 a2
      · refine jj_aload_n hk (pc := 23) dX6_shelf_23 0 rfl rfl ?_
        refine jj_iload_n hk (pc := 24) dX6_shelf_24 3 rfl rfl ?_
        refine kc_m_isPerson hk hK (pc := 25) (a0 := a2) (fun r h => cc_m_isPerson l G μ a2 r h) dX6_shelf_25 ⟨Nat.le_of_ble_eq_true rfl, Nat.le_of_ble_eq_true rfl⟩ (Nat.le_of_ble_eq_true rfl) (fun r3 => ?_)
        refine jj_if_eq_b hk (pc := 28) 43 dX6_shelf_28 (by decide) ?_ ?_
        · refine jj_iconst hk (pc := 43) (v := (-1 : Int32)) dX6_shelf_43 (by decide) ?_
          exact jm_retUi hk (pc := 44) dX6_shelf_44
        · refine jj_loc [(0, .ref (gh G)), (1, .int a0), (2, .int a1), (3, .int a2)] [0, 1, 2, 3] rfl ?_
          exact wb_m_shelf_B31 hk hK μ a0 a1 a2
end
section
variable {p : Program} {l : Launch} {e : Env} {R : Room} {s : State} {m : MethodId} {args : Array Value} {below : List Frame} {meth : Method} {c : Code}
variable {G : jG}
set_option maxHeartbeats 4000000 in
theorem cc_m_onShelf (l : Launch) (G : jG)  (μ : MS) (a0 : Int32) (res : Int32) (hf : m_onShelf μ a0 = some res) : jM l yX6_onShelf (ws_ yX6_onShelf cX6_onShelf 2 (some .int)) 2 46 [.ref (gh G), .int a0] (mWo G) (mnx G) (mK G) μ (jR μ res) (gA G) (gn G) := by
  refine jj_start [(0, .ref (gh G)), (1, .int a0)] (by decide) (Nat.le_of_ble_eq_true rfl) rfl (fun p e R s m args below meth c hk hK hsz => ?_) hf
  have hk : jk p R s m args meth c (gn G) cX6_onShelf 2 RX6 2 46 (some .int) := hk
  unfold m_onShelf
  refine jj_iload_n hk (pc := 0) dX6_onShelf_0 1 rfl rfl ?_
  refine kc_m_isOne hk hK (pc := 1) (a0 := a0) (fun r h => cc_m_isOne l G μ a0 r h) dX6_onShelf_1 ⟨Nat.le_of_ble_eq_true rfl, Nat.le_of_ble_eq_true rfl⟩ (Nat.le_of_ble_eq_true rfl) (fun r1 => ?_)
  refine jj_if_eq_b hk (pc := 4) 39 dX6_onShelf_4 (by decide) ?_ ?_
  · refine jj_iconst hk (pc := 39) (v := (-1 : Int32)) dX6_onShelf_39 (by decide) ?_
    exact jm_retRi hk (pc := 40) dX6_onShelf_40
  · refine jj_aload_n hk (pc := 7) dX6_onShelf_7 0 rfl rfl ?_
    refine jm_g_lies hk hK (pc := 8) dX6_onShelf_8 ?_
    refine jj_iload_n hk (pc := 11) dX6_onShelf_11 1 rfl rfl ?_
    refine jm_ld hk hK (pc := 12) (by decide) dX6_onShelf_12 (fun v2 => ?_)
    refine jj_iconst hk (pc := 13) (v := (1 : Int32)) dX6_onShelf_13 (by decide) ?_
    refine jj_icmp_ne hk (pc := 14) 39 dX6_onShelf_14 (by decide) ?_ ?_
    · refine jj_iconst hk (pc := 39) (v := (-1 : Int32)) dX6_onShelf_39 (by decide) ?_
      exact jm_retRi hk (pc := 40) dX6_onShelf_40
    · refine jj_aload_n hk (pc := 17) dX6_onShelf_17 0 rfl rfl ?_
      refine jj_aload_n hk (pc := 18) dX6_onShelf_18 0 rfl rfl ?_
      refine jm_g_liesNumber hk hK (pc := 19) dX6_onShelf_19 ?_
      refine jj_iload_n hk (pc := 22) dX6_onShelf_22 1 rfl rfl ?_
      refine jm_ld hk hK (pc := 23) (by decide) dX6_onShelf_23 (fun v3 => ?_)
      refine kc_m_isPerson hk hK (pc := 24) (a0 := v3) (fun r h => cc_m_isPerson l G μ v3 r h) dX6_onShelf_24 ⟨Nat.le_of_ble_eq_true rfl, Nat.le_of_ble_eq_true rfl⟩ (Nat.le_of_ble_eq_true rfl) (fun r4 => ?_)
      refine jj_if_eq_b hk (pc := 27) 39 dX6_onShelf_27 (by decide) ?_ ?_
      · refine jj_iconst hk (pc := 39) (v := (-1 : Int32)) dX6_onShelf_39 (by decide) ?_
        exact jm_retRi hk (pc := 40) dX6_onShelf_40
      · refine jj_aload_n hk (pc := 30) dX6_onShelf_30 0 rfl rfl ?_
        refine jm_g_liesNumber hk hK (pc := 31) dX6_onShelf_31 ?_
        refine jj_iload_n hk (pc := 34) dX6_onShelf_34 1 rfl rfl ?_
        refine jm_ld hk hK (pc := 35) (by decide) dX6_onShelf_35 (fun v5 => ?_)
        refine jj_goto hk (pc := 36) 40 dX6_onShelf_36 (by decide) ?_
        exact jm_retRi hk (pc := 40) dX6_onShelf_40
end
section
variable {p : Program} {l : Launch} {e : Env} {R : Room} {s : State} {m : MethodId} {args : Array Value} {below : List Frame} {meth : Method} {c : Code}
variable {G : jG}
variable {NX : Nat} {Q : State → Prop} {nL : Nat} {cc : ByteArray} {fr lo frc loc : Nat} {ret : Option FieldType}
variable {pc : Nat} {μ : MS} {lv : List (Nat × Value)} {st : List Value} {ρ : Type} {res : ρ}
theorem kc_m_onShelf (hk : jk p R s m args meth c NX cc nL RX6 fr lo ret) (hK : mK G s) {a0 : Int32} {F : Option Int32} {K : Int32 → Option ρ} (hM : ∀ r, F = some r → jM l yX6_onShelf (ws_ yX6_onShelf cX6_onShelf 2 (some .int)) frc loc [.ref (gh G), .int a0] (mWo G) (mnx G) (mK G) μ (jR μ r) (gA G) (gn G)) (hd : decode cc pc = .ok (.invokevirtual 421, 3)) (hr : frc + 1 ≤ fr ∧ 8 + (2 + 11) + loc ≤ lo) (hw : (st.map fun v => v.category).sum ≤ 8) (kk : ∀ r, jj p l e R s m args below meth c (gA G) NX Q (mWo G) (mnx G) nL μ (pc + 3) lv (.int r :: st) (K r = some res)) : jj p l e R s m args below meth c (gA G) NX Q (mWo G) (mnx G) nL μ pc lv (.int a0 :: .ref (gh G) :: st) (F.bind K = some res) :=
  jm_VRi (n := 1) hk hK [.int a0] hM (lw_V q2171 q2173 qs108 q127 q2174) (by decide +kernel) rfl rfl hd hr hw kk
end
section
variable {p : Program} {l : Launch} {e : Env} {R : Room} {s : State} {m : MethodId} {args : Array Value} {below : List Frame} {meth : Method} {c : Code}
variable {G : jG}
set_option maxHeartbeats 4000000 in
theorem wb_m_taken_B58 {res : Int32} (hk : jk p R s m args meth c (gn G) cX6_taken 5 RX6 3 67 (some .int)) (hK : mK G s)  (μ : MS) (x1 : Int32) (x2 : Int32) (x3 : Int32) : jj p l e R s m args below meth c (gA G) (gn G) (jZ below args s (gA G) (gn G) (jR μ res) (mWo G) (mnx G)) (mWo G) (mnx G) 5 μ 58 [(0, .ref (gh G)), (1, .int x1), (2, .int x2), (3, .int x3)] [] (m_taken_B58 μ x1 x2 x3 = some res) := by
  unfold m_taken_B58
  refine jj_iload_n hk (pc := 58) dX6_taken_58 3 rfl rfl ?_
  refine jj_if_lt hk (pc := 59) 89 dX6_taken_59 (by decide) ?_ ?_
  · refine jj_iload_n hk (pc := 89) dX6_taken_89 2 rfl rfl ?_
    refine jj_bipush hk (pc := 90) (v := (10 : Int32)) dX6_taken_90 (by decide) ?_
    refine jj_isub hk (pc := 92) dX6_taken_92 ?_
    refine jj_aload_n hk (pc := 93) dX6_taken_93 0 rfl rfl ?_
    refine jm_g_liesSort hk hK (pc := 94) dX6_taken_94 ?_
    refine jj_iload_n hk (pc := 97) dX6_taken_97 1 rfl rfl ?_
    refine jm_ld hk hK (pc := 98) (by decide) dX6_taken_98 (fun v1 => ?_)
    refine jj_icmp_ne hk (pc := 99) 106 dX6_taken_99 (by decide) ?_ ?_
    · refine jj_iconst hk (pc := 106) (v := (0 : Int32)) dX6_taken_106 (by decide) ?_
      refine jj_istore hk (pc := 107) [(4, .int (0 : Int32)), (0, .ref (gh G)), (1, .int x1), (2, .int x2), (3, .int x3)] dX6_taken_107 (Nat.le_of_ble_eq_true rfl) rfl ?_
      refine jj_iload hk (pc := 109) dX6_taken_109 0 rfl ?_
      refine jj_if_eq_T hk (pc := 111) 123 dX6_taken_111 (by decide) (by decide) ?_
      refine jj_bipush hk (pc := 123) (v := (-13 : Int32)) dX6_taken_123 (by decide) ?_
      exact jm_retRi hk (pc := 125) dX6_taken_125
    · refine jj_iconst hk (pc := 102) (v := (1 : Int32)) dX6_taken_102 (by decide) ?_
      refine jj_goto hk (pc := 103) 107 dX6_taken_103 (by decide) ?_
      refine jj_istore hk (pc := 107) [(4, .int (1 : Int32)), (0, .ref (gh G)), (1, .int x1), (2, .int x2), (3, .int x3)] dX6_taken_107 (Nat.le_of_ble_eq_true rfl) rfl ?_
      refine jj_iload hk (pc := 109) dX6_taken_109 0 rfl ?_
      refine jj_if_eq_F hk (pc := 111) dX6_taken_111 123 (by decide) (by decide) ?_
      refine jj_aload_n hk (pc := 114) dX6_taken_114 1 rfl rfl ?_
      refine jm_g_liesNumber hk hK (pc := 115) dX6_taken_115 ?_
      refine jj_iload_n hk (pc := 118) dX6_taken_118 2 rfl rfl ?_
      refine jm_ld hk hK (pc := 119) (by decide) dX6_taken_119 (fun v2 => ?_)
      refine jj_goto hk (pc := 120) 125 dX6_taken_120 (by decide) ?_
      exact jm_retRi hk (pc := 125) dX6_taken_125
  · refine jj_iload_n hk (pc := 62) dX6_taken_62 2 rfl rfl ?_
    refine jj_bipush hk (pc := 63) (v := (6 : Int32)) dX6_taken_63 (by decide) ?_
    refine jj_icmp_ge hk (pc := 65) 85 dX6_taken_65 (by decide) ?_ ?_
    · refine jj_iconst hk (pc := 85) (v := (0 : Int32)) dX6_taken_85 (by decide) ?_
      refine jj_goto hk (pc := 86) 107 dX6_taken_86 (by decide) ?_
      refine jj_istore hk (pc := 107) [(4, .int (0 : Int32)), (0, .ref (gh G)), (1, .int x1), (2, .int x2), (3, .int x3)] dX6_taken_107 (Nat.le_of_ble_eq_true rfl) rfl ?_
      refine jj_iload hk (pc := 109) dX6_taken_109 0 rfl ?_
      refine jj_if_eq_T hk (pc := 111) 123 dX6_taken_111 (by decide) (by decide) ?_
      refine jj_bipush hk (pc := 123) (v := (-13 : Int32)) dX6_taken_123 (by decide) ?_
      exact jm_retRi hk (pc := 125) dX6_taken_125
    · refine jj_aload_n hk (pc := 68) dX6_taken_68 0 rfl rfl ?_
      refine jj_iload_n hk (pc := 69) dX6_taken_69 3 rfl rfl ?_
      refine jj_iconst hk (pc := 70) (v := (0 : Int32)) dX6_taken_70 (by decide) ?_
      refine kc_m_its hk hK (pc := 71) (a0 := x3) (a1 := (0 : Int32)) (fun r h => cc_m_its l G μ x3 (0 : Int32) r h) dX6_taken_71 ⟨Nat.le_of_ble_eq_true rfl, Nat.le_of_ble_eq_true rfl⟩ (Nat.le_of_ble_eq_true rfl) (fun r3 => ?_)
      refine jj_iload_n hk (pc := 74) dX6_taken_74 2 rfl rfl ?_
      refine kc_m_isUnder hk hK (pc := 75) (a0 := r3) (a1 := x2) (fun r h => cc_m_isUnder l G μ r3 x2 r h) dX6_taken_75 ⟨Nat.le_of_ble_eq_true rfl, Nat.le_of_ble_eq_true rfl⟩ (Nat.le_of_ble_eq_true rfl) (fun r4 => ?_)
      refine jj_if_eq_b hk (pc := 78) 85 dX6_taken_78 (by decide) ?_ ?_
      · refine jj_iconst hk (pc := 85) (v := (0 : Int32)) dX6_taken_85 (by decide) ?_
        refine jj_goto hk (pc := 86) 107 dX6_taken_86 (by decide) ?_
        refine jj_istore hk (pc := 107) [(4, .int (0 : Int32)), (0, .ref (gh G)), (1, .int x1), (2, .int x2), (3, .int x3)] dX6_taken_107 (Nat.le_of_ble_eq_true rfl) rfl ?_
        refine jj_iload hk (pc := 109) dX6_taken_109 0 rfl ?_
        refine jj_if_eq_T hk (pc := 111) 123 dX6_taken_111 (by decide) (by decide) ?_
        refine jj_bipush hk (pc := 123) (v := (-13 : Int32)) dX6_taken_123 (by decide) ?_
        exact jm_retRi hk (pc := 125) dX6_taken_125
      · refine jj_iconst hk (pc := 81) (v := (1 : Int32)) dX6_taken_81 (by decide) ?_
        refine jj_goto hk (pc := 82) 107 dX6_taken_82 (by decide) ?_
        refine jj_istore hk (pc := 107) [(4, .int (1 : Int32)), (0, .ref (gh G)), (1, .int x1), (2, .int x2), (3, .int x3)] dX6_taken_107 (Nat.le_of_ble_eq_true rfl) rfl ?_
        refine jj_iload hk (pc := 109) dX6_taken_109 0 rfl ?_
        refine jj_if_eq_F hk (pc := 111) dX6_taken_111 123 (by decide) (by decide) ?_
        refine jj_aload_n hk (pc := 114) dX6_taken_114 1 rfl rfl ?_
        refine jm_g_liesNumber hk hK (pc := 115) dX6_taken_115 ?_
        refine jj_iload_n hk (pc := 118) dX6_taken_118 2 rfl rfl ?_
        refine jm_ld hk hK (pc := 119) (by decide) dX6_taken_119 (fun v5 => ?_)
        refine jj_goto hk (pc := 120) 125 dX6_taken_120 (by decide) ?_
        exact jm_retRi hk (pc := 125) dX6_taken_125
set_option maxHeartbeats 4000000 in
theorem cc_m_taken (l : Launch) (G : jG)  (μ : MS) (a0 : Int32) (a1 : Int32) (res : Int32) (hf : m_taken μ a0 a1 = some res) : jM l yX6_taken (ws_ yX6_taken cX6_taken 5 (some .int)) 3 67 [.ref (gh G), .int a0, .int a1] (mWo G) (mnx G) (mK G) μ (jR μ res) (gA G) (gn G) := by
  refine jj_start [(0, .ref (gh G)), (1, .int a0), (2, .int a1)] (by decide) (Nat.le_of_ble_eq_true rfl) rfl (fun p e R s m args below meth c hk hK hsz => ?_) hf
  have hk : jk p R s m args meth c (gn G) cX6_taken 5 RX6 3 67 (some .int) := hk
  unfold m_taken
  refine jj_iload_n hk (pc := 0) dX6_taken_0 1 rfl rfl ?_
  refine kc_m_isOne hk hK (pc := 1) (a0 := a0) (fun r h => cc_m_isOne l G μ a0 r h) dX6_taken_1 ⟨Nat.le_of_ble_eq_true rfl, Nat.le_of_ble_eq_true rfl⟩ (Nat.le_of_ble_eq_true rfl) (fun r1 => ?_)
  refine jj_if_eq_b hk (pc := 4) 33 dX6_taken_4 (by decide) ?_ ?_
  · refine jj_iconst hk (pc := 33) (v := (-1 : Int32)) dX6_taken_33 (by decide) ?_
    exact jm_retRi hk (pc := 34) dX6_taken_34
  · refine jj_iload_n hk (pc := 7) dX6_taken_7 2 rfl rfl ?_
    refine jj_i2l hk (pc := 8) dX6_taken_8 ?_
    refine jj_lconst hk (pc := 9) (v := (0 : Int64)) dX6_taken_9 (by decide) ?_
    refine jj_ldc2_w hk (pc := 10) q1681 dX6_taken_10 ?_
    refine kc_m_in hk hK (pc := 13) (a0 := a1.toInt64) (a1 := (0 : Int64)) (a2 := (5 : Int64)) (fun r h => cc_m_in l G μ a1.toInt64 (0 : Int64) (5 : Int64) r h) dX6_taken_13 ⟨Nat.le_of_ble_eq_true rfl, Nat.le_of_ble_eq_true rfl⟩ (Nat.le_of_ble_eq_true rfl) (fun r2 => ?_)
    refine jj_if_ne_b hk (pc := 16) 35 dX6_taken_16 (by decide) ?_ ?_
    · refine jj_aload_n hk (pc := 35) dX6_taken_35 0 rfl rfl ?_
      refine jj_iload_n hk (pc := 36) dX6_taken_36 1 rfl rfl ?_
      refine kc_m_onShelf hk hK (pc := 37) (a0 := a0) (fun r h => cc_m_onShelf l G μ a0 r h) dX6_taken_37 ⟨Nat.le_of_ble_eq_true rfl, Nat.le_of_ble_eq_true rfl⟩ (Nat.le_of_ble_eq_true rfl) (fun r3 => ?_)
      refine jj_istore_n hk (pc := 40) [(3, .int r3), (0, .ref (gh G)), (1, .int a0), (2, .int a1)] dX6_taken_40 rfl (Nat.le_of_ble_eq_true rfl) rfl ?_
      refine jj_iload_n hk (pc := 41) dX6_taken_41 0 rfl rfl ?_
      refine jj_if_ge hk (pc := 42) 58 dX6_taken_42 (by decide) ?_ ?_
      · refine jj_loc [(0, .ref (gh G)), (1, .int a0), (2, .int a1), (3, .int r3)] [1, 2, 3, 0] rfl ?_
        exact wb_m_taken_B58 hk hK μ a0 a1 r3
      · refine jj_aload_n hk (pc := 45) dX6_taken_45 1 rfl rfl ?_
        refine jm_g_lies hk hK (pc := 46) dX6_taken_46 ?_
        refine jj_iload_n hk (pc := 49) dX6_taken_49 2 rfl rfl ?_
        refine jm_ld hk hK (pc := 50) (by decide) dX6_taken_50 (fun v4 => ?_)
        refine jj_iconst hk (pc := 51) (v := (2 : Int32)) dX6_taken_51 (by decide) ?_
        refine jj_icmp_ge hk (pc := 52) 58 dX6_taken_52 (by decide) ?_ ?_
        · refine jj_loc [(0, .ref (gh G)), (1, .int a0), (2, .int a1), (3, .int r3)] [1, 2, 3, 0] rfl ?_
          exact wb_m_taken_B58 hk hK μ a0 a1 r3
        · refine jj_bipush hk (pc := 55) (v := (-11 : Int32)) dX6_taken_55 (by decide) ?_
          exact jm_retRi hk (pc := 57) dX6_taken_57
    · refine jj_iload_n hk (pc := 19) dX6_taken_19 2 rfl rfl ?_
      refine jj_i2l hk (pc := 20) dX6_taken_20 ?_
      refine jj_ldc2_w hk (pc := 21) q2169 dX6_taken_21 ?_
      refine jj_ldc2_w hk (pc := 24) q2170 dX6_taken_24 ?_
      refine kc_m_in hk hK (pc := 27) (a0 := a1.toInt64) (a1 := (10 : Int64)) (a2 := (14 : Int64)) (fun r h => cc_m_in l G μ a1.toInt64 (10 : Int64) (14 : Int64) r h) dX6_taken_27 ⟨Nat.le_of_ble_eq_true rfl, Nat.le_of_ble_eq_true rfl⟩ (Nat.le_of_ble_eq_true rfl) (fun r5 => ?_)
      refine jj_if_ne_b hk (pc := 30) 35 dX6_taken_30 (by decide) ?_ ?_
      · refine jj_aload_n hk (pc := 35) dX6_taken_35 0 rfl rfl ?_
        refine jj_iload_n hk (pc := 36) dX6_taken_36 1 rfl rfl ?_
        refine kc_m_onShelf hk hK (pc := 37) (a0 := a0) (fun r h => cc_m_onShelf l G μ a0 r h) dX6_taken_37 ⟨Nat.le_of_ble_eq_true rfl, Nat.le_of_ble_eq_true rfl⟩ (Nat.le_of_ble_eq_true rfl) (fun r6 => ?_)
        refine jj_istore_n hk (pc := 40) [(3, .int r6), (0, .ref (gh G)), (1, .int a0), (2, .int a1)] dX6_taken_40 rfl (Nat.le_of_ble_eq_true rfl) rfl ?_
        refine jj_iload_n hk (pc := 41) dX6_taken_41 0 rfl rfl ?_
        refine jj_if_ge hk (pc := 42) 58 dX6_taken_42 (by decide) ?_ ?_
        · refine jj_loc [(0, .ref (gh G)), (1, .int a0), (2, .int a1), (3, .int r6)] [1, 2, 3, 0] rfl ?_
          exact wb_m_taken_B58 hk hK μ a0 a1 r6
        · refine jj_aload_n hk (pc := 45) dX6_taken_45 1 rfl rfl ?_
          refine jm_g_lies hk hK (pc := 46) dX6_taken_46 ?_
          refine jj_iload_n hk (pc := 49) dX6_taken_49 2 rfl rfl ?_
          refine jm_ld hk hK (pc := 50) (by decide) dX6_taken_50 (fun v7 => ?_)
          refine jj_iconst hk (pc := 51) (v := (2 : Int32)) dX6_taken_51 (by decide) ?_
          refine jj_icmp_ge hk (pc := 52) 58 dX6_taken_52 (by decide) ?_ ?_
          · refine jj_loc [(0, .ref (gh G)), (1, .int a0), (2, .int a1), (3, .int r6)] [1, 2, 3, 0] rfl ?_
            exact wb_m_taken_B58 hk hK μ a0 a1 r6
          · refine jj_bipush hk (pc := 55) (v := (-11 : Int32)) dX6_taken_55 (by decide) ?_
            exact jm_retRi hk (pc := 57) dX6_taken_57
      · refine jj_iconst hk (pc := 33) (v := (-1 : Int32)) dX6_taken_33 (by decide) ?_
        exact jm_retRi hk (pc := 34) dX6_taken_34
end
section
variable {p : Program} {l : Launch} {e : Env} {R : Room} {s : State} {m : MethodId} {args : Array Value} {below : List Frame} {meth : Method} {c : Code}
variable {G : jG}
set_option maxHeartbeats 4000000 in
theorem cc_m_runs (l : Launch) (G : jG)  (μ : MS) (a0 : Int32) (res : MS) (hf : m_runs μ a0 = some res) : jM l yX6_runs (ws_ yX6_runs cX6_runs 2 none) 0 0 [.ref (gh G), .int a0] (mWo G) (mnx G) (mK G) μ (jV res) (gA G) (gn G) := by
  refine jj_start [(0, .ref (gh G)), (1, .int a0)] (by decide) (Nat.le_of_ble_eq_true rfl) rfl (fun p e R s m args below meth c hk hK hsz => ?_) hf
  have hk : jk p R s m args meth c (gn G) cX6_runs 2 RX6 0 0 none := hk
  unfold m_runs
  refine jj_aload_n hk (pc := 0) dX6_runs_0 0 rfl rfl ?_
  refine jm_g_isParted hk hK (pc := 1) dX6_runs_1 ?_
  refine jj_if_ne hk (pc := 4) 36 dX6_runs_4 (by decide) ?_ ?_
  · exact jm_retV hk (pc := 36) dX6_runs_36
  · refine jj_aload_n hk (pc := 7) dX6_runs_7 0 rfl rfl ?_
    refine jm_g_bodies hk hK (pc := 8) dX6_runs_8 ?_
    refine jj_bipush hk (pc := 11) (v := (30 : Int32)) dX6_runs_11 (by decide) ?_
    refine jj_icmp_ge hk (pc := 13) 26 dX6_runs_13 (by decide) ?_ ?_
    · refine jj_aload_n hk (pc := 26) dX6_runs_26 0 rfl rfl ?_
      refine jj_dup hk (pc := 27) dX6_runs_27 rfl ?_
      refine jm_g_bodies hk hK (pc := 28) dX6_runs_28 ?_
      refine jj_iconst hk (pc := 31) (v := (1 : Int32)) dX6_runs_31 (by decide) ?_
      refine jj_iadd hk (pc := 32) dX6_runs_32 ?_
      refine jm_p_bodies hk hK (pc := 33) dX6_runs_33 (fun μ1 => ?_)
      exact jm_retV hk (pc := 36) dX6_runs_36
    · refine jj_aload_n hk (pc := 16) dX6_runs_16 0 rfl rfl ?_
      refine jm_g_ran hk hK (pc := 17) dX6_runs_17 ?_
      refine jj_aload_n hk (pc := 20) dX6_runs_20 0 rfl rfl ?_
      refine jm_g_bodies hk hK (pc := 21) dX6_runs_21 ?_
      refine jj_iload_n hk (pc := 24) dX6_runs_24 1 rfl rfl ?_
      refine jm_st hk hK (pc := 25) (by decide) dX6_runs_25 (fun μ2 => ?_)
      refine jj_aload_n hk (pc := 26) dX6_runs_26 0 rfl rfl ?_
      refine jj_dup hk (pc := 27) dX6_runs_27 rfl ?_
      refine jm_g_bodies hk hK (pc := 28) dX6_runs_28 ?_
      refine jj_iconst hk (pc := 31) (v := (1 : Int32)) dX6_runs_31 (by decide) ?_
      refine jj_iadd hk (pc := 32) dX6_runs_32 ?_
      refine jm_p_bodies hk hK (pc := 33) dX6_runs_33 (fun μ3 => ?_)
      exact jm_retV hk (pc := 36) dX6_runs_36
end
section
variable {p : Program} {l : Launch} {e : Env} {R : Room} {s : State} {m : MethodId} {args : Array Value} {below : List Frame} {meth : Method} {c : Code}
variable {G : jG}
variable {NX : Nat} {Q : State → Prop} {nL : Nat} {cc : ByteArray} {fr lo frc loc : Nat} {ret : Option FieldType}
variable {pc : Nat} {μ : MS} {lv : List (Nat × Value)} {st : List Value} {ρ : Type} {res : ρ}
theorem kc_m_runs (hk : jk p R s m args meth c NX cc nL RX6 fr lo ret) (hK : mK G s) {a0 : Int32} {F : Option MS} {K : MS → Option ρ} (hM : ∀ r, F = some r → jM l yX6_runs (ws_ yX6_runs cX6_runs 2 none) frc loc [.ref (gh G), .int a0] (mWo G) (mnx G) (mK G) μ (jV r) (gA G) (gn G)) (hd : decode cc pc = .ok (.invokevirtual 433, 3)) (hr : frc + 1 ≤ fr ∧ 8 + (2 + 11) + loc ≤ lo) (hw : (st.map fun v => v.category).sum ≤ 8) (kk : ∀ r, jj p l e R s m args below meth c (gA G) NX Q (mWo G) (mnx G) nL r (pc + 3) lv st (K r = some res)) : jj p l e R s m args below meth c (gA G) NX Q (mWo G) (mnx G) nL μ pc lv (.int a0 :: .ref (gh G) :: st) (F.bind K = some res) :=
  jm_VV (n := 1) hk hK [.int a0] hM (lw_V q2183 q2185 qs110 q127 q2186) (by decide +kernel) rfl rfl hd hr hw kk
end
section
variable {p : Program} {l : Launch} {e : Env} {R : Room} {s : State} {m : MethodId} {args : Array Value} {below : List Frame} {meth : Method} {c : Code}
variable {G : jG}
set_option maxHeartbeats 4000000 in
theorem wb_m_gives_B14 {res : (Int32 × MS)} (hk : jk p R s m args meth c (gn G) cX6_gives 3 RX6 1 21 (some .int)) (hK : mK G s)  (μ : MS) (x1 : Int32) : jj p l e R s m args below meth c (gA G) (gn G) (jZ below args s (gA G) (gn G) (jU res) (mWo G) (mnx G)) (mWo G) (mnx G) 3 μ 14 [(0, .ref (gh G)), (1, .int x1)] [] (m_gives_B14 μ x1 = some res) := by
  unfold m_gives_B14
  refine jj_aload_n hk (pc := 14) dX6_gives_14 0 rfl rfl ?_
  refine jm_g_kindActing hk hK (pc := 15) dX6_gives_15 ?_
  refine jj_iconst hk (pc := 18) (v := (3 : Int32)) dX6_gives_18 (by decide) ?_
  refine jj_icmp_ne hk (pc := 19) 28 dX6_gives_19 (by decide) ?_ ?_
  · refine jj_aload_n hk (pc := 28) dX6_gives_28 0 rfl rfl ?_
    refine jj_bipush hk (pc := 29) (v := (10 : Int32)) dX6_gives_29 (by decide) ?_
    refine kc_m_runs hk hK (pc := 31) (a0 := (10 : Int32)) (fun r h => cc_m_runs l G μ (10 : Int32) r h) dX6_gives_31 ⟨Nat.le_of_ble_eq_true rfl, Nat.le_of_ble_eq_true rfl⟩ (Nat.le_of_ble_eq_true rfl) (fun r1 => ?_)
    refine jj_iload_n hk (pc := 34) dX6_gives_34 1 rfl rfl ?_
    refine jj_aload_n hk (pc := 35) dX6_gives_35 0 rfl rfl ?_
    refine jm_g_about hk hK (pc := 36) dX6_gives_36 ?_
    refine jj_isub hk (pc := 39) dX6_gives_39 ?_
    refine jj_istore_n hk (pc := 40) [(2, .int (x1 - (r1.1 39))), (0, .ref (gh G)), (1, .int x1)] dX6_gives_40 rfl (Nat.le_of_ble_eq_true rfl) rfl ?_
    refine jj_aload_n hk (pc := 41) dX6_gives_41 1 rfl rfl ?_
    refine jm_g_kindActing hk hK (pc := 42) dX6_gives_42 ?_
    refine jj_iconst hk (pc := 45) (v := (1 : Int32)) dX6_gives_45 (by decide) ?_
    refine jj_icmp_ne hk (pc := 46) 58 dX6_gives_46 (by decide) ?_ ?_
    · refine jj_aload_n hk (pc := 58) dX6_gives_58 1 rfl rfl ?_
      refine jm_g_kindActing hk hK (pc := 59) dX6_gives_59 ?_
      refine jj_iconst hk (pc := 62) (v := (3 : Int32)) dX6_gives_62 (by decide) ?_
      refine jj_icmp_ne hk (pc := 63) 72 dX6_gives_63 (by decide) ?_ ?_
      · refine jj_iload_n hk (pc := 72) dX6_gives_72 0 rfl rfl ?_
        exact jm_retUi hk (pc := 73) dX6_gives_73
      · refine jj_iload_n hk (pc := 66) dX6_gives_66 0 rfl rfl ?_
        refine jj_iconst hk (pc := 67) (v := (3 : Int32)) dX6_gives_67 (by decide) ?_
        refine jj_imul hk (pc := 68) dX6_gives_68 ?_
        refine jj_goto hk (pc := 69) 73 dX6_gives_69 (by decide) ?_
        exact jm_retUi hk (pc := 73) dX6_gives_73
    · refine jj_iload_n hk (pc := 49) dX6_gives_49 0 rfl rfl ?_
      refine jj_aload_n hk (pc := 50) dX6_gives_50 1 rfl rfl ?_
      refine jm_g_acting hk hK (pc := 51) dX6_gives_51 ?_
      refine jj_iadd hk (pc := 54) dX6_gives_54 ?_
      refine jj_goto hk (pc := 55) 73 dX6_gives_55 (by decide) ?_
      exact jm_retUi hk (pc := 73) dX6_gives_73
  · refine jj_aload_n hk (pc := 22) dX6_gives_22 0 rfl rfl ?_
    refine jj_bipush hk (pc := 23) (v := (50 : Int32)) dX6_gives_23 (by decide) ?_
    refine kc_m_runs hk hK (pc := 25) (a0 := (50 : Int32)) (fun r h => cc_m_runs l G μ (50 : Int32) r h) dX6_gives_25 ⟨Nat.le_of_ble_eq_true rfl, Nat.le_of_ble_eq_true rfl⟩ (Nat.le_of_ble_eq_true rfl) (fun r2 => ?_)
    refine jj_aload_n hk (pc := 28) dX6_gives_28 0 rfl rfl ?_
    refine jj_bipush hk (pc := 29) (v := (10 : Int32)) dX6_gives_29 (by decide) ?_
    refine kc_m_runs hk hK (pc := 31) (a0 := (10 : Int32)) (fun r h => cc_m_runs l G r2 (10 : Int32) r h) dX6_gives_31 ⟨Nat.le_of_ble_eq_true rfl, Nat.le_of_ble_eq_true rfl⟩ (Nat.le_of_ble_eq_true rfl) (fun r3 => ?_)
    refine jj_iload_n hk (pc := 34) dX6_gives_34 1 rfl rfl ?_
    refine jj_aload_n hk (pc := 35) dX6_gives_35 0 rfl rfl ?_
    refine jm_g_about hk hK (pc := 36) dX6_gives_36 ?_
    refine jj_isub hk (pc := 39) dX6_gives_39 ?_
    refine jj_istore_n hk (pc := 40) [(2, .int (x1 - (r3.1 39))), (0, .ref (gh G)), (1, .int x1)] dX6_gives_40 rfl (Nat.le_of_ble_eq_true rfl) rfl ?_
    refine jj_aload_n hk (pc := 41) dX6_gives_41 1 rfl rfl ?_
    refine jm_g_kindActing hk hK (pc := 42) dX6_gives_42 ?_
    refine jj_iconst hk (pc := 45) (v := (1 : Int32)) dX6_gives_45 (by decide) ?_
    refine jj_icmp_ne hk (pc := 46) 58 dX6_gives_46 (by decide) ?_ ?_
    · refine jj_aload_n hk (pc := 58) dX6_gives_58 1 rfl rfl ?_
      refine jm_g_kindActing hk hK (pc := 59) dX6_gives_59 ?_
      refine jj_iconst hk (pc := 62) (v := (3 : Int32)) dX6_gives_62 (by decide) ?_
      refine jj_icmp_ne hk (pc := 63) 72 dX6_gives_63 (by decide) ?_ ?_
      · refine jj_iload_n hk (pc := 72) dX6_gives_72 0 rfl rfl ?_
        exact jm_retUi hk (pc := 73) dX6_gives_73
      · refine jj_iload_n hk (pc := 66) dX6_gives_66 0 rfl rfl ?_
        refine jj_iconst hk (pc := 67) (v := (3 : Int32)) dX6_gives_67 (by decide) ?_
        refine jj_imul hk (pc := 68) dX6_gives_68 ?_
        refine jj_goto hk (pc := 69) 73 dX6_gives_69 (by decide) ?_
        exact jm_retUi hk (pc := 73) dX6_gives_73
    · refine jj_iload_n hk (pc := 49) dX6_gives_49 0 rfl rfl ?_
      refine jj_aload_n hk (pc := 50) dX6_gives_50 1 rfl rfl ?_
      refine jm_g_acting hk hK (pc := 51) dX6_gives_51 ?_
      refine jj_iadd hk (pc := 54) dX6_gives_54 ?_
      refine jj_goto hk (pc := 55) 73 dX6_gives_55 (by decide) ?_
      exact jm_retUi hk (pc := 73) dX6_gives_73
set_option maxHeartbeats 4000000 in
theorem cc_m_gives (l : Launch) (G : jG)  (μ : MS) (a0 : Int32) (res : (Int32 × MS)) (hf : m_gives μ a0 = some res) : jM l yX6_gives (ws_ yX6_gives cX6_gives 3 (some .int)) 1 21 [.ref (gh G), .int a0] (mWo G) (mnx G) (mK G) μ (jU res) (gA G) (gn G) := by
  refine jj_start [(0, .ref (gh G)), (1, .int a0)] (by decide) (Nat.le_of_ble_eq_true rfl) rfl (fun p e R s m args below meth c hk hK hsz => ?_) hf
  have hk : jk p R s m args meth c (gn G) cX6_gives 3 RX6 1 21 (some .int) := hk
  unfold m_gives
  refine jj_aload_n hk (pc := 0) dX6_gives_0 0 rfl rfl ?_
  refine jm_g_kindActing hk hK (pc := 1) dX6_gives_1 ?_
  refine jj_iconst hk (pc := 4) (v := (1 : Int32)) dX6_gives_4 (by decide) ?_
  refine jj_icmp_ne hk (pc := 5) 14 dX6_gives_5 (by decide) ?_ ?_
  · refine jj_loc [(0, .ref (gh G)), (1, .int a0)] [0, 1] rfl ?_
    exact wb_m_gives_B14 hk hK μ a0
  · refine jj_aload_n hk (pc := 8) dX6_gives_8 0 rfl rfl ?_
    refine jj_bipush hk (pc := 9) (v := (20 : Int32)) dX6_gives_9 (by decide) ?_
    refine kc_m_runs hk hK (pc := 11) (a0 := (20 : Int32)) (fun r h => cc_m_runs l G μ (20 : Int32) r h) dX6_gives_11 ⟨Nat.le_of_ble_eq_true rfl, Nat.le_of_ble_eq_true rfl⟩ (Nat.le_of_ble_eq_true rfl) (fun r1 => ?_)
    refine jj_loc [(0, .ref (gh G)), (1, .int a0)] [0, 1] rfl ?_
    exact wb_m_gives_B14 hk hK r1 a0
end
section
variable {p : Program} {l : Launch} {e : Env} {R : Room} {s : State} {m : MethodId} {args : Array Value} {below : List Frame} {meth : Method} {c : Code}
variable {G : jG}
variable {NX : Nat} {Q : State → Prop} {nL : Nat} {cc : ByteArray} {fr lo frc loc : Nat} {ret : Option FieldType}
variable {pc : Nat} {μ : MS} {lv : List (Nat × Value)} {st : List Value} {ρ : Type} {res : ρ}
theorem kc_m_gives (hk : jk p R s m args meth c NX cc nL RX6 fr lo ret) (hK : mK G s) {a0 : Int32} {F : Option (Int32 × MS)} {K : (Int32 × MS) → Option ρ} (hM : ∀ r, F = some r → jM l yX6_gives (ws_ yX6_gives cX6_gives 3 (some .int)) frc loc [.ref (gh G), .int a0] (mWo G) (mnx G) (mK G) μ (jU r) (gA G) (gn G)) (hd : decode cc pc = .ok (.invokevirtual 442, 3)) (hr : frc + 1 ≤ fr ∧ 8 + (3 + 11) + loc ≤ lo) (hw : (st.map fun v => v.category).sum ≤ 8) (kk : ∀ r, jj p l e R s m args below meth c (gA G) NX Q (mWo G) (mnx G) nL r.2 (pc + 3) lv (.int r.1 :: st) (K r = some res)) : jj p l e R s m args below meth c (gA G) NX Q (mWo G) (mnx G) nL μ pc lv (.int a0 :: .ref (gh G) :: st) (F.bind K = some res) :=
  jm_VUi (n := 1) hk hK [.int a0] hM (lw_V q2179 q2181 qs109 q127 q2182) (by decide +kernel) rfl rfl hd hr hw kk
end
section
variable {p : Program} {l : Launch} {e : Env} {R : Room} {s : State} {m : MethodId} {args : Array Value} {below : List Frame} {meth : Method} {c : Code}
variable {G : jG}
set_option maxHeartbeats 4000000 in
theorem cc_m_plainSplits (l : Launch) (G : jG)  (μ : MS) (a0 : Int32) (res : (Int32 × MS)) (hf : m_plainSplits μ a0 = some res) : jM l yX6_plainSplits (ws_ yX6_plainSplits cX6_plainSplits 2 (some .int)) 1 21 [.ref (gh G), .int a0] (mWo G) (mnx G) (mK G) μ (jU res) (gA G) (gn G) := by
  refine jj_start [(0, .ref (gh G)), (1, .int a0)] (by decide) (Nat.le_of_ble_eq_true rfl) rfl (fun p e R s m args below meth c hk hK hsz => ?_) hf
  have hk : jk p R s m args meth c (gn G) cX6_plainSplits 2 RX6 1 21 (some .int) := hk
  unfold m_plainSplits
  refine jj_aload_n hk (pc := 0) dX6_plainSplits_0 0 rfl rfl ?_
  refine jj_bipush hk (pc := 1) (v := (12 : Int32)) dX6_plainSplits_1 (by decide) ?_
  refine kc_m_runs hk hK (pc := 3) (a0 := (12 : Int32)) (fun r h => cc_m_runs l G μ (12 : Int32) r h) dX6_plainSplits_3 ⟨Nat.le_of_ble_eq_true rfl, Nat.le_of_ble_eq_true rfl⟩ (Nat.le_of_ble_eq_true rfl) (fun r1 => ?_)
  refine jj_aload_n hk (pc := 6) dX6_plainSplits_6 0 rfl rfl ?_
  refine jm_g_about hk hK (pc := 7) dX6_plainSplits_7 ?_
  refine jj_aload_n hk (pc := 10) dX6_plainSplits_10 0 rfl rfl ?_
  refine jm_g_acting hk hK (pc := 11) dX6_plainSplits_11 ?_
  refine jj_icmp_ne hk (pc := 14) 24 dX6_plainSplits_14 (by decide) ?_ ?_
  · refine jj_iload_n hk (pc := 24) dX6_plainSplits_24 1 rfl rfl ?_
    refine jj_aload_n hk (pc := 25) dX6_plainSplits_25 0 rfl rfl ?_
    refine jm_g_about hk hK (pc := 26) dX6_plainSplits_26 ?_
    refine jj_aload_n hk (pc := 29) dX6_plainSplits_29 0 rfl rfl ?_
    refine jm_g_acting hk hK (pc := 30) dX6_plainSplits_30 ?_
    refine jj_isub hk (pc := 33) dX6_plainSplits_33 ?_
    refine jj_ite (fun _ => jj_no) (fun hne => ?_)
    refine jj_irem hk (pc := 34) dX6_plainSplits_34 hne ?_
    exact jm_retUi hk (pc := 35) dX6_plainSplits_35
  · refine jj_aload_n hk (pc := 17) dX6_plainSplits_17 0 rfl rfl ?_
    refine jj_iconst hk (pc := 18) (v := (1 : Int32)) dX6_plainSplits_18 (by decide) ?_
    refine jm_p_isParted hk hK (pc := 19) (b := true) dX6_plainSplits_19 (fun μ2 => ?_)
    refine jj_iconst hk (pc := 22) (v := (0 : Int32)) dX6_plainSplits_22 (by decide) ?_
    exact jm_retUi hk (pc := 23) dX6_plainSplits_23
end
section
variable {p : Program} {l : Launch} {e : Env} {R : Room} {s : State} {m : MethodId} {args : Array Value} {below : List Frame} {meth : Method} {c : Code}
variable {G : jG}
variable {NX : Nat} {Q : State → Prop} {nL : Nat} {cc : ByteArray} {fr lo frc loc : Nat} {ret : Option FieldType}
variable {pc : Nat} {μ : MS} {lv : List (Nat × Value)} {st : List Value} {ρ : Type} {res : ρ}
theorem kc_m_plainSplits (hk : jk p R s m args meth c NX cc nL RX6 fr lo ret) (hK : mK G s) {a0 : Int32} {F : Option (Int32 × MS)} {K : (Int32 × MS) → Option ρ} (hM : ∀ r, F = some r → jM l yX6_plainSplits (ws_ yX6_plainSplits cX6_plainSplits 2 (some .int)) frc loc [.ref (gh G), .int a0] (mWo G) (mnx G) (mK G) μ (jU r) (gA G) (gn G)) (hd : decode cc pc = .ok (.invokevirtual 445, 3)) (hr : frc + 1 ≤ fr ∧ 8 + (2 + 11) + loc ≤ lo) (hw : (st.map fun v => v.category).sum ≤ 8) (kk : ∀ r, jj p l e R s m args below meth c (gA G) NX Q (mWo G) (mnx G) nL r.2 (pc + 3) lv (.int r.1 :: st) (K r = some res)) : jj p l e R s m args below meth c (gA G) NX Q (mWo G) (mnx G) nL μ pc lv (.int a0 :: .ref (gh G) :: st) (F.bind K = some res) :=
  jm_VUi (n := 1) hk hK [.int a0] hM (lw_V q2195 q2197 qs113 q127 q2198) (by decide +kernel) rfl rfl hd hr hw kk
end
section
variable {p : Program} {l : Launch} {e : Env} {R : Room} {s : State} {m : MethodId} {args : Array Value} {below : List Frame} {meth : Method} {c : Code}
variable {G : jG}
set_option maxHeartbeats 4000000 in
theorem cc_m_splits (l : Launch) (G : jG)  (μ : MS) (a0 : Int32) (res : (Int32 × MS)) (hf : m_splits μ a0 = some res) : jM l yX6_splits (ws_ yX6_splits cX6_splits 3 (some .int)) 2 43 [.ref (gh G), .int a0] (mWo G) (mnx G) (mK G) μ (jU res) (gA G) (gn G) := by
  refine jj_start [(0, .ref (gh G)), (1, .int a0)] (by decide) (Nat.le_of_ble_eq_true rfl) rfl (fun p e R s m args below meth c hk hK hsz => ?_) hf
  have hk : jk p R s m args meth c (gn G) cX6_splits 3 RX6 2 43 (some .int) := hk
  unfold m_splits
  refine jj_aload_n hk (pc := 0) dX6_splits_0 0 rfl rfl ?_
  refine jm_g_kindActing hk hK (pc := 1) dX6_splits_1 ?_
  refine jj_iconst hk (pc := 4) (v := (4 : Int32)) dX6_splits_4 (by decide) ?_
  refine jj_icmp_ne hk (pc := 5) 22 dX6_splits_5 (by decide) ?_ ?_
  · refine jj_aload_n hk (pc := 22) dX6_splits_22 0 rfl rfl ?_
    refine jm_g_kindActing hk hK (pc := 23) dX6_splits_23 ?_
    refine jj_iconst hk (pc := 26) (v := (5 : Int32)) dX6_splits_26 (by decide) ?_
    refine jj_icmp_ne hk (pc := 27) 72 dX6_splits_27 (by decide) ?_ ?_
    · refine jj_aload_n hk (pc := 72) dX6_splits_72 0 rfl rfl ?_
      refine jj_iload_n hk (pc := 73) dX6_splits_73 1 rfl rfl ?_
      refine kc_m_plainSplits hk hK (pc := 74) (a0 := a0) (fun r h => cc_m_plainSplits l G μ a0 r h) dX6_splits_74 ⟨Nat.le_of_ble_eq_true rfl, Nat.le_of_ble_eq_true rfl⟩ (Nat.le_of_ble_eq_true rfl) (fun r1 => ?_)
      exact jm_retUi hk (pc := 77) dX6_splits_77
    · refine jj_aload_n hk (pc := 30) dX6_splits_30 0 rfl rfl ?_
      refine jj_bipush hk (pc := 31) (v := (61 : Int32)) dX6_splits_31 (by decide) ?_
      refine kc_m_runs hk hK (pc := 33) (a0 := (61 : Int32)) (fun r h => cc_m_runs l G μ (61 : Int32) r h) dX6_splits_33 ⟨Nat.le_of_ble_eq_true rfl, Nat.le_of_ble_eq_true rfl⟩ (Nat.le_of_ble_eq_true rfl) (fun r2 => ?_)
      refine jj_aload_n hk (pc := 36) dX6_splits_36 0 rfl rfl ?_
      refine jj_bipush hk (pc := 37) (v := (40 : Int32)) dX6_splits_37 (by decide) ?_
      refine kc_m_runs hk hK (pc := 39) (a0 := (40 : Int32)) (fun r h => cc_m_runs l G r2 (40 : Int32) r h) dX6_splits_39 ⟨Nat.le_of_ble_eq_true rfl, Nat.le_of_ble_eq_true rfl⟩ (Nat.le_of_ble_eq_true rfl) (fun r3 => ?_)
      refine jj_aload_n hk (pc := 42) dX6_splits_42 0 rfl rfl ?_
      refine jj_iload_n hk (pc := 43) dX6_splits_43 1 rfl rfl ?_
      refine jj_iconst hk (pc := 44) (v := (5 : Int32)) dX6_splits_44 (by decide) ?_
      refine jj_iadd hk (pc := 45) dX6_splits_45 ?_
      refine kc_m_plainSplits hk hK (pc := 46) (a0 := (a0 + (5 : Int32))) (fun r h => cc_m_plainSplits l G r3 (a0 + (5 : Int32)) r h) dX6_splits_46 ⟨Nat.le_of_ble_eq_true rfl, Nat.le_of_ble_eq_true rfl⟩ (Nat.le_of_ble_eq_true rfl) (fun r4 => ?_)
      refine jj_istore_n hk (pc := 49) [(2, .int r4.1), (0, .ref (gh G)), (1, .int a0)] dX6_splits_49 rfl (Nat.le_of_ble_eq_true rfl) rfl ?_
      refine jj_aload_n hk (pc := 50) dX6_splits_50 1 rfl rfl ?_
      refine jm_g_isParted hk hK (pc := 51) dX6_splits_51 ?_
      refine jj_if_eq hk (pc := 54) 61 dX6_splits_54 (by decide) ?_ ?_
      · refine jj_iload_n hk (pc := 61) dX6_splits_61 0 rfl rfl ?_
        refine jj_aload_n hk (pc := 62) dX6_splits_62 1 rfl rfl ?_
        refine jj_aload_n hk (pc := 63) dX6_splits_63 1 rfl rfl ?_
        refine jm_g_acting hk hK (pc := 64) dX6_splits_64 ?_
        refine kc_m_gives hk hK (pc := 67) (a0 := (r4.2.1 38)) (fun r h => cc_m_gives l G r4.2 (r4.2.1 38) r h) dX6_splits_67 ⟨Nat.le_of_ble_eq_true rfl, Nat.le_of_ble_eq_true rfl⟩ (Nat.le_of_ble_eq_true rfl) (fun r5 => ?_)
        refine jj_iadd hk (pc := 70) dX6_splits_70 ?_
        exact jm_retUi hk (pc := 71) dX6_splits_71
      · refine jj_iconst hk (pc := 57) (v := (0 : Int32)) dX6_splits_57 (by decide) ?_
        refine jj_goto hk (pc := 58) 71 dX6_splits_58 (by decide) ?_
        exact jm_retUi hk (pc := 71) dX6_splits_71
  · refine jj_aload_n hk (pc := 8) dX6_splits_8 0 rfl rfl ?_
    refine jj_bipush hk (pc := 9) (v := (40 : Int32)) dX6_splits_9 (by decide) ?_
    refine kc_m_runs hk hK (pc := 11) (a0 := (40 : Int32)) (fun r h => cc_m_runs l G μ (40 : Int32) r h) dX6_splits_11 ⟨Nat.le_of_ble_eq_true rfl, Nat.le_of_ble_eq_true rfl⟩ (Nat.le_of_ble_eq_true rfl) (fun r6 => ?_)
    refine jj_aload_n hk (pc := 14) dX6_splits_14 0 rfl rfl ?_
    refine jj_iload_n hk (pc := 15) dX6_splits_15 1 rfl rfl ?_
    refine jj_iconst hk (pc := 16) (v := (5 : Int32)) dX6_splits_16 (by decide) ?_
    refine jj_iadd hk (pc := 17) dX6_splits_17 ?_
    refine kc_m_plainSplits hk hK (pc := 18) (a0 := (a0 + (5 : Int32))) (fun r h => cc_m_plainSplits l G r6 (a0 + (5 : Int32)) r h) dX6_splits_18 ⟨Nat.le_of_ble_eq_true rfl, Nat.le_of_ble_eq_true rfl⟩ (Nat.le_of_ble_eq_true rfl) (fun r7 => ?_)
    exact jm_retUi hk (pc := 21) dX6_splits_21
end
section
variable {p : Program} {l : Launch} {e : Env} {R : Room} {s : State} {m : MethodId} {args : Array Value} {below : List Frame} {meth : Method} {c : Code}
variable {G : jG}
variable {NX : Nat} {Q : State → Prop} {nL : Nat} {cc : ByteArray} {fr lo frc loc : Nat} {ret : Option FieldType}
variable {pc : Nat} {μ : MS} {lv : List (Nat × Value)} {st : List Value} {ρ : Type} {res : ρ}
theorem kc_m_splits (hk : jk p R s m args meth c NX cc nL RX6 fr lo ret) (hK : mK G s) {a0 : Int32} {F : Option (Int32 × MS)} {K : (Int32 × MS) → Option ρ} (hM : ∀ r, F = some r → jM l yX6_splits (ws_ yX6_splits cX6_splits 3 (some .int)) frc loc [.ref (gh G), .int a0] (mWo G) (mnx G) (mK G) μ (jU r) (gA G) (gn G)) (hd : decode cc pc = .ok (.invokevirtual 451, 3)) (hr : frc + 1 ≤ fr ∧ 8 + (3 + 11) + loc ≤ lo) (hw : (st.map fun v => v.category).sum ≤ 8) (kk : ∀ r, jj p l e R s m args below meth c (gA G) NX Q (mWo G) (mnx G) nL r.2 (pc + 3) lv (.int r.1 :: st) (K r = some res)) : jj p l e R s m args below meth c (gA G) NX Q (mWo G) (mnx G) nL μ pc lv (.int a0 :: .ref (gh G) :: st) (F.bind K = some res) :=
  jm_VUi (n := 1) hk hK [.int a0] hM (lw_V q2191 q2193 qs112 q127 q2194) (by decide +kernel) rfl rfl hd hr hw kk
end
section
variable {p : Program} {l : Launch} {e : Env} {R : Room} {s : State} {m : MethodId} {args : Array Value} {below : List Frame} {meth : Method} {c : Code}
variable {G : jG}
set_option maxHeartbeats 4000000 in
theorem wb_m_takes_B32 {res : (Int32 × MS)} (hk : jk p R s m args meth c (gn G) cX6_takes 4 RX6 2 43 (some .int)) (hK : mK G s)  (μ : MS) (x1 : Int32) (x2 : Bool) : jj p l e R s m args below meth c (gA G) (gn G) (jZ below args s (gA G) (gn G) (jU res) (mWo G) (mnx G)) (mWo G) (mnx G) 4 μ 32 [(0, .ref (gh G)), (1, .int x1), (2, .int (bI x2))] [] (m_takes_B32 μ x1 x2 = some res) := by
  unfold m_takes_B32
  refine jj_aload_n hk (pc := 32) dX6_takes_32 0 rfl rfl ?_
  refine jm_g_kindActing hk hK (pc := 33) dX6_takes_33 ?_
  refine jj_iconst hk (pc := 36) (v := (5 : Int32)) dX6_takes_36 (by decide) ?_
  refine jj_icmp_ne hk (pc := 37) 46 dX6_takes_37 (by decide) ?_ ?_
  · refine jj_aload_n hk (pc := 46) dX6_takes_46 0 rfl rfl ?_
    refine jj_bipush hk (pc := 47) (v := (11 : Int32)) dX6_takes_47 (by decide) ?_
    refine kc_m_runs hk hK (pc := 49) (a0 := (11 : Int32)) (fun r h => cc_m_runs l G μ (11 : Int32) r h) dX6_takes_49 ⟨Nat.le_of_ble_eq_true rfl, Nat.le_of_ble_eq_true rfl⟩ (Nat.le_of_ble_eq_true rfl) (fun r1 => ?_)
    refine jj_aload_n hk (pc := 52) dX6_takes_52 0 rfl rfl ?_
    refine jj_iload_n hk (pc := 53) dX6_takes_53 1 rfl rfl ?_
    refine kc_m_gives hk hK (pc := 54) (a0 := x1) (fun r h => cc_m_gives l G r1 x1 r h) dX6_takes_54 ⟨Nat.le_of_ble_eq_true rfl, Nat.le_of_ble_eq_true rfl⟩ (Nat.le_of_ble_eq_true rfl) (fun r2 => ?_)
    refine jj_iconst hk (pc := 57) (v := (2 : Int32)) dX6_takes_57 (by decide) ?_
    refine jj_imul hk (pc := 58) dX6_takes_58 ?_
    refine jj_istore_n hk (pc := 59) [(3, .int (r2.1 * (2 : Int32))), (0, .ref (gh G)), (1, .int x1), (2, .int (bI x2))] dX6_takes_59 rfl (Nat.le_of_ble_eq_true rfl) rfl ?_
    refine jj_iload_n hk (pc := 60) dX6_takes_60 3 rfl rfl ?_
    refine jj_if_eq_b hk (pc := 61) 70 dX6_takes_61 (by decide) ?_ ?_
    · refine jj_aload_n hk (pc := 70) dX6_takes_70 1 rfl rfl ?_
      refine jm_g_kindActing hk hK (pc := 71) dX6_takes_71 ?_
      refine jj_iconst hk (pc := 74) (v := (5 : Int32)) dX6_takes_74 (by decide) ?_
      refine jj_icmp_ne hk (pc := 75) 87 dX6_takes_75 (by decide) ?_ ?_
      · refine jj_iload_n hk (pc := 87) dX6_takes_87 0 rfl rfl ?_
        exact jm_retUi hk (pc := 88) dX6_takes_88
      · refine jj_iload_n hk (pc := 78) dX6_takes_78 0 rfl rfl ?_
        refine jj_aload_n hk (pc := 79) dX6_takes_79 1 rfl rfl ?_
        refine jm_g_about hk hK (pc := 80) dX6_takes_80 ?_
        refine jj_ixor hk (pc := 83) dX6_takes_83 ?_
        refine jj_goto hk (pc := 84) 88 dX6_takes_84 (by decide) ?_
        exact jm_retUi hk (pc := 88) dX6_takes_88
    · refine jj_iconst hk (pc := 64) (v := (0 : Int32)) dX6_takes_64 (by decide) ?_
      refine jj_iload_n hk (pc := 65) dX6_takes_65 0 rfl rfl ?_
      refine jj_isub hk (pc := 66) dX6_takes_66 ?_
      refine jj_goto hk (pc := 67) 88 dX6_takes_67 (by decide) ?_
      exact jm_retUi hk (pc := 88) dX6_takes_88
  · refine jj_aload_n hk (pc := 40) dX6_takes_40 0 rfl rfl ?_
    refine jj_bipush hk (pc := 41) (v := (60 : Int32)) dX6_takes_41 (by decide) ?_
    refine kc_m_runs hk hK (pc := 43) (a0 := (60 : Int32)) (fun r h => cc_m_runs l G μ (60 : Int32) r h) dX6_takes_43 ⟨Nat.le_of_ble_eq_true rfl, Nat.le_of_ble_eq_true rfl⟩ (Nat.le_of_ble_eq_true rfl) (fun r3 => ?_)
    refine jj_aload_n hk (pc := 46) dX6_takes_46 0 rfl rfl ?_
    refine jj_bipush hk (pc := 47) (v := (11 : Int32)) dX6_takes_47 (by decide) ?_
    refine kc_m_runs hk hK (pc := 49) (a0 := (11 : Int32)) (fun r h => cc_m_runs l G r3 (11 : Int32) r h) dX6_takes_49 ⟨Nat.le_of_ble_eq_true rfl, Nat.le_of_ble_eq_true rfl⟩ (Nat.le_of_ble_eq_true rfl) (fun r4 => ?_)
    refine jj_aload_n hk (pc := 52) dX6_takes_52 0 rfl rfl ?_
    refine jj_iload_n hk (pc := 53) dX6_takes_53 1 rfl rfl ?_
    refine kc_m_gives hk hK (pc := 54) (a0 := x1) (fun r h => cc_m_gives l G r4 x1 r h) dX6_takes_54 ⟨Nat.le_of_ble_eq_true rfl, Nat.le_of_ble_eq_true rfl⟩ (Nat.le_of_ble_eq_true rfl) (fun r5 => ?_)
    refine jj_iconst hk (pc := 57) (v := (2 : Int32)) dX6_takes_57 (by decide) ?_
    refine jj_imul hk (pc := 58) dX6_takes_58 ?_
    refine jj_istore_n hk (pc := 59) [(3, .int (r5.1 * (2 : Int32))), (0, .ref (gh G)), (1, .int x1), (2, .int (bI x2))] dX6_takes_59 rfl (Nat.le_of_ble_eq_true rfl) rfl ?_
    refine jj_iload_n hk (pc := 60) dX6_takes_60 3 rfl rfl ?_
    refine jj_if_eq_b hk (pc := 61) 70 dX6_takes_61 (by decide) ?_ ?_
    · refine jj_aload_n hk (pc := 70) dX6_takes_70 1 rfl rfl ?_
      refine jm_g_kindActing hk hK (pc := 71) dX6_takes_71 ?_
      refine jj_iconst hk (pc := 74) (v := (5 : Int32)) dX6_takes_74 (by decide) ?_
      refine jj_icmp_ne hk (pc := 75) 87 dX6_takes_75 (by decide) ?_ ?_
      · refine jj_iload_n hk (pc := 87) dX6_takes_87 0 rfl rfl ?_
        exact jm_retUi hk (pc := 88) dX6_takes_88
      · refine jj_iload_n hk (pc := 78) dX6_takes_78 0 rfl rfl ?_
        refine jj_aload_n hk (pc := 79) dX6_takes_79 1 rfl rfl ?_
        refine jm_g_about hk hK (pc := 80) dX6_takes_80 ?_
        refine jj_ixor hk (pc := 83) dX6_takes_83 ?_
        refine jj_goto hk (pc := 84) 88 dX6_takes_84 (by decide) ?_
        exact jm_retUi hk (pc := 88) dX6_takes_88
    · refine jj_iconst hk (pc := 64) (v := (0 : Int32)) dX6_takes_64 (by decide) ?_
      refine jj_iload_n hk (pc := 65) dX6_takes_65 0 rfl rfl ?_
      refine jj_isub hk (pc := 66) dX6_takes_66 ?_
      refine jj_goto hk (pc := 67) 88 dX6_takes_67 (by decide) ?_
      exact jm_retUi hk (pc := 88) dX6_takes_88
set_option maxHeartbeats 4000000 in
theorem cc_m_takes (l : Launch) (G : jG)  (μ : MS) (a0 : Int32) (res : (Int32 × MS)) (hf : m_takes μ a0 = some res) : jM l yX6_takes (ws_ yX6_takes cX6_takes 4 (some .int)) 2 43 [.ref (gh G), .int a0] (mWo G) (mnx G) (mK G) μ (jU res) (gA G) (gn G) := by
  refine jj_start [(0, .ref (gh G)), (1, .int a0)] (by decide) (Nat.le_of_ble_eq_true rfl) rfl (fun p e R s m args below meth c hk hK hsz => ?_) hf
  have hk : jk p R s m args meth c (gn G) cX6_takes 4 RX6 2 43 (some .int) := hk
  unfold m_takes
  refine jj_aload_n hk (pc := 0) dX6_takes_0 0 rfl rfl ?_
  refine jm_g_kindActing hk hK (pc := 1) dX6_takes_1 ?_
  refine jj_iconst hk (pc := 4) (v := (2 : Int32)) dX6_takes_4 (by decide) ?_
  refine jj_icmp_eq hk (pc := 5) 16 dX6_takes_5 (by decide) ?_ ?_
  · refine jj_iconst hk (pc := 16) (v := (1 : Int32)) dX6_takes_16 (by decide) ?_
    refine jj_goto hk (pc := 17) 21 dX6_takes_17 (by decide) ?_
    refine jj_istore_n hk (pc := 21) [(2, .int (1 : Int32)), (0, .ref (gh G)), (1, .int a0)] dX6_takes_21 rfl (Nat.le_of_ble_eq_true rfl) rfl ?_
    refine jj_iload_n hk (pc := 22) dX6_takes_22 0 rfl rfl ?_
    refine jj_if_eq_F hk (pc := 23) dX6_takes_23 32 (by decide) (by decide) ?_
    refine jj_aload_n hk (pc := 26) dX6_takes_26 1 rfl rfl ?_
    refine jj_bipush hk (pc := 27) (v := (30 : Int32)) dX6_takes_27 (by decide) ?_
    refine kc_m_runs hk hK (pc := 29) (a0 := (30 : Int32)) (fun r h => cc_m_runs l G μ (30 : Int32) r h) dX6_takes_29 ⟨Nat.le_of_ble_eq_true rfl, Nat.le_of_ble_eq_true rfl⟩ (Nat.le_of_ble_eq_true rfl) (fun r1 => ?_)
    refine jj_loc [(0, .ref (gh G)), (1, .int a0), (2, .int (bI true))] [1, 2, 0] rfl ?_
    exact wb_m_takes_B32 hk hK r1 a0 true
  · refine jj_aload_n hk (pc := 8) dX6_takes_8 0 rfl rfl ?_
    refine jm_g_kindActing hk hK (pc := 9) dX6_takes_9 ?_
    refine jj_iconst hk (pc := 12) (v := (3 : Int32)) dX6_takes_12 (by decide) ?_
    refine jj_icmp_ne hk (pc := 13) 20 dX6_takes_13 (by decide) ?_ ?_
    · refine jj_iconst hk (pc := 20) (v := (0 : Int32)) dX6_takes_20 (by decide) ?_
      refine jj_istore_n hk (pc := 21) [(2, .int (0 : Int32)), (0, .ref (gh G)), (1, .int a0)] dX6_takes_21 rfl (Nat.le_of_ble_eq_true rfl) rfl ?_
      refine jj_iload_n hk (pc := 22) dX6_takes_22 0 rfl rfl ?_
      refine jj_if_eq_T hk (pc := 23) 32 dX6_takes_23 (by decide) (by decide) ?_
      refine jj_loc [(0, .ref (gh G)), (1, .int a0), (2, .int (bI false))] [1, 2, 0] rfl ?_
      exact wb_m_takes_B32 hk hK μ a0 false
    · refine jj_iconst hk (pc := 16) (v := (1 : Int32)) dX6_takes_16 (by decide) ?_
      refine jj_goto hk (pc := 17) 21 dX6_takes_17 (by decide) ?_
      refine jj_istore_n hk (pc := 21) [(2, .int (1 : Int32)), (0, .ref (gh G)), (1, .int a0)] dX6_takes_21 rfl (Nat.le_of_ble_eq_true rfl) rfl ?_
      refine jj_iload_n hk (pc := 22) dX6_takes_22 0 rfl rfl ?_
      refine jj_if_eq_F hk (pc := 23) dX6_takes_23 32 (by decide) (by decide) ?_
      refine jj_aload_n hk (pc := 26) dX6_takes_26 1 rfl rfl ?_
      refine jj_bipush hk (pc := 27) (v := (30 : Int32)) dX6_takes_27 (by decide) ?_
      refine kc_m_runs hk hK (pc := 29) (a0 := (30 : Int32)) (fun r h => cc_m_runs l G μ (30 : Int32) r h) dX6_takes_29 ⟨Nat.le_of_ble_eq_true rfl, Nat.le_of_ble_eq_true rfl⟩ (Nat.le_of_ble_eq_true rfl) (fun r2 => ?_)
      refine jj_loc [(0, .ref (gh G)), (1, .int a0), (2, .int (bI true))] [1, 2, 0] rfl ?_
      exact wb_m_takes_B32 hk hK r2 a0 true
end
section
variable {p : Program} {l : Launch} {e : Env} {R : Room} {s : State} {m : MethodId} {args : Array Value} {below : List Frame} {meth : Method} {c : Code}
variable {G : jG}
variable {NX : Nat} {Q : State → Prop} {nL : Nat} {cc : ByteArray} {fr lo frc loc : Nat} {ret : Option FieldType}
variable {pc : Nat} {μ : MS} {lv : List (Nat × Value)} {st : List Value} {ρ : Type} {res : ρ}
theorem kc_m_takes (hk : jk p R s m args meth c NX cc nL RX6 fr lo ret) (hK : mK G s) {a0 : Int32} {F : Option (Int32 × MS)} {K : (Int32 × MS) → Option ρ} (hM : ∀ r, F = some r → jM l yX6_takes (ws_ yX6_takes cX6_takes 4 (some .int)) frc loc [.ref (gh G), .int a0] (mWo G) (mnx G) (mK G) μ (jU r) (gA G) (gn G)) (hd : decode cc pc = .ok (.invokevirtual 448, 3)) (hr : frc + 1 ≤ fr ∧ 8 + (4 + 11) + loc ≤ lo) (hw : (st.map fun v => v.category).sum ≤ 8) (kk : ∀ r, jj p l e R s m args below meth c (gA G) NX Q (mWo G) (mnx G) nL r.2 (pc + 3) lv (.int r.1 :: st) (K r = some res)) : jj p l e R s m args below meth c (gA G) NX Q (mWo G) (mnx G) nL μ pc lv (.int a0 :: .ref (gh G) :: st) (F.bind K = some res) :=
  jm_VUi (n := 1) hk hK [.int a0] hM (lw_V q2187 q2189 qs111 q127 q2190) (by decide +kernel) rfl rfl hd hr hw kk
end
section
variable {p : Program} {l : Launch} {e : Env} {R : Room} {s : State} {m : MethodId} {args : Array Value} {below : List Frame} {meth : Method} {c : Code}
variable {G : jG}
set_option maxHeartbeats 4000000 in
theorem cc_m_swears (l : Launch) (G : jG)  (μ : MS) (a0 : Int32) (res : (Int32 × MS)) (hf : m_swears μ a0 = some res) : jM l yX6_swears (ws_ yX6_swears cX6_swears 3 (some .int)) 3 66 [.ref (gh G), .int a0] (mWo G) (mnx G) (mK G) μ (jU res) (gA G) (gn G) := by
  refine jj_start [(0, .ref (gh G)), (1, .int a0)] (by decide) (Nat.le_of_ble_eq_true rfl) rfl (fun p e R s m args below meth c hk hK hsz => ?_) hf
  have hk : jk p R s m args meth c (gn G) cX6_swears 3 RX6 3 66 (some .int) := hk
  unfold m_swears
  refine jj_aload_n hk (pc := 0) dX6_swears_0 0 rfl rfl ?_
  refine jm_g_kindActing hk hK (pc := 1) dX6_swears_1 ?_
  refine jj_iconst hk (pc := 4) (v := (3 : Int32)) dX6_swears_4 (by decide) ?_
  refine jj_icmp_ne hk (pc := 5) 14 dX6_swears_5 (by decide) ?_ ?_
  · refine jj_aload_n hk (pc := 14) dX6_swears_14 0 rfl rfl ?_
    refine jj_bipush hk (pc := 15) (v := (13 : Int32)) dX6_swears_15 (by decide) ?_
    refine kc_m_runs hk hK (pc := 17) (a0 := (13 : Int32)) (fun r h => cc_m_runs l G μ (13 : Int32) r h) dX6_swears_17 ⟨Nat.le_of_ble_eq_true rfl, Nat.le_of_ble_eq_true rfl⟩ (Nat.le_of_ble_eq_true rfl) (fun r1 => ?_)
    refine jj_aload_n hk (pc := 20) dX6_swears_20 0 rfl rfl ?_
    refine jj_iload_n hk (pc := 21) dX6_swears_21 1 rfl rfl ?_
    refine kc_m_takes hk hK (pc := 22) (a0 := a0) (fun r h => cc_m_takes l G r1 a0 r h) dX6_swears_22 ⟨Nat.le_of_ble_eq_true rfl, Nat.le_of_ble_eq_true rfl⟩ (Nat.le_of_ble_eq_true rfl) (fun r2 => ?_)
    refine jj_aload_n hk (pc := 25) dX6_swears_25 0 rfl rfl ?_
    refine jm_g_acting hk hK (pc := 26) dX6_swears_26 ?_
    refine jj_ixor hk (pc := 29) dX6_swears_29 ?_
    refine jj_istore_n hk (pc := 30) [(2, .int (r2.1 ^^^ (r2.2.1 38))), (0, .ref (gh G)), (1, .int a0)] dX6_swears_30 rfl (Nat.le_of_ble_eq_true rfl) rfl ?_
    refine jj_aload_n hk (pc := 31) dX6_swears_31 1 rfl rfl ?_
    refine jm_g_kindActing hk hK (pc := 32) dX6_swears_32 ?_
    refine jj_iconst hk (pc := 35) (v := (3 : Int32)) dX6_swears_35 (by decide) ?_
    refine jj_icmp_ne hk (pc := 36) 52 dX6_swears_36 (by decide) ?_ ?_
    · refine jj_iload_n hk (pc := 52) dX6_swears_52 0 rfl rfl ?_
      exact jm_retUi hk (pc := 53) dX6_swears_53
    · refine jj_iload_n hk (pc := 39) dX6_swears_39 0 rfl rfl ?_
      refine jj_aload_n hk (pc := 40) dX6_swears_40 1 rfl rfl ?_
      refine jj_aload_n hk (pc := 41) dX6_swears_41 1 rfl rfl ?_
      refine jm_g_about hk hK (pc := 42) dX6_swears_42 ?_
      refine kc_m_splits hk hK (pc := 45) (a0 := (r2.2.1 39)) (fun r h => cc_m_splits l G r2.2 (r2.2.1 39) r h) dX6_swears_45 ⟨Nat.le_of_ble_eq_true rfl, Nat.le_of_ble_eq_true rfl⟩ (Nat.le_of_ble_eq_true rfl) (fun r3 => ?_)
      refine jj_isub hk (pc := 48) dX6_swears_48 ?_
      refine jj_goto hk (pc := 49) 53 dX6_swears_49 (by decide) ?_
      exact jm_retUi hk (pc := 53) dX6_swears_53
  · refine jj_aload_n hk (pc := 8) dX6_swears_8 0 rfl rfl ?_
    refine jj_bipush hk (pc := 9) (v := (51 : Int32)) dX6_swears_9 (by decide) ?_
    refine kc_m_runs hk hK (pc := 11) (a0 := (51 : Int32)) (fun r h => cc_m_runs l G μ (51 : Int32) r h) dX6_swears_11 ⟨Nat.le_of_ble_eq_true rfl, Nat.le_of_ble_eq_true rfl⟩ (Nat.le_of_ble_eq_true rfl) (fun r4 => ?_)
    refine jj_aload_n hk (pc := 14) dX6_swears_14 0 rfl rfl ?_
    refine jj_bipush hk (pc := 15) (v := (13 : Int32)) dX6_swears_15 (by decide) ?_
    refine kc_m_runs hk hK (pc := 17) (a0 := (13 : Int32)) (fun r h => cc_m_runs l G r4 (13 : Int32) r h) dX6_swears_17 ⟨Nat.le_of_ble_eq_true rfl, Nat.le_of_ble_eq_true rfl⟩ (Nat.le_of_ble_eq_true rfl) (fun r5 => ?_)
    refine jj_aload_n hk (pc := 20) dX6_swears_20 0 rfl rfl ?_
    refine jj_iload_n hk (pc := 21) dX6_swears_21 1 rfl rfl ?_
    refine kc_m_takes hk hK (pc := 22) (a0 := a0) (fun r h => cc_m_takes l G r5 a0 r h) dX6_swears_22 ⟨Nat.le_of_ble_eq_true rfl, Nat.le_of_ble_eq_true rfl⟩ (Nat.le_of_ble_eq_true rfl) (fun r6 => ?_)
    refine jj_aload_n hk (pc := 25) dX6_swears_25 0 rfl rfl ?_
    refine jm_g_acting hk hK (pc := 26) dX6_swears_26 ?_
    refine jj_ixor hk (pc := 29) dX6_swears_29 ?_
    refine jj_istore_n hk (pc := 30) [(2, .int (r6.1 ^^^ (r6.2.1 38))), (0, .ref (gh G)), (1, .int a0)] dX6_swears_30 rfl (Nat.le_of_ble_eq_true rfl) rfl ?_
    refine jj_aload_n hk (pc := 31) dX6_swears_31 1 rfl rfl ?_
    refine jm_g_kindActing hk hK (pc := 32) dX6_swears_32 ?_
    refine jj_iconst hk (pc := 35) (v := (3 : Int32)) dX6_swears_35 (by decide) ?_
    refine jj_icmp_ne hk (pc := 36) 52 dX6_swears_36 (by decide) ?_ ?_
    · refine jj_iload_n hk (pc := 52) dX6_swears_52 0 rfl rfl ?_
      exact jm_retUi hk (pc := 53) dX6_swears_53
    · refine jj_iload_n hk (pc := 39) dX6_swears_39 0 rfl rfl ?_
      refine jj_aload_n hk (pc := 40) dX6_swears_40 1 rfl rfl ?_
      refine jj_aload_n hk (pc := 41) dX6_swears_41 1 rfl rfl ?_
      refine jm_g_about hk hK (pc := 42) dX6_swears_42 ?_
      refine kc_m_splits hk hK (pc := 45) (a0 := (r6.2.1 39)) (fun r h => cc_m_splits l G r6.2 (r6.2.1 39) r h) dX6_swears_45 ⟨Nat.le_of_ble_eq_true rfl, Nat.le_of_ble_eq_true rfl⟩ (Nat.le_of_ble_eq_true rfl) (fun r7 => ?_)
      refine jj_isub hk (pc := 48) dX6_swears_48 ?_
      refine jj_goto hk (pc := 49) 53 dX6_swears_49 (by decide) ?_
      exact jm_retUi hk (pc := 53) dX6_swears_53
end
section
variable {p : Program} {l : Launch} {e : Env} {R : Room} {s : State} {m : MethodId} {args : Array Value} {below : List Frame} {meth : Method} {c : Code}
variable {G : jG}
variable {NX : Nat} {Q : State → Prop} {nL : Nat} {cc : ByteArray} {fr lo frc loc : Nat} {ret : Option FieldType}
variable {pc : Nat} {μ : MS} {lv : List (Nat × Value)} {st : List Value} {ρ : Type} {res : ρ}
theorem kc_m_swears (hk : jk p R s m args meth c NX cc nL RX6 fr lo ret) (hK : mK G s) {a0 : Int32} {F : Option (Int32 × MS)} {K : (Int32 × MS) → Option ρ} (hM : ∀ r, F = some r → jM l yX6_swears (ws_ yX6_swears cX6_swears 3 (some .int)) frc loc [.ref (gh G), .int a0] (mWo G) (mnx G) (mK G) μ (jU r) (gA G) (gn G)) (hd : decode cc pc = .ok (.invokevirtual 454, 3)) (hr : frc + 1 ≤ fr ∧ 8 + (3 + 11) + loc ≤ lo) (hw : (st.map fun v => v.category).sum ≤ 8) (kk : ∀ r, jj p l e R s m args below meth c (gA G) NX Q (mWo G) (mnx G) nL r.2 (pc + 3) lv (.int r.1 :: st) (K r = some res)) : jj p l e R s m args below meth c (gA G) NX Q (mWo G) (mnx G) nL μ pc lv (.int a0 :: .ref (gh G) :: st) (F.bind K = some res) :=
  jm_VUi (n := 1) hk hK [.int a0] hM (lw_V q2199 q2201 qs114 q127 q2202) (by decide +kernel) rfl rfl hd hr hw kk
end
section
variable {p : Program} {l : Launch} {e : Env} {R : Room} {s : State} {m : MethodId} {args : Array Value} {below : List Frame} {meth : Method} {c : Code}
variable {G : jG}
set_option maxHeartbeats 4000000 in
theorem cc_m_act (l : Launch) (G : jG)  (μ : MS) (a0 : Int32) (a1 : Int32) (a2 : Int32) (res : (Int32 × MS)) (hf : m_act μ a0 a1 a2 = some res) : jM l yX6_act (ws_ yX6_act cX6_act 5 (some .int)) 4 88 [.ref (gh G), .int a0, .int a1, .int a2] (mWo G) (mnx G) (mK G) μ (jU res) (gA G) (gn G) := by
  refine jj_start [(0, .ref (gh G)), (1, .int a0), (2, .int a1), (3, .int a2)] (by decide) (Nat.le_of_ble_eq_true rfl) rfl (fun p e R s m args below meth c hk hK hsz => ?_) hf
  have hk : jk p R s m args meth c (gn G) cX6_act 5 RX6 4 88 (some .int) := hk
  unfold m_act
  refine jj_aload_n hk (pc := 0) dX6_act_0 0 rfl rfl ?_
  refine jj_iconst hk (pc := 1) (v := (0 : Int32)) dX6_act_1 (by decide) ?_
  refine jm_p_bodies hk hK (pc := 2) dX6_act_2 (fun μ1 => ?_)
  refine jj_aload_n hk (pc := 5) dX6_act_5 0 rfl rfl ?_
  refine jj_iconst hk (pc := 6) (v := (0 : Int32)) dX6_act_6 (by decide) ?_
  refine jm_p_isParted hk hK (pc := 7) (b := false) dX6_act_7 (fun μ2 => ?_)
  refine jj_aload_n hk (pc := 10) dX6_act_10 0 rfl rfl ?_
  refine jj_aload_n hk (pc := 11) dX6_act_11 0 rfl rfl ?_
  refine jj_iload_n hk (pc := 12) dX6_act_12 1 rfl rfl ?_
  refine kc_m_onShelf hk hK (pc := 13) (a0 := a0) (fun r h => cc_m_onShelf l G μ2 a0 r h) dX6_act_13 ⟨Nat.le_of_ble_eq_true rfl, Nat.le_of_ble_eq_true rfl⟩ (Nat.le_of_ble_eq_true rfl) (fun r3 => ?_)
  refine jm_p_acting hk hK (pc := 16) dX6_act_16 (fun μ4 => ?_)
  refine jj_aload_n hk (pc := 19) dX6_act_19 0 rfl rfl ?_
  refine jm_g_acting hk hK (pc := 20) dX6_act_20 ?_
  refine jj_if_lt hk (pc := 23) 38 dX6_act_23 (by decide) ?_ ?_
  · refine jj_iconst hk (pc := 38) (v := (0 : Int32)) dX6_act_38 (by decide) ?_
    exact jm_retUi hk (pc := 39) dX6_act_39
  · refine jj_iload_n hk (pc := 26) dX6_act_26 2 rfl rfl ?_
    refine jj_i2l hk (pc := 27) dX6_act_27 ?_
    refine jj_lconst hk (pc := 28) (v := (0 : Int64)) dX6_act_28 (by decide) ?_
    refine jj_ldc2_w hk (pc := 29) q1924 dX6_act_29 ?_
    refine kc_m_in hk hK (pc := 32) (a0 := a1.toInt64) (a1 := (0 : Int64)) (a2 := (3 : Int64)) (fun r h => cc_m_in l G μ4 a1.toInt64 (0 : Int64) (3 : Int64) r h) dX6_act_32 ⟨Nat.le_of_ble_eq_true rfl, Nat.le_of_ble_eq_true rfl⟩ (Nat.le_of_ble_eq_true rfl) (fun r5 => ?_)
    refine jj_if_ne_b hk (pc := 35) 40 dX6_act_35 (by decide) ?_ ?_
    · refine jj_aload_n hk (pc := 40) dX6_act_40 0 rfl rfl ?_
      refine jj_aload_n hk (pc := 41) dX6_act_41 0 rfl rfl ?_
      refine jj_aload_n hk (pc := 42) dX6_act_42 0 rfl rfl ?_
      refine jm_g_acting hk hK (pc := 43) dX6_act_43 ?_
      refine jj_iconst hk (pc := 46) (v := (1 : Int32)) dX6_act_46 (by decide) ?_
      refine kc_m_its hk hK (pc := 47) (a0 := (μ4.1 38)) (a1 := (1 : Int32)) (fun r h => cc_m_its l G μ4 (μ4.1 38) (1 : Int32) r h) dX6_act_47 ⟨Nat.le_of_ble_eq_true rfl, Nat.le_of_ble_eq_true rfl⟩ (Nat.le_of_ble_eq_true rfl) (fun r6 => ?_)
      refine jm_p_about hk hK (pc := 50) dX6_act_50 (fun μ7 => ?_)
      refine jj_aload_n hk (pc := 53) dX6_act_53 0 rfl rfl ?_
      refine jj_aload_n hk (pc := 54) dX6_act_54 0 rfl rfl ?_
      refine jj_aload_n hk (pc := 55) dX6_act_55 0 rfl rfl ?_
      refine jm_g_acting hk hK (pc := 56) dX6_act_56 ?_
      refine jj_iconst hk (pc := 59) (v := (0 : Int32)) dX6_act_59 (by decide) ?_
      refine kc_m_its hk hK (pc := 60) (a0 := (μ7.1 38)) (a1 := (0 : Int32)) (fun r h => cc_m_its l G μ7 (μ7.1 38) (0 : Int32) r h) dX6_act_60 ⟨Nat.le_of_ble_eq_true rfl, Nat.le_of_ble_eq_true rfl⟩ (Nat.le_of_ble_eq_true rfl) (fun r8 => ?_)
      refine jm_p_kindActing hk hK (pc := 63) dX6_act_63 (fun μ9 => ?_)
      refine jj_iload_n hk (pc := 66) dX6_act_66 2 rfl rfl ?_
      refine jj_if_ne hk (pc := 67) 78 dX6_act_67 (by decide) ?_ ?_
      · refine jj_iload_n hk (pc := 78) dX6_act_78 2 rfl rfl ?_
        refine jj_iconst hk (pc := 79) (v := (1 : Int32)) dX6_act_79 (by decide) ?_
        refine jj_icmp_ne hk (pc := 80) 91 dX6_act_80 (by decide) ?_ ?_
        · refine jj_iload_n hk (pc := 91) dX6_act_91 2 rfl rfl ?_
          refine jj_iconst hk (pc := 92) (v := (2 : Int32)) dX6_act_92 (by decide) ?_
          refine jj_icmp_ne hk (pc := 93) 104 dX6_act_93 (by decide) ?_ ?_
          · refine jj_aload_n hk (pc := 104) dX6_act_104 0 rfl rfl ?_
            refine jj_iload_n hk (pc := 105) dX6_act_105 3 rfl rfl ?_
            refine kc_m_swears hk hK (pc := 106) (a0 := a2) (fun r h => cc_m_swears l G μ9 a2 r h) dX6_act_106 ⟨Nat.le_of_ble_eq_true rfl, Nat.le_of_ble_eq_true rfl⟩ (Nat.le_of_ble_eq_true rfl) (fun r10 => ?_)
            refine jj_istore hk (pc := 109) [(4, .int r10.1), (0, .ref (gh G)), (1, .int a0), (2, .int a1), (3, .int a2)] dX6_act_109 (Nat.le_of_ble_eq_true rfl) rfl ?_
            refine jj_aload_n hk (pc := 111) dX6_act_111 1 rfl rfl ?_
            refine jm_g_isParted hk hK (pc := 112) dX6_act_112 ?_
            refine jj_if_eq hk (pc := 115) 123 dX6_act_115 (by decide) ?_ ?_
            · refine jj_iload hk (pc := 123) dX6_act_123 0 rfl ?_
              exact jm_retUi hk (pc := 125) dX6_act_125
            · refine jj_bipush hk (pc := 118) (v := (-15 : Int32)) dX6_act_118 (by decide) ?_
              refine jj_goto hk (pc := 120) 125 dX6_act_120 (by decide) ?_
              exact jm_retUi hk (pc := 125) dX6_act_125
          · refine jj_aload_n hk (pc := 96) dX6_act_96 0 rfl rfl ?_
            refine jj_iload_n hk (pc := 97) dX6_act_97 3 rfl rfl ?_
            refine kc_m_splits hk hK (pc := 98) (a0 := a2) (fun r h => cc_m_splits l G μ9 a2 r h) dX6_act_98 ⟨Nat.le_of_ble_eq_true rfl, Nat.le_of_ble_eq_true rfl⟩ (Nat.le_of_ble_eq_true rfl) (fun r11 => ?_)
            refine jj_goto hk (pc := 101) 109 dX6_act_101 (by decide) ?_
            refine jj_istore hk (pc := 109) [(4, .int r11.1), (0, .ref (gh G)), (1, .int a0), (2, .int a1), (3, .int a2)] dX6_act_109 (Nat.le_of_ble_eq_true rfl) rfl ?_
            refine jj_aload_n hk (pc := 111) dX6_act_111 1 rfl rfl ?_
            refine jm_g_isParted hk hK (pc := 112) dX6_act_112 ?_
            refine jj_if_eq hk (pc := 115) 123 dX6_act_115 (by decide) ?_ ?_
            · refine jj_iload hk (pc := 123) dX6_act_123 0 rfl ?_
              exact jm_retUi hk (pc := 125) dX6_act_125
            · refine jj_bipush hk (pc := 118) (v := (-15 : Int32)) dX6_act_118 (by decide) ?_
              refine jj_goto hk (pc := 120) 125 dX6_act_120 (by decide) ?_
              exact jm_retUi hk (pc := 125) dX6_act_125
        · refine jj_aload_n hk (pc := 83) dX6_act_83 0 rfl rfl ?_
          refine jj_iload_n hk (pc := 84) dX6_act_84 3 rfl rfl ?_
          refine kc_m_takes hk hK (pc := 85) (a0 := a2) (fun r h => cc_m_takes l G μ9 a2 r h) dX6_act_85 ⟨Nat.le_of_ble_eq_true rfl, Nat.le_of_ble_eq_true rfl⟩ (Nat.le_of_ble_eq_true rfl) (fun r12 => ?_)
          refine jj_goto hk (pc := 88) 109 dX6_act_88 (by decide) ?_
          refine jj_istore hk (pc := 109) [(4, .int r12.1), (0, .ref (gh G)), (1, .int a0), (2, .int a1), (3, .int a2)] dX6_act_109 (Nat.le_of_ble_eq_true rfl) rfl ?_
          refine jj_aload_n hk (pc := 111) dX6_act_111 1 rfl rfl ?_
          refine jm_g_isParted hk hK (pc := 112) dX6_act_112 ?_
          refine jj_if_eq hk (pc := 115) 123 dX6_act_115 (by decide) ?_ ?_
          · refine jj_iload hk (pc := 123) dX6_act_123 0 rfl ?_
            exact jm_retUi hk (pc := 125) dX6_act_125
          · refine jj_bipush hk (pc := 118) (v := (-15 : Int32)) dX6_act_118 (by decide) ?_
            refine jj_goto hk (pc := 120) 125 dX6_act_120 (by decide) ?_
            exact jm_retUi hk (pc := 125) dX6_act_125
      · refine jj_aload_n hk (pc := 70) dX6_act_70 0 rfl rfl ?_
        refine jj_iload_n hk (pc := 71) dX6_act_71 3 rfl rfl ?_
        refine kc_m_gives hk hK (pc := 72) (a0 := a2) (fun r h => cc_m_gives l G μ9 a2 r h) dX6_act_72 ⟨Nat.le_of_ble_eq_true rfl, Nat.le_of_ble_eq_true rfl⟩ (Nat.le_of_ble_eq_true rfl) (fun r13 => ?_)
        refine jj_goto hk (pc := 75) 109 dX6_act_75 (by decide) ?_
        refine jj_istore hk (pc := 109) [(4, .int r13.1), (0, .ref (gh G)), (1, .int a0), (2, .int a1), (3, .int a2)] dX6_act_109 (Nat.le_of_ble_eq_true rfl) rfl ?_
        refine jj_aload_n hk (pc := 111) dX6_act_111 1 rfl rfl ?_
        refine jm_g_isParted hk hK (pc := 112) dX6_act_112 ?_
        refine jj_if_eq hk (pc := 115) 123 dX6_act_115 (by decide) ?_ ?_
        · refine jj_iload hk (pc := 123) dX6_act_123 0 rfl ?_
          exact jm_retUi hk (pc := 125) dX6_act_125
        · refine jj_bipush hk (pc := 118) (v := (-15 : Int32)) dX6_act_118 (by decide) ?_
          refine jj_goto hk (pc := 120) 125 dX6_act_120 (by decide) ?_
          exact jm_retUi hk (pc := 125) dX6_act_125
    · refine jj_iconst hk (pc := 38) (v := (0 : Int32)) dX6_act_38 (by decide) ?_
      exact jm_retUi hk (pc := 39) dX6_act_39
end
section
variable {p : Program} {l : Launch} {e : Env} {R : Room} {s : State} {m : MethodId} {args : Array Value} {below : List Frame} {meth : Method} {c : Code}
variable {G : jG}
set_option maxHeartbeats 4000000 in
theorem cc_m_traced (l : Launch) (G : jG)  (μ : MS)  (res : Int32) (hf : m_traced μ = some res) : jM l yX6_traced (ws_ yX6_traced cX6_traced 1 (some .int)) 0 0 [.ref (gh G)] (mWo G) (mnx G) (mK G) μ (jR μ res) (gA G) (gn G) := by
  refine jj_start [(0, .ref (gh G))] (by decide) (Nat.le_of_ble_eq_true rfl) rfl (fun p e R s m args below meth c hk hK hsz => ?_) hf
  have hk : jk p R s m args meth c (gn G) cX6_traced 1 RX6 0 0 (some .int) := hk
  unfold m_traced
  refine jj_aload_n hk (pc := 0) dX6_traced_0 0 rfl rfl ?_
  refine jm_g_bodies hk hK (pc := 1) dX6_traced_1 ?_
  refine jj_bipush hk (pc := 4) (v := (30 : Int32)) dX6_traced_4 (by decide) ?_
  refine jj_icmp_ge hk (pc := 6) 16 dX6_traced_6 (by decide) ?_ ?_
  · refine jj_bipush hk (pc := 16) (v := (30 : Int32)) dX6_traced_16 (by decide) ?_
    exact jm_retRi hk (pc := 18) dX6_traced_18
  · refine jj_aload_n hk (pc := 9) dX6_traced_9 0 rfl rfl ?_
    refine jm_g_bodies hk hK (pc := 10) dX6_traced_10 ?_
    refine jj_goto hk (pc := 13) 18 dX6_traced_13 (by decide) ?_
    exact jm_retRi hk (pc := 18) dX6_traced_18
end
section
variable {p : Program} {l : Launch} {e : Env} {R : Room} {s : State} {m : MethodId} {args : Array Value} {below : List Frame} {meth : Method} {c : Code}
variable {G : jG}
variable {NX : Nat} {Q : State → Prop} {nL : Nat} {cc : ByteArray} {fr lo frc loc : Nat} {ret : Option FieldType}
variable {pc : Nat} {μ : MS} {lv : List (Nat × Value)} {st : List Value} {ρ : Type} {res : ρ}
theorem kc_m_traced (hk : jk p R s m args meth c NX cc nL RX6 fr lo ret) (hK : mK G s)  {F : Option Int32} {K : Int32 → Option ρ} (hM : ∀ r, F = some r → jM l yX6_traced (ws_ yX6_traced cX6_traced 1 (some .int)) frc loc [.ref (gh G)] (mWo G) (mnx G) (mK G) μ (jR μ r) (gA G) (gn G)) (hd : decode cc pc = .ok (.invokevirtual 457, 3)) (hr : frc + 1 ≤ fr ∧ 8 + (1 + 11) + loc ≤ lo) (hw : (st.map fun v => v.category).sum ≤ 8) (kk : ∀ r, jj p l e R s m args below meth c (gA G) NX Q (mWo G) (mnx G) nL μ (pc + 3) lv (.int r :: st) (K r = some res)) : jj p l e R s m args below meth c (gA G) NX Q (mWo G) (mnx G) nL μ pc lv (.ref (gh G) :: st) (F.bind K = some res) :=
  jm_VRi (n := 0) hk hK [] hM (lw_V q2207 q2209 qs115 q127 q2210) (by decide +kernel) rfl rfl hd hr hw kk
end
section
variable {p : Program} {l : Launch} {e : Env} {R : Room} {s : State} {m : MethodId} {args : Array Value} {below : List Frame} {meth : Method} {c : Code}
variable {G : jG}
set_option maxHeartbeats 4000000 in
theorem cc_m_trace (l : Launch) (G : jG)  (μ : MS) (a0 : Int32) (res : Int32) (hf : m_trace μ a0 = some res) : jM l yX6_trace (ws_ yX6_trace cX6_trace 2 (some .int)) 1 25 [.ref (gh G), .int a0] (mWo G) (mnx G) (mK G) μ (jR μ res) (gA G) (gn G) := by
  refine jj_start [(0, .ref (gh G)), (1, .int a0)] (by decide) (Nat.le_of_ble_eq_true rfl) rfl (fun p e R s m args below meth c hk hK hsz => ?_) hf
  have hk : jk p R s m args meth c (gn G) cX6_trace 2 RX6 1 25 (some .int) := hk
  unfold m_trace
  refine jj_iload_n hk (pc := 0) dX6_trace_0 1 rfl rfl ?_
  refine jj_i2l hk (pc := 1) dX6_trace_1 ?_
  refine jj_lconst hk (pc := 2) (v := (0 : Int64)) dX6_trace_2 (by decide) ?_
  refine jj_aload_n hk (pc := 3) dX6_trace_3 0 rfl rfl ?_
  refine kc_m_traced hk hK (pc := 4)  (fun r h => cc_m_traced l G μ r h) dX6_trace_4 ⟨Nat.le_of_ble_eq_true rfl, Nat.le_of_ble_eq_true rfl⟩ (Nat.le_of_ble_eq_true rfl) (fun r1 => ?_)
  refine jj_iconst hk (pc := 7) (v := (1 : Int32)) dX6_trace_7 (by decide) ?_
  refine jj_isub hk (pc := 8) dX6_trace_8 ?_
  refine jj_i2l hk (pc := 9) dX6_trace_9 ?_
  refine kc_m_in hk hK (pc := 10) (a0 := a0.toInt64) (a1 := (0 : Int64)) (a2 := ((r1 - (1 : Int32)).toInt64)) (fun r h => cc_m_in l G μ a0.toInt64 (0 : Int64) ((r1 - (1 : Int32)).toInt64) r h) dX6_trace_10 ⟨Nat.le_of_ble_eq_true rfl, Nat.le_of_ble_eq_true rfl⟩ (Nat.le_of_ble_eq_true rfl) (fun r2 => ?_)
  refine jj_if_eq_b hk (pc := 13) 25 dX6_trace_13 (by decide) ?_ ?_
  · refine jj_bipush hk (pc := 25) (v := (-3 : Int32)) dX6_trace_25 (by decide) ?_
    exact jm_retRi hk (pc := 27) dX6_trace_27
  · refine jj_aload_n hk (pc := 16) dX6_trace_16 0 rfl rfl ?_
    refine jm_g_ran hk hK (pc := 17) dX6_trace_17 ?_
    refine jj_iload_n hk (pc := 20) dX6_trace_20 1 rfl rfl ?_
    refine jm_ld hk hK (pc := 21) (by decide) dX6_trace_21 (fun v3 => ?_)
    refine jj_goto hk (pc := 22) 27 dX6_trace_22 (by decide) ?_
    exact jm_retRi hk (pc := 27) dX6_trace_27
end
section
variable {p : Program} {l : Launch} {e : Env} {R : Room} {s : State} {m : MethodId} {args : Array Value} {below : List Frame} {meth : Method} {c : Code}
variable {G : jG}
set_option maxHeartbeats 4000000 in
theorem wb_m_loans_L4 {res : Int32} (hk : jk p R s m args meth c (gn G) cX6_loans 3 RX6 0 0 (some .int)) (hK : mK G s) (N : Nat) (μ : MS) : ∀ (n : Nat) (x1 : Int32) (x2 : Int32), jj p l e R s m args below meth c (gA G) (gn G) (jZ below args s (gA G) (gn G) (jR μ res) (mWo G) (mnx G)) (mWo G) (mnx G) 3 μ 4 [(0, .ref (gh G)), (1, .int x1), (2, .int x2)] [] (m_loans_L4 N μ n x1 x2 = some res) := by
  intro n
  induction n with
  | zero => intro x1 x2; exact jj_eq (fun hz => by rw [m_loans_L4] at hz; exact hz) jj_no
  | succ n ih =>
    intro x1 x2
    rw [m_loans_L4]
    refine jj_iload_n hk (pc := 4) dX6_loans_4 2 rfl rfl ?_
    refine jj_bipush hk (pc := 5) (v := (36 : Int32)) dX6_loans_5 (by decide) ?_
    refine jj_icmp_ge hk (pc := 7) 36 dX6_loans_7 (by decide) ?_ ?_
    · refine jj_iload_n hk (pc := 36) dX6_loans_36 1 rfl rfl ?_
      exact jm_retRi hk (pc := 37) dX6_loans_37
    · refine jj_iload_n hk (pc := 10) dX6_loans_10 1 rfl rfl ?_
      refine jj_aload_n hk (pc := 11) dX6_loans_11 0 rfl rfl ?_
      refine jm_g_s hk hK (pc := 12) dX6_loans_12 ?_
      refine jj_bipush hk (pc := 15) (v := (76 : Int32)) dX6_loans_15 (by decide) ?_
      refine jj_iload_n hk (pc := 17) dX6_loans_17 2 rfl rfl ?_
      refine jj_iadd hk (pc := 18) dX6_loans_18 ?_
      refine jm_ld hk hK (pc := 19) (by decide) dX6_loans_19 (fun v1 => ?_)
      refine jj_if_le hk (pc := 20) 27 dX6_loans_20 (by decide) ?_ ?_
      · refine jj_iconst hk (pc := 27) (v := (0 : Int32)) dX6_loans_27 (by decide) ?_
        refine jj_iadd hk (pc := 28) dX6_loans_28 ?_
        refine jj_istore_n hk (pc := 29) [(1, .int (x1 + (0 : Int32))), (0, .ref (gh G)), (2, .int x2)] dX6_loans_29 rfl (Nat.le_of_ble_eq_true rfl) rfl ?_
        refine jj_iinc hk (pc := 30) [(2, .int (x2 + 1)), (1, .int (x1 + (0 : Int32))), (0, .ref (gh G))] dX6_loans_30 2 rfl rfl (Nat.le_of_ble_eq_true rfl) rfl ?_
        refine jj_goto hk (pc := 33) 4 dX6_loans_33 (by decide) ?_
        refine jj_loc [(0, .ref (gh G)), (1, .int (x1 + (0 : Int32))), (2, .int (x2 + 1))] [2, 1, 0] rfl ?_
        exact ih (x1 + (0 : Int32)) (x2 + 1)
      · refine jj_iconst hk (pc := 23) (v := (1 : Int32)) dX6_loans_23 (by decide) ?_
        refine jj_goto hk (pc := 24) 28 dX6_loans_24 (by decide) ?_
        refine jj_iadd hk (pc := 28) dX6_loans_28 ?_
        refine jj_istore_n hk (pc := 29) [(1, .int (x1 + (1 : Int32))), (0, .ref (gh G)), (2, .int x2)] dX6_loans_29 rfl (Nat.le_of_ble_eq_true rfl) rfl ?_
        refine jj_iinc hk (pc := 30) [(2, .int (x2 + 1)), (1, .int (x1 + (1 : Int32))), (0, .ref (gh G))] dX6_loans_30 2 rfl rfl (Nat.le_of_ble_eq_true rfl) rfl ?_
        refine jj_goto hk (pc := 33) 4 dX6_loans_33 (by decide) ?_
        refine jj_loc [(0, .ref (gh G)), (1, .int (x1 + (1 : Int32))), (2, .int (x2 + 1))] [2, 1, 0] rfl ?_
        exact ih (x1 + (1 : Int32)) (x2 + 1)
set_option maxHeartbeats 4000000 in
theorem cc_m_loans (l : Launch) (G : jG) (N : Nat) (μ : MS)  (res : Int32) (hf : m_loans N μ = some res) : jM l yX6_loans (ws_ yX6_loans cX6_loans 3 (some .int)) 0 0 [.ref (gh G)] (mWo G) (mnx G) (mK G) μ (jR μ res) (gA G) (gn G) := by
  refine jj_start [(0, .ref (gh G))] (by decide) (Nat.le_of_ble_eq_true rfl) rfl (fun p e R s m args below meth c hk hK hsz => ?_) hf
  have hk : jk p R s m args meth c (gn G) cX6_loans 3 RX6 0 0 (some .int) := hk
  unfold m_loans
  refine jj_iconst hk (pc := 0) (v := (0 : Int32)) dX6_loans_0 (by decide) ?_
  refine jj_istore_n hk (pc := 1) [(1, .int (0 : Int32)), (0, .ref (gh G))] dX6_loans_1 rfl (Nat.le_of_ble_eq_true rfl) rfl ?_
  refine jj_iconst hk (pc := 2) (v := (0 : Int32)) dX6_loans_2 (by decide) ?_
  refine jj_istore_n hk (pc := 3) [(2, .int (0 : Int32)), (1, .int (0 : Int32)), (0, .ref (gh G))] dX6_loans_3 rfl (Nat.le_of_ble_eq_true rfl) rfl ?_
  refine jj_loc [(0, .ref (gh G)), (1, .int (0 : Int32)), (2, .int (0 : Int32))] [2, 1, 0] rfl ?_
  exact wb_m_loans_L4 hk hK N μ N (0 : Int32) (0 : Int32)
end
section
variable {p : Program} {l : Launch} {e : Env} {R : Room} {s : State} {m : MethodId} {args : Array Value} {below : List Frame} {meth : Method} {c : Code}
variable {G : jG}
variable {NX : Nat} {Q : State → Prop} {nL : Nat} {cc : ByteArray} {fr lo frc loc : Nat} {ret : Option FieldType}
variable {pc : Nat} {μ : MS} {lv : List (Nat × Value)} {st : List Value} {ρ : Type} {res : ρ}
theorem kc_m_loans (hk : jk p R s m args meth c NX cc nL RX6 fr lo ret) (hK : mK G s)  {F : Option Int32} {K : Int32 → Option ρ} (hM : ∀ r, F = some r → jM l yX6_loans (ws_ yX6_loans cX6_loans 3 (some .int)) frc loc [.ref (gh G)] (mWo G) (mnx G) (mK G) μ (jR μ r) (gA G) (gn G)) (hd : decode cc pc = .ok (.invokevirtual 460, 3)) (hr : frc + 1 ≤ fr ∧ 8 + (3 + 11) + loc ≤ lo) (hw : (st.map fun v => v.category).sum ≤ 8) (kk : ∀ r, jj p l e R s m args below meth c (gA G) NX Q (mWo G) (mnx G) nL μ (pc + 3) lv (.int r :: st) (K r = some res)) : jj p l e R s m args below meth c (gA G) NX Q (mWo G) (mnx G) nL μ pc lv (.ref (gh G) :: st) (F.bind K = some res) :=
  jm_VRi (n := 0) hk hK [] hM (lw_V q2215 q2217 qs116 q127 q2218) (by decide +kernel) rfl rfl hd hr hw kk
end
section
variable {p : Program} {l : Launch} {e : Env} {R : Room} {s : State} {m : MethodId} {args : Array Value} {below : List Frame} {meth : Method} {c : Code}
variable {G : jG}
set_option maxHeartbeats 4000000 in
theorem cc_m_many (l : Launch) (G : jG) (N : Nat) (μ : MS) (a0 : Int32) (res : Int32) (hf : m_many N μ a0 = some res) : jM l yX6_many (ws_ yX6_many cX6_many 2 (some .int)) 1 22 [.ref (gh G), .int a0] (mWo G) (mnx G) (mK G) μ (jR μ res) (gA G) (gn G) := by
  refine jj_start [(0, .ref (gh G)), (1, .int a0)] (by decide) (Nat.le_of_ble_eq_true rfl) rfl (fun p e R s m args below meth c hk hK hsz => ?_) hf
  have hk : jk p R s m args meth c (gn G) cX6_many 2 RX6 1 22 (some .int) := hk
  unfold m_many
  refine jj_iload_n hk (pc := 0) dX6_many_0 1 rfl rfl ?_
  refine jj_ite (fun c_1_0 => ?_) (fun c_1_0 => ?_)
  · refine jj_tIn hk (pc := 1) (k := (0 : Int32)) (t := 0) 48 c_1_0 dX6_many_1 (by decide) rfl rfl (by decide) ?_
    refine jj_aload_n hk (pc := 48) dX6_many_48 0 rfl rfl ?_
    refine jm_g_s hk hK (pc := 49) dX6_many_49 ?_
    refine jj_iconst hk (pc := 52) (v := (0 : Int32)) dX6_many_52 (by decide) ?_
    refine jm_ld hk hK (pc := 53) (by decide) dX6_many_53 (fun v1 => ?_)
    exact jm_retRi hk (pc := 54) dX6_many_54
  refine jj_ite (fun c_1_1 => ?_) (fun c_1_1 => ?_)
  · refine jj_tIn hk (pc := 1) (k := (1 : Int32)) (t := 1) 55 c_1_1 dX6_many_1 (by decide) rfl rfl (by decide) ?_
    refine jj_aload_n hk (pc := 55) dX6_many_55 0 rfl rfl ?_
    refine jm_g_s hk hK (pc := 56) dX6_many_56 ?_
    refine jj_iconst hk (pc := 59) (v := (1 : Int32)) dX6_many_59 (by decide) ?_
    refine jm_ld hk hK (pc := 60) (by decide) dX6_many_60 (fun v2 => ?_)
    exact jm_retRi hk (pc := 61) dX6_many_61
  refine jj_ite (fun c_1_2 => ?_) (fun c_1_2 => ?_)
  · refine jj_tIn hk (pc := 1) (k := (2 : Int32)) (t := 2) 62 c_1_2 dX6_many_1 (by decide) rfl rfl (by decide) ?_
    refine jj_aload_n hk (pc := 62) dX6_many_62 0 rfl rfl ?_
    refine jm_g_s hk hK (pc := 63) dX6_many_63 ?_
    refine jj_iconst hk (pc := 66) (v := (5 : Int32)) dX6_many_66 (by decide) ?_
    refine jm_ld hk hK (pc := 67) (by decide) dX6_many_67 (fun v3 => ?_)
    exact jm_retRi hk (pc := 68) dX6_many_68
  refine jj_ite (fun c_1_3 => ?_) (fun c_1_3 => ?_)
  · refine jj_tIn hk (pc := 1) (k := (3 : Int32)) (t := 3) 69 c_1_3 dX6_many_1 (by decide) rfl rfl (by decide) ?_
    refine jj_aload_n hk (pc := 69) dX6_many_69 0 rfl rfl ?_
    refine jm_g_s hk hK (pc := 70) dX6_many_70 ?_
    refine jj_bipush hk (pc := 73) (v := (6 : Int32)) dX6_many_73 (by decide) ?_
    refine jm_ld hk hK (pc := 75) (by decide) dX6_many_75 (fun v4 => ?_)
    exact jm_retRi hk (pc := 76) dX6_many_76
  refine jj_ite (fun c_1_4 => ?_) (fun c_1_4 => ?_)
  · refine jj_tIn hk (pc := 1) (k := (4 : Int32)) (t := 4) 77 c_1_4 dX6_many_1 (by decide) rfl rfl (by decide) ?_
    refine jj_aload_n hk (pc := 77) dX6_many_77 0 rfl rfl ?_
    refine jm_g_rowMany hk hK (pc := 78) dX6_many_78 ?_
    exact jm_retRi hk (pc := 81) dX6_many_81
  refine jj_ite (fun c_1_5 => ?_) (fun c_1_5 => ?_)
  · refine jj_tIn hk (pc := 1) (k := (5 : Int32)) (t := 5) 82 c_1_5 dX6_many_1 (by decide) rfl rfl (by decide) ?_
    refine jj_aload_n hk (pc := 82) dX6_many_82 0 rfl rfl ?_
    refine jm_g_taped hk hK (pc := 83) dX6_many_83 ?_
    exact jm_retRi hk (pc := 86) dX6_many_86
  refine jj_ite (fun c_1_6 => ?_) (fun c_1_6 => ?_)
  · refine jj_tIn hk (pc := 1) (k := (6 : Int32)) (t := 6) 87 c_1_6 dX6_many_1 (by decide) rfl rfl (by decide) ?_
    refine jj_aload_n hk (pc := 87) dX6_many_87 0 rfl rfl ?_
    refine kc_m_traced hk hK (pc := 88)  (fun r h => cc_m_traced l G μ r h) dX6_many_88 ⟨Nat.le_of_ble_eq_true rfl, Nat.le_of_ble_eq_true rfl⟩ (Nat.le_of_ble_eq_true rfl) (fun r5 => ?_)
    exact jm_retRi hk (pc := 91) dX6_many_91
  refine jj_ite (fun c_1_7 => ?_) (fun c_1_7 => ?_)
  · refine jj_tIn hk (pc := 1) (k := (7 : Int32)) (t := 7) 92 c_1_7 dX6_many_1 (by decide) rfl rfl (by decide) ?_
    refine jj_aload_n hk (pc := 92) dX6_many_92 0 rfl rfl ?_
    refine kc_m_loans hk hK (pc := 93)  (fun r h => cc_m_loans l G N μ r h) dX6_many_93 ⟨Nat.le_of_ble_eq_true rfl, Nat.le_of_ble_eq_true rfl⟩ (Nat.le_of_ble_eq_true rfl) (fun r6 => ?_)
    exact jm_retRi hk (pc := 96) dX6_many_96
  refine jj_tOut hk (pc := 1) 97 dX6_many_1 ?_ (by decide) ?_
  · have q0 := lv_neT (a := 0) c_1_0 (by decide); have q1 := lv_neT (a := 1) c_1_1 (by decide); have q2 := lv_neT (a := 2) c_1_2 (by decide); have q3 := lv_neT (a := 3) c_1_3 (by decide); have q4 := lv_neT (a := 4) c_1_4 (by decide); have q5 := lv_neT (a := 5) c_1_5 (by decide); have q6 := lv_neT (a := 6) c_1_6 (by decide); have q7 := lv_neT (a := 7) c_1_7 (by decide); omega
  refine jj_iconst hk (pc := 97) (v := (-1 : Int32)) dX6_many_97 (by decide) ?_
  exact jm_retRi hk (pc := 98) dX6_many_98
end
