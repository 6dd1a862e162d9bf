/-! THE MODEL's METHODS: contracts, printed by gen/gen.py -/
set_option maxRecDepth 100000
section
variable {p : Program} {l : Launch} {e : Env} {R : Room} {s : State} {m : MethodId} {args : Array Value} {below : List Frame} {meth : Method} {c : Code}
variable {G : jG}
set_option maxHeartbeats 4000000 in
theorem cc_m_isLong (l : Launch) (G : jG)  (μ : MS) (a0 : Int32) (res : Bool) (hf : m_isLong a0 = some res) : jM l yX6_isLong (ws_ yX6_isLong cX6_isLong 1 (some .boolean)) 1 25 [.int a0] (mWo G) (mnx G) (mK G) μ (jRz μ res) (gA G) (gn G) := by
  refine jj_start [(0, .int a0)] (by decide) (Nat.le_of_ble_eq_true rfl) rfl (fun p e R s m args below meth c hk hK hsz => ?_) hf
  have hk : jk p R s m args meth c (gn G) cX6_isLong 1 RX6 1 25 (some .boolean) := hk
  unfold m_isLong
  refine jj_iload_n hk (pc := 0) dX6_isLong_0 0 rfl rfl ?_
  refine jj_i2l hk (pc := 1) dX6_isLong_1 ?_
  refine jj_lconst hk (pc := 2) (v := (0 : Int64)) dX6_isLong_2 (by decide) ?_
  refine jj_ldc2_w hk (pc := 3) q1803 dX6_isLong_3 ?_
  refine kc_m_in hk hK (pc := 6) (a0 := a0.toInt64) (a1 := (0 : Int64)) (a2 := (4 : Int64)) (fun r h => cc_m_in l G μ a0.toInt64 (0 : Int64) (4 : Int64) r h) dX6_isLong_6 ⟨Nat.le_of_ble_eq_true rfl, Nat.le_of_ble_eq_true rfl⟩ (Nat.le_of_ble_eq_true rfl) (fun r1 => ?_)
  exact jm_retRz hk (pc := 9) (b := r1) dX6_isLong_9
end
section
variable {p : Program} {l : Launch} {e : Env} {R : Room} {s : State} {m : MethodId} {args : Array Value} {below : List Frame} {meth : Method} {c : Code}
variable {G : jG}
variable {NX : Nat} {Q : State → Prop} {nL : Nat} {cc : ByteArray} {fr lo frc loc : Nat} {ret : Option FieldType}
variable {pc : Nat} {μ : MS} {lv : List (Nat × Value)} {st : List Value} {ρ : Type} {res : ρ}
theorem kc_m_isLong (hk : jk p R s m args meth c NX cc nL RX6 fr lo ret) (hK : mK G s) {a0 : Int32} {F : Option Bool} {K : Bool → Option ρ} (hM : ∀ r, F = some r → jM l yX6_isLong (ws_ yX6_isLong cX6_isLong 1 (some .boolean)) frc loc [.int a0] (mWo G) (mnx G) (mK G) μ (jRz μ r) (gA G) (gn G)) (hd : decode cc pc = .ok (.invokestatic 214, 3)) (hr : frc + 1 ≤ fr ∧ 8 + (1 + 11) + loc ≤ lo) (hw : (st.map fun v => v.category).sum ≤ 8) (kk : ∀ r, jj p l e R s m args below meth c (gA G) NX Q (mWo G) (mnx G) nL μ (pc + 3) lv (.int (bI r) :: st) (K r = some res)) : jj p l e R s m args below meth c (gA G) NX Q (mWo G) (mnx G) nL μ pc lv (.int a0 :: st) (F.bind K = some res) :=
  jm_SRz (n := 1) hk hK [.int a0] hM (lw_S q1893 q1894 q127 q1895) (by decide +kernel) rfl rfl hd hr hw kk
end
section
variable {p : Program} {l : Launch} {e : Env} {R : Room} {s : State} {m : MethodId} {args : Array Value} {below : List Frame} {meth : Method} {c : Code}
variable {G : jG}
set_option maxHeartbeats 4000000 in
theorem wb_m_ended_L70 {res : MS} (hk : jk p R s m args meth c (gn G) cX6_ended 5 RX6 3 66 none) (hK : mK G s) (N : Nat) : ∀ (n : Nat) (μ : MS) (x1 : Int32) (x3 : Int32) (x4 : Int32), jj p l e R s m args below meth c (gA G) (gn G) (jZ below args s (gA G) (gn G) (jV res) (mWo G) (mnx G)) (mWo G) (mnx G) 5 μ 70 [(0, .ref (gh G)), (1, .int x1), (3, .int x3), (4, .int x4)] [] (m_ended_L70 N n μ x1 x3 x4 = some res) := by
  intro n
  induction n with
  | zero => intro μ x1 x3 x4; exact jj_eq (fun hz => by rw [m_ended_L70] at hz; exact hz) jj_no
  | succ n ih =>
    intro μ x1 x3 x4
    rw [m_ended_L70]
    refine jj_iload hk (pc := 70) dX6_ended_70 3 rfl ?_
    refine jj_iload_n hk (pc := 72) dX6_ended_72 1 rfl rfl ?_
    refine jj_icmp_ge hk (pc := 73) 100 dX6_ended_73 (by decide) ?_ ?_
    · refine jj_aload_n hk (pc := 100) dX6_ended_100 0 rfl rfl ?_
      refine jj_iconst hk (pc := 101) (v := (1 : Int32)) dX6_ended_101 (by decide) ?_
      refine kc_m_those hk hK (pc := 102) (a0 := (1 : Int32)) (fun r h => cc_m_those l G N μ (1 : Int32) r h) dX6_ended_102 ⟨Nat.le_of_ble_eq_true rfl, Nat.le_of_ble_eq_true rfl⟩ (Nat.le_of_ble_eq_true rfl) (fun r1 => ?_)
      refine jj_istore hk (pc := 105) [(4, .int r1), (0, .ref (gh G)), (1, .int x1), (3, .int x3)] dX6_ended_105 (Nat.le_of_ble_eq_true rfl) rfl ?_
      refine jj_aload_n hk (pc := 107) dX6_ended_107 1 rfl rfl ?_
      refine jj_dup hk (pc := 108) dX6_ended_108 rfl ?_
      refine jm_g_stood hk hK (pc := 109) dX6_ended_109 ?_
      refine jj_iload hk (pc := 112) dX6_ended_112 0 rfl ?_
      refine jj_ior hk (pc := 114) dX6_ended_114 ?_
      refine jm_p_stood hk hK (pc := 115) dX6_ended_115 (fun μ2 => ?_)
      refine jj_aload_n hk (pc := 118) dX6_ended_118 1 rfl rfl ?_
      refine jj_aload_n hk (pc := 119) dX6_ended_119 1 rfl rfl ?_
      refine jm_g_told hk hK (pc := 120) dX6_ended_120 ?_
      refine jj_iload hk (pc := 123) dX6_ended_123 0 rfl ?_
      refine jj_iconst hk (pc := 125) (v := (-1 : Int32)) dX6_ended_125 (by decide) ?_
      refine jj_ixor hk (pc := 126) dX6_ended_126 ?_
      refine jj_iand hk (pc := 127) dX6_ended_127 ?_
      refine jj_if_ne hk (pc := 128) 143 dX6_ended_128 (by decide) ?_ ?_
      · refine jj_aload_n hk (pc := 143) dX6_ended_143 1 rfl rfl ?_
        refine jm_g_fewest hk hK (pc := 144) dX6_ended_144 ?_
        refine jm_p_fewest hk hK (pc := 147) dX6_ended_147 (fun μ3 => ?_)
        exact jm_retV hk (pc := 150) dX6_ended_150
      · refine jj_iload_n hk (pc := 131) dX6_ended_131 3 rfl rfl ?_
        refine jj_aload_n hk (pc := 132) dX6_ended_132 1 rfl rfl ?_
        refine jm_g_fewest hk hK (pc := 133) dX6_ended_133 ?_
        refine jj_icmp_ge hk (pc := 136) 143 dX6_ended_136 (by decide) ?_ ?_
        · refine jj_aload_n hk (pc := 143) dX6_ended_143 1 rfl rfl ?_
          refine jm_g_fewest hk hK (pc := 144) dX6_ended_144 ?_
          refine jm_p_fewest hk hK (pc := 147) dX6_ended_147 (fun μ4 => ?_)
          exact jm_retV hk (pc := 150) dX6_ended_150
        · refine jj_iload_n hk (pc := 139) dX6_ended_139 3 rfl rfl ?_
          refine jj_goto hk (pc := 140) 147 dX6_ended_140 (by decide) ?_
          refine jm_p_fewest hk hK (pc := 147) dX6_ended_147 (fun μ5 => ?_)
          exact jm_retV hk (pc := 150) dX6_ended_150
    · refine jj_iload_n hk (pc := 76) dX6_ended_76 2 rfl rfl ?_
      refine jj_aload_n hk (pc := 77) dX6_ended_77 0 rfl rfl ?_
      refine jm_g_line hk hK (pc := 78) dX6_ended_78 ?_
      refine jj_iload hk (pc := 81) dX6_ended_81 3 rfl ?_
      refine jm_ld hk hK (pc := 83) (by decide) dX6_ended_83 (fun v6 => ?_)
      refine jj_if_le hk (pc := 84) 91 dX6_ended_84 (by decide) ?_ ?_
      · refine jj_iconst hk (pc := 91) (v := (0 : Int32)) dX6_ended_91 (by decide) ?_
        refine jj_iadd hk (pc := 92) dX6_ended_92 ?_
        refine jj_istore_n hk (pc := 93) [(3, .int (x3 + (0 : Int32))), (0, .ref (gh G)), (1, .int x1), (4, .int x4)] dX6_ended_93 rfl (Nat.le_of_ble_eq_true rfl) rfl ?_
        refine jj_iinc hk (pc := 94) [(4, .int (x4 + 1)), (3, .int (x3 + (0 : Int32))), (0, .ref (gh G)), (1, .int x1)] dX6_ended_94 3 rfl rfl (Nat.le_of_ble_eq_true rfl) rfl ?_
        refine jj_goto hk (pc := 97) 70 dX6_ended_97 (by decide) ?_
        refine jj_loc [(0, .ref (gh G)), (1, .int x1), (3, .int (x3 + (0 : Int32))), (4, .int (x4 + 1))] [2, 3, 1, 0] rfl ?_
        exact ih μ x1 (x3 + (0 : Int32)) (x4 + 1)
      · refine jj_iconst hk (pc := 87) (v := (1 : Int32)) dX6_ended_87 (by decide) ?_
        refine jj_goto hk (pc := 88) 92 dX6_ended_88 (by decide) ?_
        refine jj_iadd hk (pc := 92) dX6_ended_92 ?_
        refine jj_istore_n hk (pc := 93) [(3, .int (x3 + (1 : Int32))), (0, .ref (gh G)), (1, .int x1), (4, .int x4)] dX6_ended_93 rfl (Nat.le_of_ble_eq_true rfl) rfl ?_
        refine jj_iinc hk (pc := 94) [(4, .int (x4 + 1)), (3, .int (x3 + (1 : Int32))), (0, .ref (gh G)), (1, .int x1)] dX6_ended_94 3 rfl rfl (Nat.le_of_ble_eq_true rfl) rfl ?_
        refine jj_goto hk (pc := 97) 70 dX6_ended_97 (by decide) ?_
        refine jj_loc [(0, .ref (gh G)), (1, .int x1), (3, .int (x3 + (1 : Int32))), (4, .int (x4 + 1))] [2, 3, 1, 0] rfl ?_
        exact ih μ x1 (x3 + (1 : Int32)) (x4 + 1)
set_option maxHeartbeats 4000000 in
theorem wb_m_ended_L20 {res : MS} (hk : jk p R s m args meth c (gn G) cX6_ended 5 RX6 3 66 none) (hK : mK G s) (N : Nat) : ∀ (n : Nat) (μ : MS) (x1 : Int32) (x2 : Int32) (x3 : Int32), jj p l e R s m args below meth c (gA G) (gn G) (jZ below args s (gA G) (gn G) (jV res) (mWo G) (mnx G)) (mWo G) (mnx G) 5 μ 20 [(0, .ref (gh G)), (1, .int x1), (2, .int x2), (3, .int x3)] [] (m_ended_L20 N n μ x1 x2 x3 = some res) := by
  intro n
  induction n with
  | zero => intro μ x1 x2 x3; exact jj_eq (fun hz => by rw [m_ended_L20] at hz; exact hz) jj_no
  | succ n ih =>
    intro μ x1 x2 x3
    rw [m_ended_L20]
    refine jj_iload_n hk (pc := 20) dX6_ended_20 3 rfl rfl ?_
    refine jj_iload_n hk (pc := 21) dX6_ended_21 1 rfl rfl ?_
    refine jj_icmp_ge hk (pc := 22) 43 dX6_ended_22 (by decide) ?_ ?_
    · refine jj_aload_n hk (pc := 43) dX6_ended_43 0 rfl rfl ?_
      refine jj_dup hk (pc := 44) dX6_ended_44 rfl ?_
      refine jm_g_ways hk hK (pc := 45) dX6_ended_45 ?_
      refine jj_iload_n hk (pc := 48) dX6_ended_48 2 rfl rfl ?_
      refine jj_aload_n hk (pc := 49) dX6_ended_49 0 rfl rfl ?_
      refine jm_g_most hk hK (pc := 50) dX6_ended_50 ?_
      refine jj_icmp_ne hk (pc := 53) 60 dX6_ended_53 (by decide) ?_ ?_
      · refine jj_iconst hk (pc := 60) (v := (0 : Int32)) dX6_ended_60 (by decide) ?_
        refine jj_iadd hk (pc := 61) dX6_ended_61 ?_
        refine jm_p_ways hk hK (pc := 62) dX6_ended_62 (fun μ1 => ?_)
        refine jj_iconst hk (pc := 65) (v := (0 : Int32)) dX6_ended_65 (by decide) ?_
        refine jj_istore_n hk (pc := 66) [(3, .int (0 : Int32)), (0, .ref (gh G)), (1, .int x1), (2, .int x2)] dX6_ended_66 rfl (Nat.le_of_ble_eq_true rfl) rfl ?_
        refine jj_iconst hk (pc := 67) (v := (0 : Int32)) dX6_ended_67 (by decide) ?_
        refine jj_istore hk (pc := 68) [(4, .int (0 : Int32)), (3, .int (0 : Int32)), (0, .ref (gh G)), (1, .int x1), (2, .int x2)] dX6_ended_68 (Nat.le_of_ble_eq_true rfl) rfl ?_
        refine jj_loc [(0, .ref (gh G)), (1, .int x1), (3, .int (0 : Int32)), (4, .int (0 : Int32))] [2, 3, 1, 0] rfl ?_
        exact wb_m_ended_L70 hk hK N N μ1 x1 (0 : Int32) (0 : Int32)
      · refine jj_iconst hk (pc := 56) (v := (1 : Int32)) dX6_ended_56 (by decide) ?_
        refine jj_goto hk (pc := 57) 61 dX6_ended_57 (by decide) ?_
        refine jj_iadd hk (pc := 61) dX6_ended_61 ?_
        refine jm_p_ways hk hK (pc := 62) dX6_ended_62 (fun μ2 => ?_)
        refine jj_iconst hk (pc := 65) (v := (0 : Int32)) dX6_ended_65 (by decide) ?_
        refine jj_istore_n hk (pc := 66) [(3, .int (0 : Int32)), (0, .ref (gh G)), (1, .int x1), (2, .int x2)] dX6_ended_66 rfl (Nat.le_of_ble_eq_true rfl) rfl ?_
        refine jj_iconst hk (pc := 67) (v := (0 : Int32)) dX6_ended_67 (by decide) ?_
        refine jj_istore hk (pc := 68) [(4, .int (0 : Int32)), (3, .int (0 : Int32)), (0, .ref (gh G)), (1, .int x1), (2, .int x2)] dX6_ended_68 (Nat.le_of_ble_eq_true rfl) rfl ?_
        refine jj_loc [(0, .ref (gh G)), (1, .int x1), (3, .int (0 : Int32)), (4, .int (0 : Int32))] [2, 3, 1, 0] rfl ?_
        exact wb_m_ended_L70 hk hK N N μ2 x1 (0 : Int32) (0 : Int32)
    · refine jj_aload_n hk (pc := 25) dX6_ended_25 0 rfl rfl ?_
      refine jm_g_first hk hK (pc := 26) dX6_ended_26 ?_
      refine jj_iload_n hk (pc := 29) dX6_ended_29 3 rfl rfl ?_
      refine jj_aload_n hk (pc := 30) dX6_ended_30 0 rfl rfl ?_
      refine jm_g_line hk hK (pc := 31) dX6_ended_31 ?_
      refine jj_iload_n hk (pc := 34) dX6_ended_34 3 rfl rfl ?_
      refine jm_ld hk hK (pc := 35) (by decide) dX6_ended_35 (fun v3 => ?_)
      refine jm_st hk hK (pc := 36) (by decide) dX6_ended_36 (fun μ4 => ?_)
      refine jj_iinc hk (pc := 37) [(3, .int (x3 + 1)), (0, .ref (gh G)), (1, .int x1), (2, .int x2)] dX6_ended_37 3 rfl rfl (Nat.le_of_ble_eq_true rfl) rfl ?_
      refine jj_goto hk (pc := 40) 20 dX6_ended_40 (by decide) ?_
      refine jj_loc [(0, .ref (gh G)), (1, .int x1), (2, .int x2), (3, .int (x3 + 1))] [1, 2, 3, 0] rfl ?_
      exact ih μ4 x1 x2 (x3 + 1)
set_option maxHeartbeats 4000000 in
theorem cc_m_ended (l : Launch) (G : jG) (N : Nat) (μ : MS) (a0 : Int32) (a1 : Int32) (res : MS) (hf : m_ended N μ a0 a1 = some res) : jM l yX6_ended (ws_ yX6_ended cX6_ended 5 none) 3 66 [.ref (gh G), .int a0, .int a1] (mWo G) (mnx G) (mK G) μ (jV res) (gA G) (gn G) := by
  refine jj_start [(0, .ref (gh G)), (1, .int a0), (2, .int a1)] (by decide) (Nat.le_of_ble_eq_true rfl) rfl (fun p e R s m args below meth c hk hK hsz => ?_) hf
  have hk : jk p R s m args meth c (gn G) cX6_ended 5 RX6 3 66 none := hk
  unfold m_ended
  refine jj_iload_n hk (pc := 0) dX6_ended_0 2 rfl rfl ?_
  refine jj_aload_n hk (pc := 1) dX6_ended_1 0 rfl rfl ?_
  refine jm_g_most hk hK (pc := 2) dX6_ended_2 ?_
  refine jj_icmp_le hk (pc := 5) 43 dX6_ended_5 (by decide) ?_ ?_
  · refine jj_aload_n hk (pc := 43) dX6_ended_43 0 rfl rfl ?_
    refine jj_dup hk (pc := 44) dX6_ended_44 rfl ?_
    refine jm_g_ways hk hK (pc := 45) dX6_ended_45 ?_
    refine jj_iload_n hk (pc := 48) dX6_ended_48 2 rfl rfl ?_
    refine jj_aload_n hk (pc := 49) dX6_ended_49 0 rfl rfl ?_
    refine jm_g_most hk hK (pc := 50) dX6_ended_50 ?_
    refine jj_icmp_ne hk (pc := 53) 60 dX6_ended_53 (by decide) ?_ ?_
    · refine jj_iconst hk (pc := 60) (v := (0 : Int32)) dX6_ended_60 (by decide) ?_
      refine jj_iadd hk (pc := 61) dX6_ended_61 ?_
      refine jm_p_ways hk hK (pc := 62) dX6_ended_62 (fun μ1 => ?_)
      refine jj_iconst hk (pc := 65) (v := (0 : Int32)) dX6_ended_65 (by decide) ?_
      refine jj_istore_n hk (pc := 66) [(3, .int (0 : Int32)), (0, .ref (gh G)), (1, .int a0), (2, .int a1)] dX6_ended_66 rfl (Nat.le_of_ble_eq_true rfl) rfl ?_
      refine jj_iconst hk (pc := 67) (v := (0 : Int32)) dX6_ended_67 (by decide) ?_
      refine jj_istore hk (pc := 68) [(4, .int (0 : Int32)), (3, .int (0 : Int32)), (0, .ref (gh G)), (1, .int a0), (2, .int a1)] dX6_ended_68 (Nat.le_of_ble_eq_true rfl) rfl ?_
      refine jj_loc [(0, .ref (gh G)), (1, .int a0), (3, .int (0 : Int32)), (4, .int (0 : Int32))] [2, 3, 1, 0] rfl ?_
      exact wb_m_ended_L70 hk hK N N μ1 a0 (0 : Int32) (0 : Int32)
    · refine jj_iconst hk (pc := 56) (v := (1 : Int32)) dX6_ended_56 (by decide) ?_
      refine jj_goto hk (pc := 57) 61 dX6_ended_57 (by decide) ?_
      refine jj_iadd hk (pc := 61) dX6_ended_61 ?_
      refine jm_p_ways hk hK (pc := 62) dX6_ended_62 (fun μ2 => ?_)
      refine jj_iconst hk (pc := 65) (v := (0 : Int32)) dX6_ended_65 (by decide) ?_
      refine jj_istore_n hk (pc := 66) [(3, .int (0 : Int32)), (0, .ref (gh G)), (1, .int a0), (2, .int a1)] dX6_ended_66 rfl (Nat.le_of_ble_eq_true rfl) rfl ?_
      refine jj_iconst hk (pc := 67) (v := (0 : Int32)) dX6_ended_67 (by decide) ?_
      refine jj_istore hk (pc := 68) [(4, .int (0 : Int32)), (3, .int (0 : Int32)), (0, .ref (gh G)), (1, .int a0), (2, .int a1)] dX6_ended_68 (Nat.le_of_ble_eq_true rfl) rfl ?_
      refine jj_loc [(0, .ref (gh G)), (1, .int a0), (3, .int (0 : Int32)), (4, .int (0 : Int32))] [2, 3, 1, 0] rfl ?_
      exact wb_m_ended_L70 hk hK N N μ2 a0 (0 : Int32) (0 : Int32)
  · refine jj_aload_n hk (pc := 8) dX6_ended_8 0 rfl rfl ?_
    refine jj_iload_n hk (pc := 9) dX6_ended_9 2 rfl rfl ?_
    refine jm_p_most hk hK (pc := 10) dX6_ended_10 (fun μ3 => ?_)
    refine jj_aload_n hk (pc := 13) dX6_ended_13 0 rfl rfl ?_
    refine jj_iconst hk (pc := 14) (v := (0 : Int32)) dX6_ended_14 (by decide) ?_
    refine jm_p_ways hk hK (pc := 15) dX6_ended_15 (fun μ4 => ?_)
    refine jj_iconst hk (pc := 18) (v := (0 : Int32)) dX6_ended_18 (by decide) ?_
    refine jj_istore_n hk (pc := 19) [(3, .int (0 : Int32)), (0, .ref (gh G)), (1, .int a0), (2, .int a1)] dX6_ended_19 rfl (Nat.le_of_ble_eq_true rfl) rfl ?_
    refine jj_loc [(0, .ref (gh G)), (1, .int a0), (2, .int a1), (3, .int (0 : Int32))] [1, 2, 3, 0] rfl ?_
    exact wb_m_ended_L20 hk hK N N μ4 a0 a1 (0 : Int32)
end
section
variable {p : Program} {l : Launch} {e : Env} {R : Room} {s : State} {m : MethodId} {args : Array Value} {below : List Frame} {meth : Method} {c : Code}
variable {G : jG}
variable {NX : Nat} {Q : State → Prop} {nL : Nat} {cc : ByteArray} {fr lo frc loc : Nat} {ret : Option FieldType}
variable {pc : Nat} {μ : MS} {lv : List (Nat × Value)} {st : List Value} {ρ : Type} {res : ρ}
theorem kc_m_ended (hk : jk p R s m args meth c NX cc nL RX6 fr lo ret) (hK : mK G s) {a0 : Int32} {a1 : Int32} {F : Option MS} {K : MS → Option ρ} (hM : ∀ r, F = some r → jM l yX6_ended (ws_ yX6_ended cX6_ended 5 none) frc loc [.ref (gh G), .int a0, .int a1] (mWo G) (mnx G) (mK G) μ (jV r) (gA G) (gn G)) (hd : decode cc pc = .ok (.invokevirtual 197, 3)) (hr : frc + 1 ≤ fr ∧ 8 + (5 + 11) + loc ≤ lo) (hw : (st.map fun v => v.category).sum ≤ 8) (kk : ∀ r, jj p l e R s m args below meth c (gA G) NX Q (mWo G) (mnx G) nL r (pc + 3) lv st (K r = some res)) : jj p l e R s m args below meth c (gA G) NX Q (mWo G) (mnx G) nL μ pc lv (.int a1 :: .int a0 :: .ref (gh G) :: st) (F.bind K = some res) :=
  jm_VV (n := 2) hk hK [.int a0, .int a1] hM (lw_V q1908 q1910 qs80 q127 q1911) (by decide +kernel) rfl rfl hd hr hw kk
end
section
variable {p : Program} {l : Launch} {e : Env} {R : Room} {s : State} {m : MethodId} {args : Array Value} {below : List Frame} {meth : Method} {c : Code}
variable {G : jG}
set_option maxHeartbeats 4000000 in
theorem wb_m_saves_L2 {res : MS} (hk : jk p R s m args meth c (gn G) cX6_saves 3 RX6 2 43 none) (hK : mK G s) (N : Nat) : ∀ (n : Nat) (μ : MS) (x1 : Int32) (x2 : Int32), jj p l e R s m args below meth c (gA G) (gn G) (jZ below args s (gA G) (gn G) (jV res) (mWo G) (mnx G)) (mWo G) (mnx G) 3 μ 2 [(0, .ref (gh G)), (1, .int x1), (2, .int x2)] [] (m_saves_L2 N n μ x1 x2 = some res) := by
  intro n
  induction n with
  | zero => intro μ x1 x2; exact jj_eq (fun hz => by rw [m_saves_L2] at hz; exact hz) jj_no
  | succ n ih =>
    intro μ x1 x2
    rw [m_saves_L2]
    refine jj_iload_n hk (pc := 2) dX6_saves_2 2 rfl rfl ?_
    refine jj_bipush hk (pc := 3) (v := (10 : Int32)) dX6_saves_3 (by decide) ?_
    refine jj_icmp_ge hk (pc := 5) 31 dX6_saves_5 (by decide) ?_ ?_
    · refine jj_aload_n hk (pc := 31) dX6_saves_31 0 rfl rfl ?_
      refine jm_g_saved hk hK (pc := 32) dX6_saves_32 ?_
      refine jj_bipush hk (pc := 35) (v := (12 : Int32)) dX6_saves_35 (by decide) ?_
      refine jj_iload_n hk (pc := 37) dX6_saves_37 1 rfl rfl ?_
      refine jj_imul hk (pc := 38) dX6_saves_38 ?_
      refine jj_bipush hk (pc := 39) (v := (10 : Int32)) dX6_saves_39 (by decide) ?_
      refine jj_iadd hk (pc := 41) dX6_saves_41 ?_
      refine jj_aload_n hk (pc := 42) dX6_saves_42 0 rfl rfl ?_
      refine jm_g_s hk hK (pc := 43) dX6_saves_43 ?_
      refine jj_iconst hk (pc := 46) (v := (3 : Int32)) dX6_saves_46 (by decide) ?_
      refine jm_ld hk hK (pc := 47) (by decide) dX6_saves_47 (fun v1 => ?_)
      refine jm_st hk hK (pc := 48) (by decide) dX6_saves_48 (fun μ2 => ?_)
      refine jj_aload_n hk (pc := 49) dX6_saves_49 0 rfl rfl ?_
      refine jm_g_saved hk hK (pc := 50) dX6_saves_50 ?_
      refine jj_bipush hk (pc := 53) (v := (12 : Int32)) dX6_saves_53 (by decide) ?_
      refine jj_iload_n hk (pc := 55) dX6_saves_55 1 rfl rfl ?_
      refine jj_imul hk (pc := 56) dX6_saves_56 ?_
      refine jj_bipush hk (pc := 57) (v := (11 : Int32)) dX6_saves_57 (by decide) ?_
      refine jj_iadd hk (pc := 59) dX6_saves_59 ?_
      refine jj_aload_n hk (pc := 60) dX6_saves_60 0 rfl rfl ?_
      refine jm_g_s hk hK (pc := 61) dX6_saves_61 ?_
      refine jj_iconst hk (pc := 64) (v := (4 : Int32)) dX6_saves_64 (by decide) ?_
      refine jm_ld hk hK (pc := 65) (by decide) dX6_saves_65 (fun v3 => ?_)
      refine jm_st hk hK (pc := 66) (by decide) dX6_saves_66 (fun μ4 => ?_)
      exact jm_retV hk (pc := 67) dX6_saves_67
    · refine jj_aload_n hk (pc := 8) dX6_saves_8 0 rfl rfl ?_
      refine jm_g_saved hk hK (pc := 9) dX6_saves_9 ?_
      refine jj_bipush hk (pc := 12) (v := (12 : Int32)) dX6_saves_12 (by decide) ?_
      refine jj_iload_n hk (pc := 14) dX6_saves_14 1 rfl rfl ?_
      refine jj_imul hk (pc := 15) dX6_saves_15 ?_
      refine jj_iload_n hk (pc := 16) dX6_saves_16 2 rfl rfl ?_
      refine jj_iadd hk (pc := 17) dX6_saves_17 ?_
      refine jj_aload_n hk (pc := 18) dX6_saves_18 0 rfl rfl ?_
      refine jj_iload_n hk (pc := 19) dX6_saves_19 2 rfl rfl ?_
      refine jj_iconst hk (pc := 20) (v := (4 : Int32)) dX6_saves_20 (by decide) ?_
      refine kc_m_deedIs hk hK (pc := 21) (a0 := x2) (a1 := (4 : Int32)) (fun r h => cc_m_deedIs l G μ x2 (4 : Int32) r h) dX6_saves_21 ⟨Nat.le_of_ble_eq_true rfl, Nat.le_of_ble_eq_true rfl⟩ (Nat.le_of_ble_eq_true rfl) (fun r5 => ?_)
      refine jm_st hk hK (pc := 24) (by decide) dX6_saves_24 (fun μ6 => ?_)
      refine jj_iinc hk (pc := 25) [(2, .int (x2 + 1)), (0, .ref (gh G)), (1, .int x1)] dX6_saves_25 2 rfl rfl (Nat.le_of_ble_eq_true rfl) rfl ?_
      refine jj_goto hk (pc := 28) 2 dX6_saves_28 (by decide) ?_
      refine jj_loc [(0, .ref (gh G)), (1, .int x1), (2, .int (x2 + 1))] [1, 2, 0] rfl ?_
      exact ih μ6 x1 (x2 + 1)
set_option maxHeartbeats 4000000 in
theorem cc_m_saves (l : Launch) (G : jG) (N : Nat) (μ : MS) (a0 : Int32) (res : MS) (hf : m_saves N μ a0 = some res) : jM l yX6_saves (ws_ yX6_saves cX6_saves 3 none) 2 43 [.ref (gh G), .int a0] (mWo G) (mnx G) (mK G) μ (jV res) (gA G) (gn G) := by
  refine jj_start [(0, .ref (gh G)), (1, .int a0)] (by decide) (Nat.le_of_ble_eq_true rfl) rfl (fun p e R s m args below meth c hk hK hsz => ?_) hf
  have hk : jk p R s m args meth c (gn G) cX6_saves 3 RX6 2 43 none := hk
  unfold m_saves
  refine jj_iconst hk (pc := 0) (v := (0 : Int32)) dX6_saves_0 (by decide) ?_
  refine jj_istore_n hk (pc := 1) [(2, .int (0 : Int32)), (0, .ref (gh G)), (1, .int a0)] dX6_saves_1 rfl (Nat.le_of_ble_eq_true rfl) rfl ?_
  refine jj_loc [(0, .ref (gh G)), (1, .int a0), (2, .int (0 : Int32))] [1, 2, 0] rfl ?_
  exact wb_m_saves_L2 hk hK N N μ a0 (0 : Int32)
end
section
variable {p : Program} {l : Launch} {e : Env} {R : Room} {s : State} {m : MethodId} {args : Array Value} {below : List Frame} {meth : Method} {c : Code}
variable {G : jG}
variable {NX : Nat} {Q : State → Prop} {nL : Nat} {cc : ByteArray} {fr lo frc loc : Nat} {ret : Option FieldType}
variable {pc : Nat} {μ : MS} {lv : List (Nat × Value)} {st : List Value} {ρ : Type} {res : ρ}
theorem kc_m_saves (hk : jk p R s m args meth c NX cc nL RX6 fr lo ret) (hK : mK G s) {a0 : Int32} {F : Option MS} {K : MS → Option ρ} (hM : ∀ r, F = some r → jM l yX6_saves (ws_ yX6_saves cX6_saves 3 none) frc loc [.ref (gh G), .int a0] (mWo G) (mnx G) (mK G) μ (jV r) (gA G) (gn G)) (hd : decode cc pc = .ok (.invokevirtual 201, 3)) (hr : frc + 1 ≤ fr ∧ 8 + (3 + 11) + loc ≤ lo) (hw : (st.map fun v => v.category).sum ≤ 8) (kk : ∀ r, jj p l e R s m args below meth c (gA G) NX Q (mWo G) (mnx G) nL r (pc + 3) lv st (K r = some res)) : jj p l e R s m args below meth c (gA G) NX Q (mWo G) (mnx G) nL μ pc lv (.int a0 :: .ref (gh G) :: st) (F.bind K = some res) :=
  jm_VV (n := 1) hk hK [.int a0] hM (lw_V q1912 q1914 qs81 q127 q1915) (by decide +kernel) rfl rfl hd hr hw kk
end
section
variable {p : Program} {l : Launch} {e : Env} {R : Room} {s : State} {m : MethodId} {args : Array Value} {below : List Frame} {meth : Method} {c : Code}
variable {G : jG}
set_option maxHeartbeats 4000000 in
theorem wb_m_takesBack_L2 {res : MS} (hk : jk p R s m args meth c (gn G) cX6_takesBack 3 RX6 1 21 none) (hK : mK G s) (N : Nat) : ∀ (n : Nat) (μ : MS) (x1 : Int32) (x2 : Int32), jj p l e R s m args below meth c (gA G) (gn G) (jZ below args s (gA G) (gn G) (jV res) (mWo G) (mnx G)) (mWo G) (mnx G) 3 μ 2 [(0, .ref (gh G)), (1, .int x1), (2, .int x2)] [] (m_takesBack_L2 N n μ x1 x2 = some res) := by
  intro n
  induction n with
  | zero => intro μ x1 x2; exact jj_eq (fun hz => by rw [m_takesBack_L2] at hz; exact hz) jj_no
  | succ n ih =>
    intro μ x1 x2
    rw [m_takesBack_L2]
    refine jj_iload_n hk (pc := 2) dX6_takesBack_2 2 rfl rfl ?_
    refine jj_bipush hk (pc := 3) (v := (10 : Int32)) dX6_takesBack_3 (by decide) ?_
    refine jj_icmp_ge hk (pc := 5) 35 dX6_takesBack_5 (by decide) ?_ ?_
    · refine jj_aload_n hk (pc := 35) dX6_takesBack_35 0 rfl rfl ?_
      refine jm_g_s hk hK (pc := 36) dX6_takesBack_36 ?_
      refine jj_iconst hk (pc := 39) (v := (3 : Int32)) dX6_takesBack_39 (by decide) ?_
      refine jj_aload_n hk (pc := 40) dX6_takesBack_40 0 rfl rfl ?_
      refine jm_g_saved hk hK (pc := 41) dX6_takesBack_41 ?_
      refine jj_bipush hk (pc := 44) (v := (12 : Int32)) dX6_takesBack_44 (by decide) ?_
      refine jj_iload_n hk (pc := 46) dX6_takesBack_46 1 rfl rfl ?_
      refine jj_imul hk (pc := 47) dX6_takesBack_47 ?_
      refine jj_bipush hk (pc := 48) (v := (10 : Int32)) dX6_takesBack_48 (by decide) ?_
      refine jj_iadd hk (pc := 50) dX6_takesBack_50 ?_
      refine jm_ld hk hK (pc := 51) (by decide) dX6_takesBack_51 (fun v1 => ?_)
      refine jm_st hk hK (pc := 52) (by decide) dX6_takesBack_52 (fun μ2 => ?_)
      refine jj_aload_n hk (pc := 53) dX6_takesBack_53 0 rfl rfl ?_
      refine jm_g_s hk hK (pc := 54) dX6_takesBack_54 ?_
      refine jj_iconst hk (pc := 57) (v := (4 : Int32)) dX6_takesBack_57 (by decide) ?_
      refine jj_aload_n hk (pc := 58) dX6_takesBack_58 0 rfl rfl ?_
      refine jm_g_saved hk hK (pc := 59) dX6_takesBack_59 ?_
      refine jj_bipush hk (pc := 62) (v := (12 : Int32)) dX6_takesBack_62 (by decide) ?_
      refine jj_iload_n hk (pc := 64) dX6_takesBack_64 1 rfl rfl ?_
      refine jj_imul hk (pc := 65) dX6_takesBack_65 ?_
      refine jj_bipush hk (pc := 66) (v := (11 : Int32)) dX6_takesBack_66 (by decide) ?_
      refine jj_iadd hk (pc := 68) dX6_takesBack_68 ?_
      refine jm_ld hk hK (pc := 69) (by decide) dX6_takesBack_69 (fun v3 => ?_)
      refine jm_st hk hK (pc := 70) (by decide) dX6_takesBack_70 (fun μ4 => ?_)
      exact jm_retV hk (pc := 71) dX6_takesBack_71
    · refine jj_aload_n hk (pc := 8) dX6_takesBack_8 0 rfl rfl ?_
      refine jm_g_s hk hK (pc := 9) dX6_takesBack_9 ?_
      refine jj_iload_n hk (pc := 12) dX6_takesBack_12 2 rfl rfl ?_
      refine jj_iconst hk (pc := 13) (v := (4 : Int32)) dX6_takesBack_13 (by decide) ?_
      refine kc_m_spot hk hK (pc := 14) (a0 := x2) (a1 := (4 : Int32)) (fun r h => cc_m_spot l G μ x2 (4 : Int32) r h) dX6_takesBack_14 ⟨Nat.le_of_ble_eq_true rfl, Nat.le_of_ble_eq_true rfl⟩ (Nat.le_of_ble_eq_true rfl) (fun r5 => ?_)
      refine jj_aload_n hk (pc := 17) dX6_takesBack_17 0 rfl rfl ?_
      refine jm_g_saved hk hK (pc := 18) dX6_takesBack_18 ?_
      refine jj_bipush hk (pc := 21) (v := (12 : Int32)) dX6_takesBack_21 (by decide) ?_
      refine jj_iload_n hk (pc := 23) dX6_takesBack_23 1 rfl rfl ?_
      refine jj_imul hk (pc := 24) dX6_takesBack_24 ?_
      refine jj_iload_n hk (pc := 25) dX6_takesBack_25 2 rfl rfl ?_
      refine jj_iadd hk (pc := 26) dX6_takesBack_26 ?_
      refine jm_ld hk hK (pc := 27) (by decide) dX6_takesBack_27 (fun v6 => ?_)
      refine jm_st hk hK (pc := 28) (by decide) dX6_takesBack_28 (fun μ7 => ?_)
      refine jj_iinc hk (pc := 29) [(2, .int (x2 + 1)), (0, .ref (gh G)), (1, .int x1)] dX6_takesBack_29 2 rfl rfl (Nat.le_of_ble_eq_true rfl) rfl ?_
      refine jj_goto hk (pc := 32) 2 dX6_takesBack_32 (by decide) ?_
      refine jj_loc [(0, .ref (gh G)), (1, .int x1), (2, .int (x2 + 1))] [1, 2, 0] rfl ?_
      exact ih μ7 x1 (x2 + 1)
set_option maxHeartbeats 4000000 in
theorem cc_m_takesBack (l : Launch) (G : jG) (N : Nat) (μ : MS) (a0 : Int32) (res : MS) (hf : m_takesBack N μ a0 = some res) : jM l yX6_takesBack (ws_ yX6_takesBack cX6_takesBack 3 none) 1 21 [.ref (gh G), .int a0] (mWo G) (mnx G) (mK G) μ (jV res) (gA G) (gn G) := by
  refine jj_start [(0, .ref (gh G)), (1, .int a0)] (by decide) (Nat.le_of_ble_eq_true rfl) rfl (fun p e R s m args below meth c hk hK hsz => ?_) hf
  have hk : jk p R s m args meth c (gn G) cX6_takesBack 3 RX6 1 21 none := hk
  unfold m_takesBack
  refine jj_iconst hk (pc := 0) (v := (0 : Int32)) dX6_takesBack_0 (by decide) ?_
  refine jj_istore_n hk (pc := 1) [(2, .int (0 : Int32)), (0, .ref (gh G)), (1, .int a0)] dX6_takesBack_1 rfl (Nat.le_of_ble_eq_true rfl) rfl ?_
  refine jj_loc [(0, .ref (gh G)), (1, .int a0), (2, .int (0 : Int32))] [1, 2, 0] rfl ?_
  exact wb_m_takesBack_L2 hk hK N N μ a0 (0 : Int32)
end
section
variable {p : Program} {l : Launch} {e : Env} {R : Room} {s : State} {m : MethodId} {args : Array Value} {below : List Frame} {meth : Method} {c : Code}
variable {G : jG}
variable {NX : Nat} {Q : State → Prop} {nL : Nat} {cc : ByteArray} {fr lo frc loc : Nat} {ret : Option FieldType}
variable {pc : Nat} {μ : MS} {lv : List (Nat × Value)} {st : List Value} {ρ : Type} {res : ρ}
theorem kc_m_takesBack (hk : jk p R s m args meth c NX cc nL RX6 fr lo ret) (hK : mK G s) {a0 : Int32} {F : Option MS} {K : MS → Option ρ} (hM : ∀ r, F = some r → jM l yX6_takesBack (ws_ yX6_takesBack cX6_takesBack 3 none) frc loc [.ref (gh G), .int a0] (mWo G) (mnx G) (mK G) μ (jV r) (gA G) (gn G)) (hd : decode cc pc = .ok (.invokevirtual 208, 3)) (hr : frc + 1 ≤ fr ∧ 8 + (3 + 11) + loc ≤ lo) (hw : (st.map fun v => v.category).sum ≤ 8) (kk : ∀ r, jj p l e R s m args below meth c (gA G) NX Q (mWo G) (mnx G) nL r (pc + 3) lv st (K r = some res)) : jj p l e R s m args below meth c (gA G) NX Q (mWo G) (mnx G) nL μ pc lv (.int a0 :: .ref (gh G) :: st) (F.bind K = some res) :=
  jm_VV (n := 1) hk hK [.int a0] hM (lw_V q1916 q1918 qs82 q127 q1919) (by decide +kernel) rfl rfl hd hr hw kk
end
section
variable {p : Program} {l : Launch} {e : Env} {R : Room} {s : State} {m : MethodId} {args : Array Value} {below : List Frame} {meth : Method} {c : Code}
variable {G : jG}
variable {NX : Nat} {Q : State → Prop} {nL : Nat} {cc : ByteArray} {fr lo frc loc : Nat} {ret : Option FieldType}
variable {pc : Nat} {μ : MS} {lv : List (Nat × Value)} {st : List Value} {ρ : Type} {res : ρ}
theorem kc_m_plans (hk : jk p R s m args meth c NX cc nL RX6 fr lo ret) (hK : mK G s) {a0 : Int32} {a1 : Int32} {a2 : Int32} {F : Option MS} {K : MS → Option ρ} (hM : ∀ r, F = some r → jM l yX6_plans (ws_ yX6_plans cX6_plans 5 none) frc loc [.ref (gh G), .int a0, .int a1, .int a2] (mWo G) (mnx G) (mK G) μ (jV r) (gA G) (gn G)) (hd : decode cc pc = .ok (.invokevirtual 204, 3)) (hr : frc + 1 ≤ fr ∧ 8 + (5 + 11) + loc ≤ lo) (hw : (st.map fun v => v.category).sum ≤ 8) (kk : ∀ r, jj p l e R s m args below meth c (gA G) NX Q (mWo G) (mnx G) nL r (pc + 3) lv st (K r = some res)) : jj p l e R s m args below meth c (gA G) NX Q (mWo G) (mnx G) nL μ pc lv (.int a2 :: .int a1 :: .int a0 :: .ref (gh G) :: st) (F.bind K = some res) :=
  jm_VV (n := 3) hk hK [.int a0, .int a1, .int a2] hM (lw_V q1904 q1906 qs79 q127 q1907) (by decide +kernel) rfl rfl hd hr hw kk
end
section
variable {p : Program} {l : Launch} {e : Env} {R : Room} {s : State} {m : MethodId} {args : Array Value} {below : List Frame} {meth : Method} {c : Code}
variable {G : jG}
set_option maxHeartbeats 4000000 in
theorem wb_m_plans_L15 {res : MS} {fr0 lo0 : Nat} (hk : jk p R s m args meth c (gn G) cX6_plans 5 RX6 (fr0 + 7) (lo0 + 168) none) (hK : mK G s) {k_plans : MS → Int32 → Int32 → Int32 → Option MS} (hk_plans : ∀ (μ : MS) (b0 : Int32) (b1 : Int32) (b2 : Int32) (r : MS), k_plans μ b0 b1 b2 = some r → jM l yX6_plans (ws_ yX6_plans cX6_plans 5 none) fr0 lo0 [.ref (gh G), .int b0, .int b1, .int b2] (mWo G) (mnx G) (mK G) μ (jV r) (gA G) (gn G)) (N : Nat) : ∀ (n : Nat) (μ : MS) (x1 : Int32) (x2 : Int32) (x3 : Int32) (x4 : Int32), jj p l e R s m args below meth c (gA G) (gn G) (jZ below args s (gA G) (gn G) (jV res) (mWo G) (mnx G)) (mWo G) (mnx G) 5 μ 15 [(0, .ref (gh G)), (1, .int x1), (2, .int x2), (3, .int x3), (4, .int x4)] [] (m_plans_L15 N k_plans n μ x1 x2 x3 x4 = some res) := by
  intro n
  induction n with
  | zero => intro μ x1 x2 x3 x4; exact jj_eq (fun hz => by rw [m_plans_L15] at hz; exact hz) jj_no
  | succ n ih =>
    intro μ x1 x2 x3 x4
    rw [m_plans_L15]
    refine jj_iload hk (pc := 15) dX6_plans_15 4 rfl ?_
    refine jj_aload_n hk (pc := 17) dX6_plans_17 0 rfl rfl ?_
    refine jm_g_s hk hK (pc := 18) dX6_plans_18 ?_
    refine jj_iconst hk (pc := 21) (v := (0 : Int32)) dX6_plans_21 (by decide) ?_
    refine jm_ld hk hK (pc := 22) (by decide) dX6_plans_22 (fun v1 => ?_)
    refine jj_icmp_gt hk (pc := 23) 66 dX6_plans_23 (by decide) ?_ ?_
    · exact jm_retV hk (pc := 66) dX6_plans_66
    · refine jj_aload_n hk (pc := 26) dX6_plans_26 0 rfl rfl ?_
      refine jj_iload_n hk (pc := 27) dX6_plans_27 1 rfl rfl ?_
      refine kc_m_saves hk hK (pc := 28) (a0 := x1) (fun r h => cc_m_saves l G N μ x1 r h) dX6_plans_28 ⟨by omega, by omega⟩ (Nat.le_of_ble_eq_true rfl) (fun r2 => ?_)
      refine jj_aload_n hk (pc := 31) dX6_plans_31 0 rfl rfl ?_
      refine jm_g_line hk hK (pc := 32) dX6_plans_32 ?_
      refine jj_iload_n hk (pc := 35) dX6_plans_35 1 rfl rfl ?_
      refine jj_iload hk (pc := 36) dX6_plans_36 4 rfl ?_
      refine jm_st hk hK (pc := 38) (by decide) dX6_plans_38 (fun μ3 => ?_)
      refine jj_aload_n hk (pc := 39) dX6_plans_39 0 rfl rfl ?_
      refine jj_iload_n hk (pc := 40) dX6_plans_40 1 rfl rfl ?_
      refine jj_iconst hk (pc := 41) (v := (1 : Int32)) dX6_plans_41 (by decide) ?_
      refine jj_iadd hk (pc := 42) dX6_plans_42 ?_
      refine jj_iload_n hk (pc := 43) dX6_plans_43 2 rfl rfl ?_
      refine jj_iload_n hk (pc := 44) dX6_plans_44 3 rfl rfl ?_
      refine jj_aload_n hk (pc := 45) dX6_plans_45 0 rfl rfl ?_
      refine jj_iload hk (pc := 46) dX6_plans_46 4 rfl ?_
      refine kc_m_goes hk hK (pc := 48) (a0 := x4) (fun r h => cc_m_goes l G N μ3 x4 r h) dX6_plans_48 ⟨by omega, by omega⟩ (Nat.le_of_ble_eq_true rfl) (fun r4 => ?_)
      refine jj_iadd hk (pc := 51) dX6_plans_51 ?_
      refine kc_m_plans hk hK (pc := 52) (a0 := (x1 + (1 : Int32))) (a1 := x2) (a2 := (x3 + r4.1)) (hk_plans r4.2 (x1 + (1 : Int32)) x2 (x3 + r4.1)) dX6_plans_52 ⟨by omega, by omega⟩ (Nat.le_of_ble_eq_true rfl) (fun r5 => ?_)
      refine jj_aload_n hk (pc := 55) dX6_plans_55 0 rfl rfl ?_
      refine jj_iload_n hk (pc := 56) dX6_plans_56 1 rfl rfl ?_
      refine kc_m_takesBack hk hK (pc := 57) (a0 := x1) (fun r h => cc_m_takesBack l G N r5 x1 r h) dX6_plans_57 ⟨by omega, by omega⟩ (Nat.le_of_ble_eq_true rfl) (fun r6 => ?_)
      refine jj_iinc hk (pc := 60) [(4, .int (x4 + 1)), (0, .ref (gh G)), (1, .int x1), (2, .int x2), (3, .int x3)] dX6_plans_60 4 rfl rfl (Nat.le_of_ble_eq_true rfl) rfl ?_
      refine jj_goto hk (pc := 63) 15 dX6_plans_63 (by decide) ?_
      refine jj_loc [(0, .ref (gh G)), (1, .int x1), (2, .int x2), (3, .int x3), (4, .int (x4 + 1))] [1, 2, 3, 4, 0] rfl ?_
      exact ih r6 x1 x2 x3 (x4 + 1)
set_option maxHeartbeats 4000000 in
theorem cc_m_plans (l : Launch) (G : jG) (N : Nat) : ∀ (d : Nat) (μ : MS) (a0 : Int32) (a1 : Int32) (a2 : Int32) (res : MS) (hf : m_plans N d μ a0 a1 a2 = some res), jM l yX6_plans (ws_ yX6_plans cX6_plans 5 none) (7 * d) (168 * d) [.ref (gh G), .int a0, .int a1, .int a2] (mWo G) (mnx G) (mK G) μ (jV res) (gA G) (gn G) := by
  intro d
  induction d with
  | zero => intro μ a0 a1 a2 res hf; rw [m_plans] at hf; cases hf
  | succ d ih =>
    intro μ a0 a1 a2 res hf
    rw [m_plans] at hf
    have hk_plans := ih
    refine jj_start [(0, .ref (gh G)), (1, .int a0), (2, .int a1), (3, .int a2)] (by decide) (Nat.le_of_ble_eq_true rfl) rfl (fun p e R s m args below meth c hk hK hsz => ?_) hf
    have hk : jk p R s m args meth c (gn G) cX6_plans 5 RX6 (7 * d + 7) (168 * d + 168) none := hk
    have hsz : True := trivial
    refine jj_iload_n hk (pc := 0) dX6_plans_0 1 rfl rfl ?_
    refine jj_iload_n hk (pc := 1) dX6_plans_1 2 rfl rfl ?_
    refine jj_icmp_ne hk (pc := 2) 12 dX6_plans_2 (by decide) ?_ ?_
    · refine jj_iconst hk (pc := 12) (v := (0 : Int32)) dX6_plans_12 (by decide) ?_
      refine jj_istore hk (pc := 13) [(4, .int (0 : Int32)), (0, .ref (gh G)), (1, .int a0), (2, .int a1), (3, .int a2)] dX6_plans_13 (Nat.le_of_ble_eq_true rfl) rfl ?_
      refine jj_loc [(0, .ref (gh G)), (1, .int a0), (2, .int a1), (3, .int a2), (4, .int (0 : Int32))] [1, 2, 3, 4, 0] rfl ?_
      exact wb_m_plans_L15 hk hK hk_plans N N μ a0 a1 a2 (0 : Int32)
    · refine jj_aload_n hk (pc := 5) dX6_plans_5 0 rfl rfl ?_
      refine jj_iload_n hk (pc := 6) dX6_plans_6 2 rfl rfl ?_
      refine jj_iload_n hk (pc := 7) dX6_plans_7 3 rfl rfl ?_
      refine kc_m_ended hk hK (pc := 8) (a0 := a1) (a1 := a2) (fun r h => cc_m_ended l G N μ a1 a2 r h) dX6_plans_8 ⟨by omega, by omega⟩ (Nat.le_of_ble_eq_true rfl) (fun r1 => ?_)
      exact jm_retV hk (pc := 11) dX6_plans_11
end
section
variable {p : Program} {l : Launch} {e : Env} {R : Room} {s : State} {m : MethodId} {args : Array Value} {below : List Frame} {meth : Method} {c : Code}
variable {G : jG}
set_option maxHeartbeats 4000000 in
theorem cc_m_yearsOf (l : Launch) (G : jG)  (μ : MS) (a0 : Int32) (res : Int32) (hf : m_yearsOf μ a0 = some res) : jM l yX6_yearsOf (ws_ yX6_yearsOf cX6_yearsOf 3 (some .int)) 0 0 [.ref (gh G), .int a0] (mWo G) (mnx G) (mK G) μ (jR μ res) (gA G) (gn G) := by
  refine jj_start [(0, .ref (gh G)), (1, .int a0)] (by decide) (Nat.le_of_ble_eq_true rfl) rfl (fun p e R s m args below meth c hk hK hsz => ?_) hf
  have hk : jk p R s m args meth c (gn G) cX6_yearsOf 3 RX6 0 0 (some .int) := hk
  unfold m_yearsOf
  refine jj_aload_n hk (pc := 0) dX6_yearsOf_0 0 rfl rfl ?_
  refine jm_g_s hk hK (pc := 1) dX6_yearsOf_1 ?_
  refine jj_iconst hk (pc := 4) (v := (2 : Int32)) dX6_yearsOf_4 (by decide) ?_
  refine jm_ld hk hK (pc := 5) (by decide) dX6_yearsOf_5 (fun v1 => ?_)
  refine jj_aload_n hk (pc := 6) dX6_yearsOf_6 0 rfl rfl ?_
  refine jm_g_s hk hK (pc := 7) dX6_yearsOf_7 ?_
  refine jj_iconst hk (pc := 10) (v := (3 : Int32)) dX6_yearsOf_10 (by decide) ?_
  refine jm_ld hk hK (pc := 11) (by decide) dX6_yearsOf_11 (fun v2 => ?_)
  refine jj_isub hk (pc := 12) dX6_yearsOf_12 ?_
  refine jj_istore_n hk (pc := 13) [(2, .int (v1 - v2)), (0, .ref (gh G)), (1, .int a0)] dX6_yearsOf_13 rfl (Nat.le_of_ble_eq_true rfl) rfl ?_
  refine jj_iload_n hk (pc := 14) dX6_yearsOf_14 2 rfl rfl ?_
  refine jj_iload_n hk (pc := 15) dX6_yearsOf_15 0 rfl rfl ?_
  refine jj_icmp_ge hk (pc := 16) 23 dX6_yearsOf_16 (by decide) ?_ ?_
  · refine jj_iload_n hk (pc := 23) dX6_yearsOf_23 0 rfl rfl ?_
    refine jj_if_ge hk (pc := 24) 31 dX6_yearsOf_24 (by decide) ?_ ?_
    · refine jj_iload_n hk (pc := 31) dX6_yearsOf_31 0 rfl rfl ?_
      exact jm_retRi hk (pc := 32) dX6_yearsOf_32
    · refine jj_iconst hk (pc := 27) (v := (0 : Int32)) dX6_yearsOf_27 (by decide) ?_
      refine jj_goto hk (pc := 28) 32 dX6_yearsOf_28 (by decide) ?_
      exact jm_retRi hk (pc := 32) dX6_yearsOf_32
  · refine jj_iload_n hk (pc := 19) dX6_yearsOf_19 2 rfl rfl ?_
    refine jj_goto hk (pc := 20) 32 dX6_yearsOf_20 (by decide) ?_
    exact jm_retRi hk (pc := 32) dX6_yearsOf_32
end
section
variable {p : Program} {l : Launch} {e : Env} {R : Room} {s : State} {m : MethodId} {args : Array Value} {below : List Frame} {meth : Method} {c : Code}
variable {G : jG}
variable {NX : Nat} {Q : State → Prop} {nL : Nat} {cc : ByteArray} {fr lo frc loc : Nat} {ret : Option FieldType}
variable {pc : Nat} {μ : MS} {lv : List (Nat × Value)} {st : List Value} {ρ : Type} {res : ρ}
theorem kc_m_yearsOf (hk : jk p R s m args meth c NX cc nL RX6 fr lo ret) (hK : mK G s) {a0 : Int32} {F : Option Int32} {K : Int32 → Option ρ} (hM : ∀ r, F = some r → jM l yX6_yearsOf (ws_ yX6_yearsOf cX6_yearsOf 3 (some .int)) frc loc [.ref (gh G), .int a0] (mWo G) (mnx G) (mK G) μ (jR μ r) (gA G) (gn G)) (hd : decode cc pc = .ok (.invokevirtual 211, 3)) (hr : frc + 1 ≤ fr ∧ 8 + (3 + 11) + loc ≤ lo) (hw : (st.map fun v => v.category).sum ≤ 8) (kk : ∀ r, jj p l e R s m args below meth c (gA G) NX Q (mWo G) (mnx G) nL μ (pc + 3) lv (.int r :: st) (K r = some res)) : jj p l e R s m args below meth c (gA G) NX Q (mWo G) (mnx G) nL μ pc lv (.int a0 :: .ref (gh G) :: st) (F.bind K = some res) :=
  jm_VRi (n := 1) hk hK [.int a0] hM (lw_V q1900 q1902 qs78 q127 q1903) (by decide +kernel) rfl rfl hd hr hw kk
end
section
variable {p : Program} {l : Launch} {e : Env} {R : Room} {s : State} {m : MethodId} {args : Array Value} {below : List Frame} {meth : Method} {c : Code}
variable {G : jG}
set_option maxHeartbeats 4000000 in
theorem cc_m_plansOf (l : Launch) (G : jG) (N : Nat) (μ : MS) (a0 : Int32) (a1 : Int32) (res : (Int32 × MS)) (hf : m_plansOf N μ a0 a1 = some res) : jM l yX6_plansOf (ws_ yX6_plansOf cX6_plansOf 4 (some .int)) 43 1032 [.ref (gh G), .int a0, .int a1] (mWo G) (mnx G) (mK G) μ (jU res) (gA G) (gn G) := by
  refine jj_start [(0, .ref (gh G)), (1, .int a0), (2, .int a1)] (by decide) (Nat.le_of_ble_eq_true rfl) rfl (fun p e R s m args below meth c hk hK hsz => ?_) hf
  have hk : jk p R s m args meth c (gn G) cX6_plansOf 4 RX6 43 1032 (some .int) := hk
  unfold m_plansOf
  refine jj_aload_n hk (pc := 0) dX6_plansOf_0 0 rfl rfl ?_
  refine jj_iconst hk (pc := 1) (v := (-1 : Int32)) dX6_plansOf_1 (by decide) ?_
  refine jm_p_most hk hK (pc := 2) dX6_plansOf_2 (fun μ1 => ?_)
  refine jj_aload_n hk (pc := 5) dX6_plansOf_5 0 rfl rfl ?_
  refine jj_iconst hk (pc := 6) (v := (0 : Int32)) dX6_plansOf_6 (by decide) ?_
  refine jm_p_ways hk hK (pc := 7) dX6_plansOf_7 (fun μ2 => ?_)
  refine jj_aload_n hk (pc := 10) dX6_plansOf_10 0 rfl rfl ?_
  refine jj_iconst hk (pc := 11) (v := (5 : Int32)) dX6_plansOf_11 (by decide) ?_
  refine jm_p_fewest hk hK (pc := 12) dX6_plansOf_12 (fun μ3 => ?_)
  refine jj_aload_n hk (pc := 15) dX6_plansOf_15 0 rfl rfl ?_
  refine jj_iconst hk (pc := 16) (v := (0 : Int32)) dX6_plansOf_16 (by decide) ?_
  refine jm_p_stood hk hK (pc := 17) dX6_plansOf_17 (fun μ4 => ?_)
  refine jj_aload_n hk (pc := 20) dX6_plansOf_20 0 rfl rfl ?_
  refine jj_iload_n hk (pc := 21) dX6_plansOf_21 2 rfl rfl ?_
  refine jm_p_told hk hK (pc := 22) dX6_plansOf_22 (fun μ5 => ?_)
  refine jj_aload_n hk (pc := 25) dX6_plansOf_25 0 rfl rfl ?_
  refine jj_iload_n hk (pc := 26) dX6_plansOf_26 1 rfl rfl ?_
  refine kc_m_yearsOf hk hK (pc := 27) (a0 := a0) (fun r h => cc_m_yearsOf l G μ5 a0 r h) dX6_plansOf_27 ⟨Nat.le_of_ble_eq_true rfl, Nat.le_of_ble_eq_true rfl⟩ (Nat.le_of_ble_eq_true rfl) (fun r6 => ?_)
  refine jj_istore_n hk (pc := 30) [(3, .int r6), (0, .ref (gh G)), (1, .int a0), (2, .int a1)] dX6_plansOf_30 rfl (Nat.le_of_ble_eq_true rfl) rfl ?_
  refine jj_aload_n hk (pc := 31) dX6_plansOf_31 1 rfl rfl ?_
  refine jj_iconst hk (pc := 32) (v := (0 : Int32)) dX6_plansOf_32 (by decide) ?_
  refine jj_iload_n hk (pc := 33) dX6_plansOf_33 0 rfl rfl ?_
  refine jj_iconst hk (pc := 34) (v := (0 : Int32)) dX6_plansOf_34 (by decide) ?_
  refine kc_m_plans hk hK (pc := 35) (a0 := (0 : Int32)) (a1 := r6) (a2 := (0 : Int32)) (fun r h => cc_m_plans l G N 6 μ5 (0 : Int32) r6 (0 : Int32) r h) dX6_plansOf_35 ⟨Nat.le_of_ble_eq_true rfl, Nat.le_of_ble_eq_true rfl⟩ (Nat.le_of_ble_eq_true rfl) (fun r7 => ?_)
  refine jj_iload_n hk (pc := 38) dX6_plansOf_38 0 rfl rfl ?_
  exact jm_retUi hk (pc := 39) dX6_plansOf_39
end
section
variable {p : Program} {l : Launch} {e : Env} {R : Room} {s : State} {m : MethodId} {args : Array Value} {below : List Frame} {meth : Method} {c : Code}
variable {G : jG}
variable {NX : Nat} {Q : State → Prop} {nL : Nat} {cc : ByteArray} {fr lo frc loc : Nat} {ret : Option FieldType}
variable {pc : Nat} {μ : MS} {lv : List (Nat × Value)} {st : List Value} {ρ : Type} {res : ρ}
theorem kc_m_plansOf (hk : jk p R s m args meth c NX cc nL RX6 fr lo ret) (hK : mK G s) {a0 : Int32} {a1 : Int32} {F : Option (Int32 × MS)} {K : (Int32 × MS) → Option ρ} (hM : ∀ r, F = some r → jM l yX6_plansOf (ws_ yX6_plansOf cX6_plansOf 4 (some .int)) frc loc [.ref (gh G), .int a0, .int a1] (mWo G) (mnx G) (mK G) μ (jU r) (gA G) (gn G)) (hd : decode cc pc = .ok (.invokevirtual 217, 3)) (hr : frc + 1 ≤ fr ∧ 8 + (4 + 11) + loc ≤ lo) (hw : (st.map fun v => v.category).sum ≤ 8) (kk : ∀ r, jj p l e R s m args below meth c (gA G) NX Q (mWo G) (mnx G) nL r.2 (pc + 3) lv (.int r.1 :: st) (K r = some res)) : jj p l e R s m args below meth c (gA G) NX Q (mWo G) (mnx G) nL μ pc lv (.int a1 :: .int a0 :: .ref (gh G) :: st) (F.bind K = some res) :=
  jm_VUi (n := 2) hk hK [.int a0, .int a1] hM (lw_V q1896 q1898 qs77 q127 q1899) (by decide +kernel) rfl rfl hd hr hw kk
end
section
variable {p : Program} {l : Launch} {e : Env} {R : Room} {s : State} {m : MethodId} {args : Array Value} {below : List Frame} {meth : Method} {c : Code}
variable {G : jG}
set_option maxHeartbeats 4000000 in
theorem cc_m_best (l : Launch) (G : jG) (N : Nat) (μ : MS) (a0 : Int32) (res : (Int32 × MS)) (hf : m_best N μ a0 = some res) : jM l yX6_best (ws_ yX6_best cX6_best 3 (some .int)) 44 1055 [.ref (gh G), .int a0] (mWo G) (mnx G) (mK G) μ (jU res) (gA G) (gn G) := by
  refine jj_start [(0, .ref (gh G)), (1, .int a0)] (by decide) (Nat.le_of_ble_eq_true rfl) rfl (fun p e R s m args below meth c hk hK hsz => ?_) hf
  have hk : jk p R s m args meth c (gn G) cX6_best 3 RX6 44 1055 (some .int) := hk
  unfold m_best
  refine jj_iload_n hk (pc := 0) dX6_best_0 1 rfl rfl ?_
  refine kc_m_isLong hk hK (pc := 1) (a0 := a0) (fun r h => cc_m_isLong l G μ a0 r h) dX6_best_1 ⟨Nat.le_of_ble_eq_true rfl, Nat.le_of_ble_eq_true rfl⟩ (Nat.le_of_ble_eq_true rfl) (fun r1 => ?_)
  refine jj_if_ne_b hk (pc := 4) 9 dX6_best_4 (by decide) ?_ ?_
  · refine jj_aload_n hk (pc := 9) dX6_best_9 0 rfl rfl ?_
    refine jj_iload_n hk (pc := 10) dX6_best_10 1 rfl rfl ?_
    refine jj_iconst hk (pc := 11) (v := (0 : Int32)) dX6_best_11 (by decide) ?_
    refine kc_m_plansOf hk hK (pc := 12) (a0 := a0) (a1 := (0 : Int32)) (fun r h => cc_m_plansOf l G N μ a0 (0 : Int32) r h) dX6_best_12 ⟨Nat.le_of_ble_eq_true rfl, Nat.le_of_ble_eq_true rfl⟩ (Nat.le_of_ble_eq_true rfl) (fun r2 => ?_)
    refine jj_istore_n hk (pc := 15) [(2, .int r2.1), (0, .ref (gh G)), (1, .int a0)] dX6_best_15 rfl (Nat.le_of_ble_eq_true rfl) rfl ?_
    refine jj_aload_n hk (pc := 16) dX6_best_16 1 rfl rfl ?_
    refine jm_g_most hk hK (pc := 17) dX6_best_17 ?_
    exact jm_retUi hk (pc := 20) dX6_best_20
  · refine jj_iconst hk (pc := 7) (v := (-1 : Int32)) dX6_best_7 (by decide) ?_
    exact jm_retUi hk (pc := 8) dX6_best_8
end
section
variable {p : Program} {l : Launch} {e : Env} {R : Room} {s : State} {m : MethodId} {args : Array Value} {below : List Frame} {meth : Method} {c : Code}
variable {G : jG}
set_option maxHeartbeats 4000000 in
theorem cc_m_ith (l : Launch) (G : jG) (N : Nat) (μ : MS) (a0 : Int32) (a1 : Int32) (res : (Int32 × MS)) (hf : m_ith N μ a0 a1 = some res) : jM l yX6_ith (ws_ yX6_ith cX6_ith 3 (some .int)) 44 1055 [.ref (gh G), .int a0, .int a1] (mWo G) (mnx G) (mK G) μ (jU res) (gA G) (gn G) := by
  refine jj_start [(0, .ref (gh G)), (1, .int a0), (2, .int a1)] (by decide) (Nat.le_of_ble_eq_true rfl) rfl (fun p e R s m args below meth c hk hK hsz => ?_) hf
  have hk : jk p R s m args meth c (gn G) cX6_ith 3 RX6 44 1055 (some .int) := hk
  unfold m_ith
  refine jj_iload_n hk (pc := 0) dX6_ith_0 1 rfl rfl ?_
  refine kc_m_isLong hk hK (pc := 1) (a0 := a0) (fun r h => cc_m_isLong l G μ a0 r h) dX6_ith_1 ⟨Nat.le_of_ble_eq_true rfl, Nat.le_of_ble_eq_true rfl⟩ (Nat.le_of_ble_eq_true rfl) (fun r1 => ?_)
  refine jj_if_eq_b hk (pc := 4) 19 dX6_ith_4 (by decide) ?_ ?_
  · refine jj_iconst hk (pc := 19) (v := (-1 : Int32)) dX6_ith_19 (by decide) ?_
    exact jm_retUi hk (pc := 20) dX6_ith_20
  · refine jj_iload_n hk (pc := 7) dX6_ith_7 2 rfl rfl ?_
    refine jj_i2l hk (pc := 8) dX6_ith_8 ?_
    refine jj_lconst hk (pc := 9) (v := (0 : Int64)) dX6_ith_9 (by decide) ?_
    refine jj_ldc2_w hk (pc := 10) q1924 dX6_ith_10 ?_
    refine kc_m_in hk hK (pc := 13) (a0 := a1.toInt64) (a1 := (0 : Int64)) (a2 := (3 : Int64)) (fun r h => cc_m_in l G μ a1.toInt64 (0 : Int64) (3 : Int64) r h) dX6_ith_13 ⟨Nat.le_of_ble_eq_true rfl, Nat.le_of_ble_eq_true rfl⟩ (Nat.le_of_ble_eq_true rfl) (fun r2 => ?_)
    refine jj_if_ne_b hk (pc := 16) 21 dX6_ith_16 (by decide) ?_ ?_
    · refine jj_iload_n hk (pc := 21) dX6_ith_21 2 rfl rfl ?_
      refine jj_aload_n hk (pc := 22) dX6_ith_22 0 rfl rfl ?_
      refine jj_iload_n hk (pc := 23) dX6_ith_23 1 rfl rfl ?_
      refine jj_iconst hk (pc := 24) (v := (0 : Int32)) dX6_ith_24 (by decide) ?_
      refine kc_m_plansOf hk hK (pc := 25) (a0 := a0) (a1 := (0 : Int32)) (fun r h => cc_m_plansOf l G N μ a0 (0 : Int32) r h) dX6_ith_25 ⟨Nat.le_of_ble_eq_true rfl, Nat.le_of_ble_eq_true rfl⟩ (Nat.le_of_ble_eq_true rfl) (fun r3 => ?_)
      refine jj_icmp_ge hk (pc := 28) 40 dX6_ith_28 (by decide) ?_ ?_
      · refine jj_bipush hk (pc := 40) (v := (-3 : Int32)) dX6_ith_40 (by decide) ?_
        exact jm_retUi hk (pc := 42) dX6_ith_42
      · refine jj_aload_n hk (pc := 31) dX6_ith_31 0 rfl rfl ?_
        refine jm_g_first hk hK (pc := 32) dX6_ith_32 ?_
        refine jj_iload_n hk (pc := 35) dX6_ith_35 2 rfl rfl ?_
        refine jm_ld hk hK (pc := 36) (by decide) dX6_ith_36 (fun v4 => ?_)
        refine jj_goto hk (pc := 37) 42 dX6_ith_37 (by decide) ?_
        exact jm_retUi hk (pc := 42) dX6_ith_42
    · refine jj_iconst hk (pc := 19) (v := (-1 : Int32)) dX6_ith_19 (by decide) ?_
      exact jm_retUi hk (pc := 20) dX6_ith_20
end
section
variable {p : Program} {l : Launch} {e : Env} {R : Room} {s : State} {m : MethodId} {args : Array Value} {below : List Frame} {meth : Method} {c : Code}
variable {G : jG}
set_option maxHeartbeats 4000000 in
theorem cc_m_ways (l : Launch) (G : jG) (N : Nat) (μ : MS) (a0 : Int32) (res : (Int32 × MS)) (hf : m_ways N μ a0 = some res) : jM l yX6_ways (ws_ yX6_ways cX6_ways 3 (some .int)) 44 1055 [.ref (gh G), .int a0] (mWo G) (mnx G) (mK G) μ (jU res) (gA G) (gn G) := by
  refine jj_start [(0, .ref (gh G)), (1, .int a0)] (by decide) (Nat.le_of_ble_eq_true rfl) rfl (fun p e R s m args below meth c hk hK hsz => ?_) hf
  have hk : jk p R s m args meth c (gn G) cX6_ways 3 RX6 44 1055 (some .int) := hk
  unfold m_ways
  refine jj_iload_n hk (pc := 0) dX6_ways_0 1 rfl rfl ?_
  refine kc_m_isLong hk hK (pc := 1) (a0 := a0) (fun r h => cc_m_isLong l G μ a0 r h) dX6_ways_1 ⟨Nat.le_of_ble_eq_true rfl, Nat.le_of_ble_eq_true rfl⟩ (Nat.le_of_ble_eq_true rfl) (fun r1 => ?_)
  refine jj_if_ne_b hk (pc := 4) 9 dX6_ways_4 (by decide) ?_ ?_
  · refine jj_aload_n hk (pc := 9) dX6_ways_9 0 rfl rfl ?_
    refine jj_iload_n hk (pc := 10) dX6_ways_10 1 rfl rfl ?_
    refine jj_iconst hk (pc := 11) (v := (0 : Int32)) dX6_ways_11 (by decide) ?_
    refine kc_m_plansOf hk hK (pc := 12) (a0 := a0) (a1 := (0 : Int32)) (fun r h => cc_m_plansOf l G N μ a0 (0 : Int32) r h) dX6_ways_12 ⟨Nat.le_of_ble_eq_true rfl, Nat.le_of_ble_eq_true rfl⟩ (Nat.le_of_ble_eq_true rfl) (fun r2 => ?_)
    refine jj_istore_n hk (pc := 15) [(2, .int r2.1), (0, .ref (gh G)), (1, .int a0)] dX6_ways_15 rfl (Nat.le_of_ble_eq_true rfl) rfl ?_
    refine jj_aload_n hk (pc := 16) dX6_ways_16 1 rfl rfl ?_
    refine jm_g_ways hk hK (pc := 17) dX6_ways_17 ?_
    exact jm_retUi hk (pc := 20) dX6_ways_20
  · refine jj_iconst hk (pc := 7) (v := (-1 : Int32)) dX6_ways_7 (by decide) ?_
    exact jm_retUi hk (pc := 8) dX6_ways_8
end
section
variable {p : Program} {l : Launch} {e : Env} {R : Room} {s : State} {m : MethodId} {args : Array Value} {below : List Frame} {meth : Method} {c : Code}
variable {G : jG}
set_option maxHeartbeats 4000000 in
theorem cc_m_areDeeds (l : Launch) (G : jG)  (μ : MS) (a0 : Int32) (res : Bool) (hf : m_areDeeds μ a0 = some res) : jM l yX6_areDeeds (ws_ yX6_areDeeds cX6_areDeeds 2 (some .boolean)) 1 25 [.ref (gh G), .int a0] (mWo G) (mnx G) (mK G) μ (jRz μ res) (gA G) (gn G) := by
  refine jj_start [(0, .ref (gh G)), (1, .int a0)] (by decide) (Nat.le_of_ble_eq_true rfl) rfl (fun p e R s m args below meth c hk hK hsz => ?_) hf
  have hk : jk p R s m args meth c (gn G) cX6_areDeeds 2 RX6 1 25 (some .boolean) := hk
  unfold m_areDeeds
  refine jj_iload_n hk (pc := 0) dX6_areDeeds_0 1 rfl rfl ?_
  refine jj_i2l hk (pc := 1) dX6_areDeeds_1 ?_
  refine jj_lconst hk (pc := 2) (v := (0 : Int64)) dX6_areDeeds_2 (by decide) ?_
  refine jj_iconst hk (pc := 3) (v := (1 : Int32)) dX6_areDeeds_3 (by decide) ?_
  refine jj_aload_n hk (pc := 4) dX6_areDeeds_4 0 rfl rfl ?_
  refine jm_g_s hk hK (pc := 5) dX6_areDeeds_5 ?_
  refine jj_iconst hk (pc := 8) (v := (5 : Int32)) dX6_areDeeds_8 (by decide) ?_
  refine jm_ld hk hK (pc := 9) (by decide) dX6_areDeeds_9 (fun v1 => ?_)
  refine jj_ishl hk (pc := 10) dX6_areDeeds_10 ?_
  refine jj_iconst hk (pc := 11) (v := (1 : Int32)) dX6_areDeeds_11 (by decide) ?_
  refine jj_isub hk (pc := 12) dX6_areDeeds_12 ?_
  refine jj_i2l hk (pc := 13) dX6_areDeeds_13 ?_
  refine kc_m_in hk hK (pc := 14) (a0 := a0.toInt64) (a1 := (0 : Int64)) (a2 := ((((1 : Int32) <<< (v1 &&& 31)) - (1 : Int32)).toInt64)) (fun r h => cc_m_in l G μ a0.toInt64 (0 : Int64) ((((1 : Int32) <<< (v1 &&& 31)) - (1 : Int32)).toInt64) r h) dX6_areDeeds_14 ⟨Nat.le_of_ble_eq_true rfl, Nat.le_of_ble_eq_true rfl⟩ (Nat.le_of_ble_eq_true rfl) (fun r2 => ?_)
  exact jm_retRz hk (pc := 17) (b := r2) dX6_areDeeds_17
end
section
variable {p : Program} {l : Launch} {e : Env} {R : Room} {s : State} {m : MethodId} {args : Array Value} {below : List Frame} {meth : Method} {c : Code}
variable {G : jG}
variable {NX : Nat} {Q : State → Prop} {nL : Nat} {cc : ByteArray} {fr lo frc loc : Nat} {ret : Option FieldType}
variable {pc : Nat} {μ : MS} {lv : List (Nat × Value)} {st : List Value} {ρ : Type} {res : ρ}
theorem kc_m_areDeeds (hk : jk p R s m args meth c NX cc nL RX6 fr lo ret) (hK : mK G s) {a0 : Int32} {F : Option Bool} {K : Bool → Option ρ} (hM : ∀ r, F = some r → jM l yX6_areDeeds (ws_ yX6_areDeeds cX6_areDeeds 2 (some .boolean)) frc loc [.ref (gh G), .int a0] (mWo G) (mnx G) (mK G) μ (jRz μ r) (gA G) (gn G)) (hd : decode cc pc = .ok (.invokevirtual 222, 3)) (hr : frc + 1 ≤ fr ∧ 8 + (2 + 11) + loc ≤ lo) (hw : (st.map fun v => v.category).sum ≤ 8) (kk : ∀ r, jj p l e R s m args below meth c (gA G) NX Q (mWo G) (mnx G) nL μ (pc + 3) lv (.int (bI r) :: st) (K r = some res)) : jj p l e R s m args below meth c (gA G) NX Q (mWo G) (mnx G) nL μ pc lv (.int a0 :: .ref (gh G) :: st) (F.bind K = some res) :=
  jm_VRz (n := 1) hk hK [.int a0] hM (lw_V q1933 q1935 qs83 q127 q1936) (by decide +kernel) rfl rfl hd hr hw kk
end
section
variable {p : Program} {l : Launch} {e : Env} {R : Room} {s : State} {m : MethodId} {args : Array Value} {below : List Frame} {meth : Method} {c : Code}
variable {G : jG}
set_option maxHeartbeats 4000000 in
theorem cc_m_life (l : Launch) (G : jG) (N : Nat) (μ : MS) (a0 : Int32) (a1 : Int32) (res : (Int32 × MS)) (hf : m_life N μ a0 a1 = some res) : jM l yX6_life (ws_ yX6_life cX6_life 4 (some .int)) 44 1055 [.ref (gh G), .int a0, .int a1] (mWo G) (mnx G) (mK G) μ (jU res) (gA G) (gn G) := by
  refine jj_start [(0, .ref (gh G)), (1, .int a0), (2, .int a1)] (by decide) (Nat.le_of_ble_eq_true rfl) rfl (fun p e R s m args below meth c hk hK hsz => ?_) hf
  have hk : jk p R s m args meth c (gn G) cX6_life 4 RX6 44 1055 (some .int) := hk
  unfold m_life
  refine jj_iload_n hk (pc := 0) dX6_life_0 1 rfl rfl ?_
  refine kc_m_isLong hk hK (pc := 1) (a0 := a0) (fun r h => cc_m_isLong l G μ a0 r h) dX6_life_1 ⟨Nat.le_of_ble_eq_true rfl, Nat.le_of_ble_eq_true rfl⟩ (Nat.le_of_ble_eq_true rfl) (fun r1 => ?_)
  refine jj_if_eq_b hk (pc := 4) 15 dX6_life_4 (by decide) ?_ ?_
  · refine jj_iconst hk (pc := 15) (v := (-1 : Int32)) dX6_life_15 (by decide) ?_
    exact jm_retUi hk (pc := 16) dX6_life_16
  · refine jj_aload_n hk (pc := 7) dX6_life_7 0 rfl rfl ?_
    refine jj_iload_n hk (pc := 8) dX6_life_8 2 rfl rfl ?_
    refine kc_m_areDeeds hk hK (pc := 9) (a0 := a1) (fun r h => cc_m_areDeeds l G μ a1 r h) dX6_life_9 ⟨Nat.le_of_ble_eq_true rfl, Nat.le_of_ble_eq_true rfl⟩ (Nat.le_of_ble_eq_true rfl) (fun r2 => ?_)
    refine jj_if_ne_b hk (pc := 12) 17 dX6_life_12 (by decide) ?_ ?_
    · refine jj_aload_n hk (pc := 17) dX6_life_17 0 rfl rfl ?_
      refine jj_iload_n hk (pc := 18) dX6_life_18 1 rfl rfl ?_
      refine jj_iload_n hk (pc := 19) dX6_life_19 2 rfl rfl ?_
      refine kc_m_plansOf hk hK (pc := 20) (a0 := a0) (a1 := a1) (fun r h => cc_m_plansOf l G N μ a0 a1 r h) dX6_life_20 ⟨Nat.le_of_ble_eq_true rfl, Nat.le_of_ble_eq_true rfl⟩ (Nat.le_of_ble_eq_true rfl) (fun r3 => ?_)
      refine jj_istore_n hk (pc := 23) [(3, .int r3.1), (0, .ref (gh G)), (1, .int a0), (2, .int a1)] dX6_life_23 rfl (Nat.le_of_ble_eq_true rfl) rfl ?_
      refine jj_aload_n hk (pc := 24) dX6_life_24 1 rfl rfl ?_
      refine jm_g_fewest hk hK (pc := 25) dX6_life_25 ?_
      refine jj_iconst hk (pc := 28) (v := (4 : Int32)) dX6_life_28 (by decide) ?_
      refine jj_icmp_le hk (pc := 29) 37 dX6_life_29 (by decide) ?_ ?_
      · refine jj_aload_n hk (pc := 37) dX6_life_37 1 rfl rfl ?_
        refine jm_g_fewest hk hK (pc := 38) dX6_life_38 ?_
        exact jm_retUi hk (pc := 41) dX6_life_41
      · refine jj_bipush hk (pc := 32) (v := (-3 : Int32)) dX6_life_32 (by decide) ?_
        refine jj_goto hk (pc := 34) 41 dX6_life_34 (by decide) ?_
        exact jm_retUi hk (pc := 41) dX6_life_41
    · refine jj_iconst hk (pc := 15) (v := (-1 : Int32)) dX6_life_15 (by decide) ?_
      exact jm_retUi hk (pc := 16) dX6_life_16
end
section
variable {p : Program} {l : Launch} {e : Env} {R : Room} {s : State} {m : MethodId} {args : Array Value} {below : List Frame} {meth : Method} {c : Code}
variable {G : jG}
set_option maxHeartbeats 4000000 in
theorem wb_m_bars_L27 {res : (Int32 × MS)} (hk : jk p R s m args meth c (gn G) cX6_bars 5 RX6 44 1055 (some .int)) (hK : mK G s) (N : Nat) : ∀ (n : Nat) (μ : MS) (x2 : Int32) (x4 : Int32), jj p l e R s m args below meth c (gA G) (gn G) (jZ below args s (gA G) (gn G) (jU res) (mWo G) (mnx G)) (mWo G) (mnx G) 5 μ 27 [(0, .ref (gh G)), (2, .int x2), (4, .int x4)] [] (m_bars_L27 N n μ x2 x4 = some res) := by
  intro n
  induction n with
  | zero => intro μ x2 x4; exact jj_eq (fun hz => by rw [m_bars_L27] at hz; exact hz) jj_no
  | succ n ih =>
    intro μ x2 x4
    rw [m_bars_L27]
    refine jj_iload hk (pc := 27) dX6_bars_27 2 rfl ?_
    refine jj_bipush hk (pc := 29) (v := (10 : Int32)) dX6_bars_29 (by decide) ?_
    refine jj_icmp_ge hk (pc := 31) 74 dX6_bars_31 (by decide) ?_ ?_
    · refine jj_bipush hk (pc := 74) (v := (-3 : Int32)) dX6_bars_74 (by decide) ?_
      exact jm_retUi hk (pc := 76) dX6_bars_76
    · refine jj_iload_n hk (pc := 34) dX6_bars_34 1 rfl rfl ?_
      refine jj_aload_n hk (pc := 35) dX6_bars_35 0 rfl rfl ?_
      refine jm_g_stood hk hK (pc := 36) dX6_bars_36 ?_
      refine jj_iconst hk (pc := 39) (v := (-1 : Int32)) dX6_bars_39 (by decide) ?_
      refine jj_ixor hk (pc := 40) dX6_bars_40 ?_
      refine jj_iand hk (pc := 41) dX6_bars_41 ?_
      refine jj_iload hk (pc := 42) dX6_bars_42 2 rfl ?_
      refine jj_ishr hk (pc := 44) dX6_bars_44 ?_
      refine jj_if_eq hk (pc := 45) 68 dX6_bars_45 (by decide) ?_ ?_
      · refine jj_iinc hk (pc := 68) [(4, .int (x4 + 1)), (0, .ref (gh G)), (2, .int x2)] dX6_bars_68 2 rfl rfl (Nat.le_of_ble_eq_true rfl) rfl ?_
        refine jj_goto hk (pc := 71) 27 dX6_bars_71 (by decide) ?_
        refine jj_loc [(0, .ref (gh G)), (2, .int x2), (4, .int (x4 + 1))] [1, 2, 0] rfl ?_
        exact ih μ x2 (x4 + 1)
      · refine jj_iload_n hk (pc := 48) dX6_bars_48 1 rfl rfl ?_
        refine jj_aload_n hk (pc := 49) dX6_bars_49 0 rfl rfl ?_
        refine jm_g_stood hk hK (pc := 50) dX6_bars_50 ?_
        refine jj_iconst hk (pc := 53) (v := (-1 : Int32)) dX6_bars_53 (by decide) ?_
        refine jj_ixor hk (pc := 54) dX6_bars_54 ?_
        refine jj_iand hk (pc := 55) dX6_bars_55 ?_
        refine jj_iload hk (pc := 56) dX6_bars_56 2 rfl ?_
        refine jj_ishr hk (pc := 58) dX6_bars_58 ?_
        refine jj_iconst hk (pc := 59) (v := (1 : Int32)) dX6_bars_59 (by decide) ?_
        refine jj_iand hk (pc := 60) dX6_bars_60 ?_
        refine jj_iconst hk (pc := 61) (v := (1 : Int32)) dX6_bars_61 (by decide) ?_
        refine jj_icmp_ne hk (pc := 62) 68 dX6_bars_62 (by decide) ?_ ?_
        · refine jj_iinc hk (pc := 68) [(4, .int (x4 + 1)), (0, .ref (gh G)), (2, .int x2)] dX6_bars_68 2 rfl rfl (Nat.le_of_ble_eq_true rfl) rfl ?_
          refine jj_goto hk (pc := 71) 27 dX6_bars_71 (by decide) ?_
          refine jj_loc [(0, .ref (gh G)), (2, .int x2), (4, .int (x4 + 1))] [1, 2, 0] rfl ?_
          exact ih μ x2 (x4 + 1)
        · refine jj_iload hk (pc := 65) dX6_bars_65 2 rfl ?_
          exact jm_retUi hk (pc := 67) dX6_bars_67
set_option maxHeartbeats 4000000 in
theorem cc_m_bars (l : Launch) (G : jG) (N : Nat) (μ : MS) (a0 : Int32) (a1 : Int32) (res : (Int32 × MS)) (hf : m_bars N μ a0 a1 = some res) : jM l yX6_bars (ws_ yX6_bars cX6_bars 5 (some .int)) 44 1055 [.ref (gh G), .int a0, .int a1] (mWo G) (mnx G) (mK G) μ (jU res) (gA G) (gn G) := by
  refine jj_start [(0, .ref (gh G)), (1, .int a0), (2, .int a1)] (by decide) (Nat.le_of_ble_eq_true rfl) rfl (fun p e R s m args below meth c hk hK hsz => ?_) hf
  have hk : jk p R s m args meth c (gn G) cX6_bars 5 RX6 44 1055 (some .int) := hk
  unfold m_bars
  refine jj_iload_n hk (pc := 0) dX6_bars_0 1 rfl rfl ?_
  refine kc_m_isLong hk hK (pc := 1) (a0 := a0) (fun r h => cc_m_isLong l G μ a0 r h) dX6_bars_1 ⟨Nat.le_of_ble_eq_true rfl, Nat.le_of_ble_eq_true rfl⟩ (Nat.le_of_ble_eq_true rfl) (fun r1 => ?_)
  refine jj_if_eq_b hk (pc := 4) 15 dX6_bars_4 (by decide) ?_ ?_
  · refine jj_iconst hk (pc := 15) (v := (-1 : Int32)) dX6_bars_15 (by decide) ?_
    exact jm_retUi hk (pc := 16) dX6_bars_16
  · refine jj_aload_n hk (pc := 7) dX6_bars_7 0 rfl rfl ?_
    refine jj_iload_n hk (pc := 8) dX6_bars_8 2 rfl rfl ?_
    refine kc_m_areDeeds hk hK (pc := 9) (a0 := a1) (fun r h => cc_m_areDeeds l G μ a1 r h) dX6_bars_9 ⟨Nat.le_of_ble_eq_true rfl, Nat.le_of_ble_eq_true rfl⟩ (Nat.le_of_ble_eq_true rfl) (fun r2 => ?_)
    refine jj_if_ne_b hk (pc := 12) 17 dX6_bars_12 (by decide) ?_ ?_
    · refine jj_aload_n hk (pc := 17) dX6_bars_17 0 rfl rfl ?_
      refine jj_iload_n hk (pc := 18) dX6_bars_18 1 rfl rfl ?_
      refine jj_iload_n hk (pc := 19) dX6_bars_19 2 rfl rfl ?_
      refine kc_m_plansOf hk hK (pc := 20) (a0 := a0) (a1 := a1) (fun r h => cc_m_plansOf l G N μ a0 a1 r h) dX6_bars_20 ⟨Nat.le_of_ble_eq_true rfl, Nat.le_of_ble_eq_true rfl⟩ (Nat.le_of_ble_eq_true rfl) (fun r3 => ?_)
      refine jj_istore_n hk (pc := 23) [(3, .int r3.1), (0, .ref (gh G)), (1, .int a0), (2, .int a1)] dX6_bars_23 rfl (Nat.le_of_ble_eq_true rfl) rfl ?_
      refine jj_iconst hk (pc := 24) (v := (0 : Int32)) dX6_bars_24 (by decide) ?_
      refine jj_istore hk (pc := 25) [(4, .int (0 : Int32)), (3, .int r3.1), (0, .ref (gh G)), (1, .int a0), (2, .int a1)] dX6_bars_25 (Nat.le_of_ble_eq_true rfl) rfl ?_
      refine jj_loc [(0, .ref (gh G)), (2, .int a1), (4, .int (0 : Int32))] [2, 4, 0] rfl ?_
      exact wb_m_bars_L27 hk hK N N r3.2 a1 (0 : Int32)
    · refine jj_iconst hk (pc := 15) (v := (-1 : Int32)) dX6_bars_15 (by decide) ?_
      exact jm_retUi hk (pc := 16) dX6_bars_16
end
section
variable {p : Program} {l : Launch} {e : Env} {R : Room} {s : State} {m : MethodId} {args : Array Value} {below : List Frame} {meth : Method} {c : Code}
variable {G : jG}
variable {NX : Nat} {Q : State → Prop} {nL : Nat} {cc : ByteArray} {fr lo frc loc : Nat} {ret : Option FieldType}
variable {pc : Nat} {μ : MS} {lv : List (Nat × Value)} {st : List Value} {ρ : Type} {res : ρ}
theorem kc_m_played (hk : jk p R s m args meth c NX cc nL RX6 fr lo ret) (hK : mK G s) {a0 : Int32} {a1 : Int32} {a2 : Bool} {F : Option (Int32 × MS)} {K : (Int32 × MS) → Option ρ} (hM : ∀ r, F = some r → jM l yX6_played (ws_ yX6_played cX6_played 9 (some .int)) frc loc [.ref (gh G), .int a0, .int a1, .int (bI a2)] (mWo G) (mnx G) (mK G) μ (jU r) (gA G) (gn G)) (hd : decode cc pc = .ok (.invokevirtual 225, 3)) (hr : frc + 1 ≤ fr ∧ 8 + (9 + 11) + loc ≤ lo) (hw : (st.map fun v => v.category).sum ≤ 8) (kk : ∀ r, jj p l e R s m args below meth c (gA G) NX Q (mWo G) (mnx G) nL r.2 (pc + 3) lv (.int r.1 :: st) (K r = some res)) : jj p l e R s m args below meth c (gA G) NX Q (mWo G) (mnx G) nL μ pc lv (.int (bI a2) :: .int a1 :: .int a0 :: .ref (gh G) :: st) (F.bind K = some res) :=
  jm_VUi (n := 3) hk hK [.int a0, .int a1, .int (bI a2)] hM (lw_V q1945 q1947 qs84 q127 q1948) (by decide +kernel) rfl rfl hd hr hw kk
end
section
variable {p : Program} {l : Launch} {e : Env} {R : Room} {s : State} {m : MethodId} {args : Array Value} {below : List Frame} {meth : Method} {c : Code}
variable {G : jG}
set_option maxHeartbeats 4000000 in
theorem wb_m_played_B98 {res : (Int32 × MS)} {fr0 lo0 : Nat} (hk : jk p R s m args meth c (gn G) cX6_played 9 RX6 (fr0 + 7) (lo0 + 168) (some .int)) (hK : mK G s) {k_played : MS → Int32 → Int32 → Bool → Option (Int32 × MS)} (hk_played : ∀ (μ : MS) (b0 : Int32) (b1 : Int32) (b2 : Bool) (r : (Int32 × MS)), k_played μ b0 b1 b2 = some r → jM l yX6_played (ws_ yX6_played cX6_played 9 (some .int)) fr0 lo0 [.ref (gh G), .int b0, .int b1, .int (bI b2)] (mWo G) (mnx G) (mK G) μ (jU r) (gA G) (gn G)) (N : Nat) {k16 : MS → Int32 → Int32 → Bool → Int32 → Int32 → Int32 → Option (Int32 × MS)} (hk16 : ∀ (μ : MS) (x1 : Int32) (x2 : Int32) (x3 : Bool) (x4 : Int32) (x5 : Int32) (x6 : Int32), jj p l e R s m args below meth c (gA G) (gn G) (jZ below args s (gA G) (gn G) (jU res) (mWo G) (mnx G)) (mWo G) (mnx G) 9 μ 16 [(0, .ref (gh G)), (1, .int x1), (2, .int x2), (3, .int (bI x3)), (4, .int x4), (5, .int x5), (6, .int x6)] [] (k16 μ x1 x2 x3 x4 x5 x6 = some res)) (μ : MS) (x1 : Int32) (x2 : Int32) (x3 : Bool) (x4 : Int32) (x5 : Int32) (x6 : Int32) (x7 : Int32) (y0 : Bool) : jj p l e R s m args below meth c (gA G) (gn G) (jZ below args s (gA G) (gn G) (jU res) (mWo G) (mnx G)) (mWo G) (mnx G) 9 μ 98 [(0, .ref (gh G)), (1, .int x1), (2, .int x2), (3, .int (bI x3)), (4, .int x4), (5, .int x5), (6, .int x6), (7, .int x7)] [.int (bI y0)] (m_played_B98 N k_played k16 μ x1 x2 x3 x4 x5 x6 x7 y0 = some res) := by
  unfold m_played_B98
  refine jj_istore hk (pc := 98) [(8, .int (bI y0)), (0, .ref (gh G)), (1, .int x1), (2, .int x2), (3, .int (bI x3)), (4, .int x4), (5, .int x5), (6, .int x6), (7, .int x7)] dX6_played_98 (Nat.le_of_ble_eq_true rfl) rfl ?_
  refine jj_iload hk (pc := 100) dX6_played_100 0 rfl ?_
  refine jj_if_eq_b hk (pc := 102) 110 dX6_played_102 (by decide) ?_ ?_
  · refine jj_iload hk (pc := 110) dX6_played_110 5 rfl ?_
    refine jj_istore hk (pc := 112) [(4, .int x4), (8, .int (bI y0)), (0, .ref (gh G)), (1, .int x1), (2, .int x2), (3, .int (bI x3)), (5, .int x5), (6, .int x6), (7, .int x7)] dX6_played_112 (Nat.le_of_ble_eq_true rfl) rfl ?_
    refine jj_iload hk (pc := 114) dX6_played_114 1 rfl ?_
    refine jj_if_eq_b hk (pc := 116) 124 dX6_played_116 (by decide) ?_ ?_
    · refine jj_iload hk (pc := 124) dX6_played_124 6 rfl ?_
      refine jj_istore hk (pc := 126) [(5, .int x5), (4, .int x4), (8, .int (bI y0)), (0, .ref (gh G)), (1, .int x1), (2, .int x2), (3, .int (bI x3)), (6, .int x6), (7, .int x7)] dX6_played_126 (Nat.le_of_ble_eq_true rfl) rfl ?_
      refine jj_iinc hk (pc := 128) [(6, .int (x6 + 1)), (5, .int x5), (4, .int x4), (8, .int (bI y0)), (0, .ref (gh G)), (1, .int x1), (2, .int x2), (3, .int (bI x3)), (7, .int x7)] dX6_played_128 7 rfl rfl (Nat.le_of_ble_eq_true rfl) rfl ?_
      refine jj_goto hk (pc := 131) 16 dX6_played_131 (by decide) ?_
      refine jj_loc [(0, .ref (gh G)), (1, .int x1), (2, .int x2), (3, .int (bI x3)), (4, .int x4), (5, .int x5), (6, .int (x6 + 1))] [4, 5, 6, 7, 2, 1, 0] rfl ?_
      exact hk16 μ x1 x2 x3 x4 x5 (x6 + 1)
    · refine jj_iload hk (pc := 119) dX6_played_119 7 rfl ?_
      refine jj_goto hk (pc := 121) 126 dX6_played_121 (by decide) ?_
      refine jj_istore hk (pc := 126) [(5, .int x6), (4, .int x4), (8, .int (bI y0)), (0, .ref (gh G)), (1, .int x1), (2, .int x2), (3, .int (bI x3)), (6, .int x6), (7, .int x7)] dX6_played_126 (Nat.le_of_ble_eq_true rfl) rfl ?_
      refine jj_iinc hk (pc := 128) [(6, .int (x6 + 1)), (5, .int x6), (4, .int x4), (8, .int (bI y0)), (0, .ref (gh G)), (1, .int x1), (2, .int x2), (3, .int (bI x3)), (7, .int x7)] dX6_played_128 7 rfl rfl (Nat.le_of_ble_eq_true rfl) rfl ?_
      refine jj_goto hk (pc := 131) 16 dX6_played_131 (by decide) ?_
      refine jj_loc [(0, .ref (gh G)), (1, .int x1), (2, .int x2), (3, .int (bI x3)), (4, .int x4), (5, .int x6), (6, .int (x6 + 1))] [4, 5, 6, 7, 2, 1, 0] rfl ?_
      exact hk16 μ x1 x2 x3 x4 x6 (x6 + 1)
  · refine jj_iload hk (pc := 105) dX6_played_105 8 rfl ?_
    refine jj_goto hk (pc := 107) 112 dX6_played_107 (by decide) ?_
    refine jj_istore hk (pc := 112) [(4, .int x7), (8, .int (bI y0)), (0, .ref (gh G)), (1, .int x1), (2, .int x2), (3, .int (bI x3)), (5, .int x5), (6, .int x6), (7, .int x7)] dX6_played_112 (Nat.le_of_ble_eq_true rfl) rfl ?_
    refine jj_iload hk (pc := 114) dX6_played_114 1 rfl ?_
    refine jj_if_eq_b hk (pc := 116) 124 dX6_played_116 (by decide) ?_ ?_
    · refine jj_iload hk (pc := 124) dX6_played_124 6 rfl ?_
      refine jj_istore hk (pc := 126) [(5, .int x5), (4, .int x7), (8, .int (bI y0)), (0, .ref (gh G)), (1, .int x1), (2, .int x2), (3, .int (bI x3)), (6, .int x6), (7, .int x7)] dX6_played_126 (Nat.le_of_ble_eq_true rfl) rfl ?_
      refine jj_iinc hk (pc := 128) [(6, .int (x6 + 1)), (5, .int x5), (4, .int x7), (8, .int (bI y0)), (0, .ref (gh G)), (1, .int x1), (2, .int x2), (3, .int (bI x3)), (7, .int x7)] dX6_played_128 7 rfl rfl (Nat.le_of_ble_eq_true rfl) rfl ?_
      refine jj_goto hk (pc := 131) 16 dX6_played_131 (by decide) ?_
      refine jj_loc [(0, .ref (gh G)), (1, .int x1), (2, .int x2), (3, .int (bI x3)), (4, .int x7), (5, .int x5), (6, .int (x6 + 1))] [4, 5, 6, 7, 2, 1, 0] rfl ?_
      exact hk16 μ x1 x2 x3 x7 x5 (x6 + 1)
    · refine jj_iload hk (pc := 119) dX6_played_119 7 rfl ?_
      refine jj_goto hk (pc := 121) 126 dX6_played_121 (by decide) ?_
      refine jj_istore hk (pc := 126) [(5, .int x6), (4, .int x7), (8, .int (bI y0)), (0, .ref (gh G)), (1, .int x1), (2, .int x2), (3, .int (bI x3)), (6, .int x6), (7, .int x7)] dX6_played_126 (Nat.le_of_ble_eq_true rfl) rfl ?_
      refine jj_iinc hk (pc := 128) [(6, .int (x6 + 1)), (5, .int x6), (4, .int x7), (8, .int (bI y0)), (0, .ref (gh G)), (1, .int x1), (2, .int x2), (3, .int (bI x3)), (7, .int x7)] dX6_played_128 7 rfl rfl (Nat.le_of_ble_eq_true rfl) rfl ?_
      refine jj_goto hk (pc := 131) 16 dX6_played_131 (by decide) ?_
      refine jj_loc [(0, .ref (gh G)), (1, .int x1), (2, .int x2), (3, .int (bI x3)), (4, .int x7), (5, .int x6), (6, .int (x6 + 1))] [4, 5, 6, 7, 2, 1, 0] rfl ?_
      exact hk16 μ x1 x2 x3 x7 x6 (x6 + 1)
set_option maxHeartbeats 4000000 in
theorem wb_m_played_L16 {res : (Int32 × MS)} {fr0 lo0 : Nat} (hk : jk p R s m args meth c (gn G) cX6_played 9 RX6 (fr0 + 7) (lo0 + 168) (some .int)) (hK : mK G s) {k_played : MS → Int32 → Int32 → Bool → Option (Int32 × MS)} (hk_played : ∀ (μ : MS) (b0 : Int32) (b1 : Int32) (b2 : Bool) (r : (Int32 × MS)), k_played μ b0 b1 b2 = some r → jM l yX6_played (ws_ yX6_played cX6_played 9 (some .int)) fr0 lo0 [.ref (gh G), .int b0, .int b1, .int (bI b2)] (mWo G) (mnx G) (mK G) μ (jU r) (gA G) (gn G)) (N : Nat) : ∀ (n : Nat) (μ : MS) (x1 : Int32) (x2 : Int32) (x3 : Bool) (x4 : Int32) (x5 : Int32) (x6 : Int32), jj p l e R s m args below meth c (gA G) (gn G) (jZ below args s (gA G) (gn G) (jU res) (mWo G) (mnx G)) (mWo G) (mnx G) 9 μ 16 [(0, .ref (gh G)), (1, .int x1), (2, .int x2), (3, .int (bI x3)), (4, .int x4), (5, .int x5), (6, .int x6)] [] (m_played_L16 N k_played n μ x1 x2 x3 x4 x5 x6 = some res) := by
  intro n
  induction n with
  | zero => intro μ x1 x2 x3 x4 x5 x6; exact jj_eq (fun hz => by rw [m_played_L16] at hz; exact hz) jj_no
  | succ n ih =>
    intro μ x1 x2 x3 x4 x5 x6
    rw [m_played_L16]
    refine jj_iload hk (pc := 16) dX6_played_16 6 rfl ?_
    refine jj_aload_n hk (pc := 18) dX6_played_18 0 rfl rfl ?_
    refine jm_g_s hk hK (pc := 19) dX6_played_19 ?_
    refine jj_iconst hk (pc := 22) (v := (0 : Int32)) dX6_played_22 (by decide) ?_
    refine jm_ld hk hK (pc := 23) (by decide) dX6_played_23 (fun v1 => ?_)
    refine jj_icmp_gt hk (pc := 24) 134 dX6_played_24 (by decide) ?_ ?_
    · refine jj_aload_n hk (pc := 134) dX6_played_134 0 rfl rfl ?_
      refine jj_iload hk (pc := 135) dX6_played_135 5 rfl ?_
      refine jm_p_bestAct hk hK (pc := 137) dX6_played_137 (fun μ2 => ?_)
      refine jj_iload hk (pc := 140) dX6_played_140 4 rfl ?_
      exact jm_retUi hk (pc := 142) dX6_played_142
    · refine jj_aload_n hk (pc := 27) dX6_played_27 0 rfl rfl ?_
      refine jj_iload_n hk (pc := 28) dX6_played_28 1 rfl rfl ?_
      refine kc_m_saves hk hK (pc := 29) (a0 := x1) (fun r h => cc_m_saves l G N μ x1 r h) dX6_played_29 ⟨by omega, by omega⟩ (Nat.le_of_ble_eq_true rfl) (fun r3 => ?_)
      refine jj_aload_n hk (pc := 32) dX6_played_32 0 rfl rfl ?_
      refine jj_iload hk (pc := 33) dX6_played_33 6 rfl ?_
      refine kc_m_goes hk hK (pc := 35) (a0 := x6) (fun r h => cc_m_goes l G N r3 x6 r h) dX6_played_35 ⟨by omega, by omega⟩ (Nat.le_of_ble_eq_true rfl) (fun r4 => ?_)
      refine jj_istore hk (pc := 38) [(7, .int r4.1), (0, .ref (gh G)), (1, .int x1), (2, .int x2), (3, .int (bI x3)), (4, .int x4), (5, .int x5), (6, .int x6)] dX6_played_38 (Nat.le_of_ble_eq_true rfl) rfl ?_
      refine jj_iload hk (pc := 40) dX6_played_40 0 rfl ?_
      refine jj_aload_n hk (pc := 42) dX6_played_42 1 rfl rfl ?_
      refine jj_iload_n hk (pc := 43) dX6_played_43 2 rfl rfl ?_
      refine jj_iconst hk (pc := 44) (v := (1 : Int32)) dX6_played_44 (by decide) ?_
      refine jj_iadd hk (pc := 45) dX6_played_45 ?_
      refine jj_iload_n hk (pc := 46) dX6_played_46 3 rfl rfl ?_
      refine jj_iload_n hk (pc := 47) dX6_played_47 4 rfl rfl ?_
      refine jj_if_ne_b hk (pc := 48) 55 dX6_played_48 (by decide) ?_ ?_
      · refine jj_iconst hk (pc := 55) (v := (0 : Int32)) dX6_played_55 (by decide) ?_
        refine kc_m_played hk hK (pc := 56) (a0 := (x1 + (1 : Int32))) (a1 := x2) (a2 := false) (hk_played r4.2 (x1 + (1 : Int32)) x2 false) dX6_played_56 ⟨by omega, by omega⟩ (Nat.le_of_ble_eq_true rfl) (fun r5 => ?_)
        refine jj_iadd hk (pc := 59) dX6_played_59 ?_
        refine jj_istore hk (pc := 60) [(7, .int (r4.1 + r5.1)), (0, .ref (gh G)), (1, .int x1), (2, .int x2), (3, .int (bI x3)), (4, .int x4), (5, .int x5), (6, .int x6)] dX6_played_60 (Nat.le_of_ble_eq_true rfl) rfl ?_
        refine jj_aload_n hk (pc := 62) dX6_played_62 1 rfl rfl ?_
        refine jj_iload_n hk (pc := 63) dX6_played_63 2 rfl rfl ?_
        refine kc_m_takesBack hk hK (pc := 64) (a0 := x1) (fun r h => cc_m_takesBack l G N r5.2 x1 r h) dX6_played_64 ⟨by omega, by omega⟩ (Nat.le_of_ble_eq_true rfl) (fun r6 => ?_)
        refine jj_iload hk (pc := 67) dX6_played_67 6 rfl ?_
        refine jj_if_lt hk (pc := 69) 93 dX6_played_69 (by decide) ?_ ?_
        · refine jj_iconst hk (pc := 93) (v := (1 : Int32)) dX6_played_93 (by decide) ?_
          refine jj_goto hk (pc := 94) 98 dX6_played_94 (by decide) ?_
          refine jj_loc [(0, .ref (gh G)), (1, .int x1), (2, .int x2), (3, .int (bI x3)), (4, .int x4), (5, .int x5), (6, .int x6), (7, .int (r4.1 + r5.1))] [1, 2, 3, 4, 5, 6, 7, 0] rfl ?_
          exact wb_m_played_B98 hk hK hk_played N ih r6 x1 x2 x3 x4 x5 x6 (r4.1 + r5.1) true
        · refine jj_iload_n hk (pc := 72) dX6_played_72 4 rfl rfl ?_
          refine jj_if_eq_b hk (pc := 73) 86 dX6_played_73 (by decide) ?_ ?_
          · refine jj_iload hk (pc := 86) dX6_played_86 0 rfl ?_
            refine jj_iload hk (pc := 88) dX6_played_88 5 rfl ?_
            refine jj_icmp_ge hk (pc := 90) 97 dX6_played_90 (by decide) ?_ ?_
            · refine jj_iconst hk (pc := 97) (v := (0 : Int32)) dX6_played_97 (by decide) ?_
              refine jj_loc [(0, .ref (gh G)), (1, .int x1), (2, .int x2), (3, .int (bI x3)), (4, .int x4), (5, .int x5), (6, .int x6), (7, .int (r4.1 + r5.1))] [1, 2, 3, 4, 5, 6, 7, 0] rfl ?_
              exact wb_m_played_B98 hk hK hk_played N ih r6 x1 x2 x3 x4 x5 x6 (r4.1 + r5.1) false
            · refine jj_iconst hk (pc := 93) (v := (1 : Int32)) dX6_played_93 (by decide) ?_
              refine jj_goto hk (pc := 94) 98 dX6_played_94 (by decide) ?_
              refine jj_loc [(0, .ref (gh G)), (1, .int x1), (2, .int x2), (3, .int (bI x3)), (4, .int x4), (5, .int x5), (6, .int x6), (7, .int (r4.1 + r5.1))] [1, 2, 3, 4, 5, 6, 7, 0] rfl ?_
              exact wb_m_played_B98 hk hK hk_played N ih r6 x1 x2 x3 x4 x5 x6 (r4.1 + r5.1) true
          · refine jj_iload hk (pc := 76) dX6_played_76 0 rfl ?_
            refine jj_iload hk (pc := 78) dX6_played_78 5 rfl ?_
            refine jj_icmp_le hk (pc := 80) 97 dX6_played_80 (by decide) ?_ ?_
            · refine jj_iconst hk (pc := 97) (v := (0 : Int32)) dX6_played_97 (by decide) ?_
              refine jj_loc [(0, .ref (gh G)), (1, .int x1), (2, .int x2), (3, .int (bI x3)), (4, .int x4), (5, .int x5), (6, .int x6), (7, .int (r4.1 + r5.1))] [1, 2, 3, 4, 5, 6, 7, 0] rfl ?_
              exact wb_m_played_B98 hk hK hk_played N ih r6 x1 x2 x3 x4 x5 x6 (r4.1 + r5.1) false
            · refine jj_goto hk (pc := 83) 93 dX6_played_83 (by decide) ?_
              refine jj_iconst hk (pc := 93) (v := (1 : Int32)) dX6_played_93 (by decide) ?_
              refine jj_goto hk (pc := 94) 98 dX6_played_94 (by decide) ?_
              refine jj_loc [(0, .ref (gh G)), (1, .int x1), (2, .int x2), (3, .int (bI x3)), (4, .int x4), (5, .int x5), (6, .int x6), (7, .int (r4.1 + r5.1))] [1, 2, 3, 4, 5, 6, 7, 0] rfl ?_
              exact wb_m_played_B98 hk hK hk_played N ih r6 x1 x2 x3 x4 x5 x6 (r4.1 + r5.1) true
      · refine jj_iconst hk (pc := 51) (v := (1 : Int32)) dX6_played_51 (by decide) ?_
        refine jj_goto hk (pc := 52) 56 dX6_played_52 (by decide) ?_
        refine kc_m_played hk hK (pc := 56) (a0 := (x1 + (1 : Int32))) (a1 := x2) (a2 := true) (hk_played r4.2 (x1 + (1 : Int32)) x2 true) dX6_played_56 ⟨by omega, by omega⟩ (Nat.le_of_ble_eq_true rfl) (fun r7 => ?_)
        refine jj_iadd hk (pc := 59) dX6_played_59 ?_
        refine jj_istore hk (pc := 60) [(7, .int (r4.1 + r7.1)), (0, .ref (gh G)), (1, .int x1), (2, .int x2), (3, .int (bI x3)), (4, .int x4), (5, .int x5), (6, .int x6)] dX6_played_60 (Nat.le_of_ble_eq_true rfl) rfl ?_
        refine jj_aload_n hk (pc := 62) dX6_played_62 1 rfl rfl ?_
        refine jj_iload_n hk (pc := 63) dX6_played_63 2 rfl rfl ?_
        refine kc_m_takesBack hk hK (pc := 64) (a0 := x1) (fun r h => cc_m_takesBack l G N r7.2 x1 r h) dX6_played_64 ⟨by omega, by omega⟩ (Nat.le_of_ble_eq_true rfl) (fun r8 => ?_)
        refine jj_iload hk (pc := 67) dX6_played_67 6 rfl ?_
        refine jj_if_lt hk (pc := 69) 93 dX6_played_69 (by decide) ?_ ?_
        · refine jj_iconst hk (pc := 93) (v := (1 : Int32)) dX6_played_93 (by decide) ?_
          refine jj_goto hk (pc := 94) 98 dX6_played_94 (by decide) ?_
          refine jj_loc [(0, .ref (gh G)), (1, .int x1), (2, .int x2), (3, .int (bI x3)), (4, .int x4), (5, .int x5), (6, .int x6), (7, .int (r4.1 + r7.1))] [1, 2, 3, 4, 5, 6, 7, 0] rfl ?_
          exact wb_m_played_B98 hk hK hk_played N ih r8 x1 x2 x3 x4 x5 x6 (r4.1 + r7.1) true
        · refine jj_iload_n hk (pc := 72) dX6_played_72 4 rfl rfl ?_
          refine jj_if_eq_b hk (pc := 73) 86 dX6_played_73 (by decide) ?_ ?_
          · refine jj_iload hk (pc := 86) dX6_played_86 0 rfl ?_
            refine jj_iload hk (pc := 88) dX6_played_88 5 rfl ?_
            refine jj_icmp_ge hk (pc := 90) 97 dX6_played_90 (by decide) ?_ ?_
            · refine jj_iconst hk (pc := 97) (v := (0 : Int32)) dX6_played_97 (by decide) ?_
              refine jj_loc [(0, .ref (gh G)), (1, .int x1), (2, .int x2), (3, .int (bI x3)), (4, .int x4), (5, .int x5), (6, .int x6), (7, .int (r4.1 + r7.1))] [1, 2, 3, 4, 5, 6, 7, 0] rfl ?_
              exact wb_m_played_B98 hk hK hk_played N ih r8 x1 x2 x3 x4 x5 x6 (r4.1 + r7.1) false
            · refine jj_iconst hk (pc := 93) (v := (1 : Int32)) dX6_played_93 (by decide) ?_
              refine jj_goto hk (pc := 94) 98 dX6_played_94 (by decide) ?_
              refine jj_loc [(0, .ref (gh G)), (1, .int x1), (2, .int x2), (3, .int (bI x3)), (4, .int x4), (5, .int x5), (6, .int x6), (7, .int (r4.1 + r7.1))] [1, 2, 3, 4, 5, 6, 7, 0] rfl ?_
              exact wb_m_played_B98 hk hK hk_played N ih r8 x1 x2 x3 x4 x5 x6 (r4.1 + r7.1) true
          · refine jj_iload hk (pc := 76) dX6_played_76 0 rfl ?_
            refine jj_iload hk (pc := 78) dX6_played_78 5 rfl ?_
            refine jj_icmp_le hk (pc := 80) 97 dX6_played_80 (by decide) ?_ ?_
            · refine jj_iconst hk (pc := 97) (v := (0 : Int32)) dX6_played_97 (by decide) ?_
              refine jj_loc [(0, .ref (gh G)), (1, .int x1), (2, .int x2), (3, .int (bI x3)), (4, .int x4), (5, .int x5), (6, .int x6), (7, .int (r4.1 + r7.1))] [1, 2, 3, 4, 5, 6, 7, 0] rfl ?_
              exact wb_m_played_B98 hk hK hk_played N ih r8 x1 x2 x3 x4 x5 x6 (r4.1 + r7.1) false
            · refine jj_goto hk (pc := 83) 93 dX6_played_83 (by decide) ?_
              refine jj_iconst hk (pc := 93) (v := (1 : Int32)) dX6_played_93 (by decide) ?_
              refine jj_goto hk (pc := 94) 98 dX6_played_94 (by decide) ?_
              refine jj_loc [(0, .ref (gh G)), (1, .int x1), (2, .int x2), (3, .int (bI x3)), (4, .int x4), (5, .int x5), (6, .int x6), (7, .int (r4.1 + r7.1))] [1, 2, 3, 4, 5, 6, 7, 0] rfl ?_
              exact wb_m_played_B98 hk hK hk_played N ih r8 x1 x2 x3 x4 x5 x6 (r4.1 + r7.1) true
set_option maxHeartbeats 4000000 in
theorem cc_m_played (l : Launch) (G : jG) (N : Nat) : ∀ (d : Nat) (μ : MS) (a0 : Int32) (a1 : Int32) (a2 : Bool) (res : (Int32 × MS)) (hf : m_played N d μ a0 a1 a2 = some res), jM l yX6_played (ws_ yX6_played cX6_played 9 (some .int)) (7 * d) (168 * d) [.ref (gh G), .int a0, .int a1, .int (bI a2)] (mWo G) (mnx G) (mK G) μ (jU res) (gA G) (gn G) := by
  intro d
  induction d with
  | zero => intro μ a0 a1 a2 res hf; rw [m_played] at hf; cases hf
  | succ d ih =>
    intro μ a0 a1 a2 res hf
    rw [m_played] at hf
    have hk_played := ih
    refine jj_start [(0, .ref (gh G)), (1, .int a0), (2, .int a1), (3, .int (bI a2))] (by decide) (Nat.le_of_ble_eq_true rfl) rfl (fun p e R s m args below meth c hk hK hsz => ?_) hf
    have hk : jk p R s m args meth c (gn G) cX6_played 9 RX6 (7 * d + 7) (168 * d + 168) (some .int) := hk
    have hsz : True := trivial
    refine jj_iload_n hk (pc := 0) dX6_played_0 1 rfl rfl ?_
    refine jj_iload_n hk (pc := 1) dX6_played_1 2 rfl rfl ?_
    refine jj_icmp_ne hk (pc := 2) 7 dX6_played_2 (by decide) ?_ ?_
    · refine jj_iconst hk (pc := 7) (v := (0 : Int32)) dX6_played_7 (by decide) ?_
      refine jj_istore hk (pc := 8) [(4, .int (0 : Int32)), (0, .ref (gh G)), (1, .int a0), (2, .int a1), (3, .int (bI a2))] dX6_played_8 (Nat.le_of_ble_eq_true rfl) rfl ?_
      refine jj_iconst hk (pc := 10) (v := (-1 : Int32)) dX6_played_10 (by decide) ?_
      refine jj_istore hk (pc := 11) [(5, .int (-1 : Int32)), (4, .int (0 : Int32)), (0, .ref (gh G)), (1, .int a0), (2, .int a1), (3, .int (bI a2))] dX6_played_11 (Nat.le_of_ble_eq_true rfl) rfl ?_
      refine jj_iconst hk (pc := 13) (v := (0 : Int32)) dX6_played_13 (by decide) ?_
      refine jj_istore hk (pc := 14) [(6, .int (0 : Int32)), (5, .int (-1 : Int32)), (4, .int (0 : Int32)), (0, .ref (gh G)), (1, .int a0), (2, .int a1), (3, .int (bI a2))] dX6_played_14 (Nat.le_of_ble_eq_true rfl) rfl ?_
      refine jj_loc [(0, .ref (gh G)), (1, .int a0), (2, .int a1), (3, .int (bI a2)), (4, .int (0 : Int32)), (5, .int (-1 : Int32)), (6, .int (0 : Int32))] [3, 4, 5, 6, 2, 1, 0] rfl ?_
      exact wb_m_played_L16 hk hK hk_played N N μ a0 a1 a2 (0 : Int32) (-1 : Int32) (0 : Int32)
    · refine jj_iconst hk (pc := 5) (v := (0 : Int32)) dX6_played_5 (by decide) ?_
      exact jm_retUi hk (pc := 6) dX6_played_6
end
section
variable {p : Program} {l : Launch} {e : Env} {R : Room} {s : State} {m : MethodId} {args : Array Value} {below : List Frame} {meth : Method} {c : Code}
variable {G : jG}
set_option maxHeartbeats 4000000 in
theorem cc_m_game (l : Launch) (G : jG) (N : Nat) (μ : MS) (a0 : Int32) (res : (Int32 × MS)) (hf : m_game N μ a0 = some res) : jM l yX6_game (ws_ yX6_game cX6_game 2 (some .int)) 43 1036 [.ref (gh G), .int a0] (mWo G) (mnx G) (mK G) μ (jU res) (gA G) (gn G) := by
  refine jj_start [(0, .ref (gh G)), (1, .int a0)] (by decide) (Nat.le_of_ble_eq_true rfl) rfl (fun p e R s m args below meth c hk hK hsz => ?_) hf
  have hk : jk p R s m args meth c (gn G) cX6_game 2 RX6 43 1036 (some .int) := hk
  unfold m_game
  refine jj_iload_n hk (pc := 0) dX6_game_0 1 rfl rfl ?_
  refine jj_i2l hk (pc := 1) dX6_game_1 ?_
  refine jj_lconst hk (pc := 2) (v := (1 : Int64)) dX6_game_2 (by decide) ?_
  refine jj_ldc2_w hk (pc := 3) q1803 dX6_game_3 ?_
  refine kc_m_in hk hK (pc := 6) (a0 := a0.toInt64) (a1 := (1 : Int64)) (a2 := (4 : Int64)) (fun r h => cc_m_in l G μ a0.toInt64 (1 : Int64) (4 : Int64) r h) dX6_game_6 ⟨Nat.le_of_ble_eq_true rfl, Nat.le_of_ble_eq_true rfl⟩ (Nat.le_of_ble_eq_true rfl) (fun r1 => ?_)
  refine jj_if_eq_b hk (pc := 9) 26 dX6_game_9 (by decide) ?_ ?_
  · refine jj_iconst hk (pc := 26) (v := (-1 : Int32)) dX6_game_26 (by decide) ?_
    exact jm_retUi hk (pc := 27) dX6_game_27
  · refine jj_aload_n hk (pc := 12) dX6_game_12 0 rfl rfl ?_
    refine jj_iconst hk (pc := 13) (v := (0 : Int32)) dX6_game_13 (by decide) ?_
    refine jj_aload_n hk (pc := 14) dX6_game_14 0 rfl rfl ?_
    refine jj_iload_n hk (pc := 15) dX6_game_15 1 rfl rfl ?_
    refine kc_m_yearsOf hk hK (pc := 16) (a0 := a0) (fun r h => cc_m_yearsOf l G μ a0 r h) dX6_game_16 ⟨Nat.le_of_ble_eq_true rfl, Nat.le_of_ble_eq_true rfl⟩ (Nat.le_of_ble_eq_true rfl) (fun r2 => ?_)
    refine jj_iconst hk (pc := 19) (v := (1 : Int32)) dX6_game_19 (by decide) ?_
    refine kc_m_played hk hK (pc := 20) (a0 := (0 : Int32)) (a1 := r2) (a2 := true) (fun r h => cc_m_played l G N 6 μ (0 : Int32) r2 true r h) dX6_game_20 ⟨Nat.le_of_ble_eq_true rfl, Nat.le_of_ble_eq_true rfl⟩ (Nat.le_of_ble_eq_true rfl) (fun r3 => ?_)
    refine jj_goto hk (pc := 23) 27 dX6_game_23 (by decide) ?_
    exact jm_retUi hk (pc := 27) dX6_game_27
end
section
variable {p : Program} {l : Launch} {e : Env} {R : Room} {s : State} {m : MethodId} {args : Array Value} {below : List Frame} {meth : Method} {c : Code}
variable {G : jG}
set_option maxHeartbeats 4000000 in
theorem cc_m_play (l : Launch) (G : jG) (N : Nat) (μ : MS) (a0 : Int32) (res : (Int32 × MS)) (hf : m_play N μ a0 = some res) : jM l yX6_play (ws_ yX6_play cX6_play 3 (some .int)) 43 1036 [.ref (gh G), .int a0] (mWo G) (mnx G) (mK G) μ (jU res) (gA G) (gn G) := by
  refine jj_start [(0, .ref (gh G)), (1, .int a0)] (by decide) (Nat.le_of_ble_eq_true rfl) rfl (fun p e R s m args below meth c hk hK hsz => ?_) hf
  have hk : jk p R s m args meth c (gn G) cX6_play 3 RX6 43 1036 (some .int) := hk
  unfold m_play
  refine jj_iload_n hk (pc := 0) dX6_play_0 1 rfl rfl ?_
  refine jj_i2l hk (pc := 1) dX6_play_1 ?_
  refine jj_lconst hk (pc := 2) (v := (1 : Int64)) dX6_play_2 (by decide) ?_
  refine jj_ldc2_w hk (pc := 3) q1803 dX6_play_3 ?_
  refine kc_m_in hk hK (pc := 6) (a0 := a0.toInt64) (a1 := (1 : Int64)) (a2 := (4 : Int64)) (fun r h => cc_m_in l G μ a0.toInt64 (1 : Int64) (4 : Int64) r h) dX6_play_6 ⟨Nat.le_of_ble_eq_true rfl, Nat.le_of_ble_eq_true rfl⟩ (Nat.le_of_ble_eq_true rfl) (fun r1 => ?_)
  refine jj_if_ne_b hk (pc := 9) 14 dX6_play_9 (by decide) ?_ ?_
  · refine jj_aload_n hk (pc := 14) dX6_play_14 0 rfl rfl ?_
    refine kc_m_isOver hk hK (pc := 15)  (fun r h => cc_m_isOver l G μ r h) dX6_play_15 ⟨Nat.le_of_ble_eq_true rfl, Nat.le_of_ble_eq_true rfl⟩ (Nat.le_of_ble_eq_true rfl) (fun r2 => ?_)
    refine jj_if_eq_b hk (pc := 18) 24 dX6_play_18 (by decide) ?_ ?_
    · refine jj_aload_n hk (pc := 24) dX6_play_24 0 rfl rfl ?_
      refine jj_iconst hk (pc := 25) (v := (0 : Int32)) dX6_play_25 (by decide) ?_
      refine jj_aload_n hk (pc := 26) dX6_play_26 0 rfl rfl ?_
      refine jj_iload_n hk (pc := 27) dX6_play_27 1 rfl rfl ?_
      refine kc_m_yearsOf hk hK (pc := 28) (a0 := a0) (fun r h => cc_m_yearsOf l G μ a0 r h) dX6_play_28 ⟨Nat.le_of_ble_eq_true rfl, Nat.le_of_ble_eq_true rfl⟩ (Nat.le_of_ble_eq_true rfl) (fun r3 => ?_)
      refine jj_iconst hk (pc := 31) (v := (1 : Int32)) dX6_play_31 (by decide) ?_
      refine kc_m_played hk hK (pc := 32) (a0 := (0 : Int32)) (a1 := r3) (a2 := true) (fun r h => cc_m_played l G N 6 μ (0 : Int32) r3 true r h) dX6_play_32 ⟨Nat.le_of_ble_eq_true rfl, Nat.le_of_ble_eq_true rfl⟩ (Nat.le_of_ble_eq_true rfl) (fun r4 => ?_)
      refine jj_istore_n hk (pc := 35) [(2, .int r4.1), (0, .ref (gh G)), (1, .int a0)] dX6_play_35 rfl (Nat.le_of_ble_eq_true rfl) rfl ?_
      refine jj_aload_n hk (pc := 36) dX6_play_36 1 rfl rfl ?_
      refine jm_g_bestAct hk hK (pc := 37) dX6_play_37 ?_
      exact jm_retUi hk (pc := 40) dX6_play_40
    · refine jj_bipush hk (pc := 21) (v := (-3 : Int32)) dX6_play_21 (by decide) ?_
      exact jm_retUi hk (pc := 23) dX6_play_23
  · refine jj_iconst hk (pc := 12) (v := (-1 : Int32)) dX6_play_12 (by decide) ?_
    exact jm_retUi hk (pc := 13) dX6_play_13
end
section
variable {p : Program} {l : Launch} {e : Env} {R : Room} {s : State} {m : MethodId} {args : Array Value} {below : List Frame} {meth : Method} {c : Code}
variable {G : jG}
set_option maxHeartbeats 4000000 in
theorem cc_m_report (l : Launch) (G : jG)  (μ : MS) (a0 : Int32) (a1 : Int32) (a2 : Int32) (a3 : Int32) (res : (Int32 × MS)) (hf : m_report μ a0 a1 a2 a3 = some res) : jM l yX6_report (ws_ yX6_report cX6_report 6 (some .int)) 1 25 [.ref (gh G), .int a0, .int a1, .int a2, .int a3] (mWo G) (mnx G) (mK G) μ (jU res) (gA G) (gn G) := by
  refine jj_start [(0, .ref (gh G)), (1, .int a0), (2, .int a1), (3, .int a2), (4, .int a3)] (by decide) (Nat.le_of_ble_eq_true rfl) rfl (fun p e R s m args below meth c hk hK hsz => ?_) hf
  have hk : jk p R s m args meth c (gn G) cX6_report 6 RX6 1 25 (some .int) := hk
  unfold m_report
  refine jj_iload_n hk (pc := 0) dX6_report_0 1 rfl rfl ?_
  refine jj_i2l hk (pc := 1) dX6_report_1 ?_
  refine jj_lconst hk (pc := 2) (v := (1 : Int64)) dX6_report_2 (by decide) ?_
  refine jj_ldc2_w hk (pc := 3) q1685 dX6_report_3 ?_
  refine kc_m_in hk hK (pc := 6) (a0 := a0.toInt64) (a1 := (1 : Int64)) (a2 := (9 : Int64)) (fun r h => cc_m_in l G μ a0.toInt64 (1 : Int64) (9 : Int64) r h) dX6_report_6 ⟨Nat.le_of_ble_eq_true rfl, Nat.le_of_ble_eq_true rfl⟩ (Nat.le_of_ble_eq_true rfl) (fun r1 => ?_)
  refine jj_if_eq_b hk (pc := 9) 47 dX6_report_9 (by decide) ?_ ?_
  · refine jj_iconst hk (pc := 47) (v := (-1 : Int32)) dX6_report_47 (by decide) ?_
    exact jm_retUi hk (pc := 48) dX6_report_48
  · refine jj_iload_n hk (pc := 12) dX6_report_12 2 rfl rfl ?_
    refine jj_i2l hk (pc := 13) dX6_report_13 ?_
    refine jj_lconst hk (pc := 14) (v := (0 : Int64)) dX6_report_14 (by decide) ?_
    refine jj_ldc2_w hk (pc := 15) q1761 dX6_report_15 ?_
    refine kc_m_in hk hK (pc := 18) (a0 := a1.toInt64) (a1 := (0 : Int64)) (a2 := (15 : Int64)) (fun r h => cc_m_in l G μ a1.toInt64 (0 : Int64) (15 : Int64) r h) dX6_report_18 ⟨Nat.le_of_ble_eq_true rfl, Nat.le_of_ble_eq_true rfl⟩ (Nat.le_of_ble_eq_true rfl) (fun r2 => ?_)
    refine jj_if_eq_b hk (pc := 21) 47 dX6_report_21 (by decide) ?_ ?_
    · refine jj_iconst hk (pc := 47) (v := (-1 : Int32)) dX6_report_47 (by decide) ?_
      exact jm_retUi hk (pc := 48) dX6_report_48
    · refine jj_iload_n hk (pc := 24) dX6_report_24 3 rfl rfl ?_
      refine jj_i2l hk (pc := 25) dX6_report_25 ?_
      refine jj_lconst hk (pc := 26) (v := (0 : Int64)) dX6_report_26 (by decide) ?_
      refine jj_ldc2_w hk (pc := 27) q1957 dX6_report_27 ?_
      refine kc_m_in hk hK (pc := 30) (a0 := a2.toInt64) (a1 := (0 : Int64)) (a2 := (31 : Int64)) (fun r h => cc_m_in l G μ a2.toInt64 (0 : Int64) (31 : Int64) r h) dX6_report_30 ⟨Nat.le_of_ble_eq_true rfl, Nat.le_of_ble_eq_true rfl⟩ (Nat.le_of_ble_eq_true rfl) (fun r3 => ?_)
      refine jj_if_eq_b hk (pc := 33) 47 dX6_report_33 (by decide) ?_ ?_
      · refine jj_iconst hk (pc := 47) (v := (-1 : Int32)) dX6_report_47 (by decide) ?_
        exact jm_retUi hk (pc := 48) dX6_report_48
      · refine jj_iload hk (pc := 36) dX6_report_36 4 rfl ?_
        refine jj_i2l hk (pc := 38) dX6_report_38 ?_
        refine jj_lconst hk (pc := 39) (v := (0 : Int64)) dX6_report_39 (by decide) ?_
        refine jj_lconst hk (pc := 40) (v := (1 : Int64)) dX6_report_40 (by decide) ?_
        refine kc_m_in hk hK (pc := 41) (a0 := a3.toInt64) (a1 := (0 : Int64)) (a2 := (1 : Int64)) (fun r h => cc_m_in l G μ a3.toInt64 (0 : Int64) (1 : Int64) r h) dX6_report_41 ⟨Nat.le_of_ble_eq_true rfl, Nat.le_of_ble_eq_true rfl⟩ (Nat.le_of_ble_eq_true rfl) (fun r4 => ?_)
        refine jj_if_ne_b hk (pc := 44) 49 dX6_report_44 (by decide) ?_ ?_
        · refine jj_aload_n hk (pc := 49) dX6_report_49 0 rfl rfl ?_
          refine jm_g_s hk hK (pc := 50) dX6_report_50 ?_
          refine jj_bipush hk (pc := 53) (v := (6 : Int32)) dX6_report_53 (by decide) ?_
          refine jm_ld hk hK (pc := 55) (by decide) dX6_report_55 (fun v5 => ?_)
          refine jj_bipush hk (pc := 56) (v := (6 : Int32)) dX6_report_56 (by decide) ?_
          refine jj_icmp_ne hk (pc := 58) 64 dX6_report_58 (by decide) ?_ ?_
          · refine jj_bipush hk (pc := 64) (v := (112 : Int32)) dX6_report_64 (by decide) ?_
            refine jj_iconst hk (pc := 66) (v := (4 : Int32)) dX6_report_66 (by decide) ?_
            refine jj_aload_n hk (pc := 67) dX6_report_67 0 rfl rfl ?_
            refine jm_g_s hk hK (pc := 68) dX6_report_68 ?_
            refine jj_bipush hk (pc := 71) (v := (6 : Int32)) dX6_report_71 (by decide) ?_
            refine jm_ld hk hK (pc := 73) (by decide) dX6_report_73 (fun v6 => ?_)
            refine jj_imul hk (pc := 74) dX6_report_74 ?_
            refine jj_iadd hk (pc := 75) dX6_report_75 ?_
            refine jj_istore hk (pc := 76) [(5, .int ((112 : Int32) + ((4 : Int32) * v6))), (0, .ref (gh G)), (1, .int a0), (2, .int a1), (3, .int a2), (4, .int a3)] dX6_report_76 (Nat.le_of_ble_eq_true rfl) rfl ?_
            refine jj_aload_n hk (pc := 78) dX6_report_78 1 rfl rfl ?_
            refine jm_g_s hk hK (pc := 79) dX6_report_79 ?_
            refine jj_iload hk (pc := 82) dX6_report_82 0 rfl ?_
            refine jj_iload_n hk (pc := 84) dX6_report_84 2 rfl rfl ?_
            refine jm_st hk hK (pc := 85) (by decide) dX6_report_85 (fun μ7 => ?_)
            refine jj_aload_n hk (pc := 86) dX6_report_86 1 rfl rfl ?_
            refine jm_g_s hk hK (pc := 87) dX6_report_87 ?_
            refine jj_iload hk (pc := 90) dX6_report_90 0 rfl ?_
            refine jj_iconst hk (pc := 92) (v := (1 : Int32)) dX6_report_92 (by decide) ?_
            refine jj_iadd hk (pc := 93) dX6_report_93 ?_
            refine jj_iload_n hk (pc := 94) dX6_report_94 3 rfl rfl ?_
            refine jm_st hk hK (pc := 95) (by decide) dX6_report_95 (fun μ8 => ?_)
            refine jj_aload_n hk (pc := 96) dX6_report_96 1 rfl rfl ?_
            refine jm_g_s hk hK (pc := 97) dX6_report_97 ?_
            refine jj_iload hk (pc := 100) dX6_report_100 0 rfl ?_
            refine jj_iconst hk (pc := 102) (v := (2 : Int32)) dX6_report_102 (by decide) ?_
            refine jj_iadd hk (pc := 103) dX6_report_103 ?_
            refine jj_iload_n hk (pc := 104) dX6_report_104 4 rfl rfl ?_
            refine jm_st hk hK (pc := 105) (by decide) dX6_report_105 (fun μ9 => ?_)
            refine jj_aload_n hk (pc := 106) dX6_report_106 1 rfl rfl ?_
            refine jm_g_s hk hK (pc := 107) dX6_report_107 ?_
            refine jj_iload hk (pc := 110) dX6_report_110 0 rfl ?_
            refine jj_iconst hk (pc := 112) (v := (3 : Int32)) dX6_report_112 (by decide) ?_
            refine jj_iadd hk (pc := 113) dX6_report_113 ?_
            refine jj_iload hk (pc := 114) dX6_report_114 5 rfl ?_
            refine jm_st hk hK (pc := 116) (by decide) dX6_report_116 (fun μ10 => ?_)
            refine jj_aload_n hk (pc := 117) dX6_report_117 1 rfl rfl ?_
            refine jm_g_s hk hK (pc := 118) dX6_report_118 ?_
            refine jj_bipush hk (pc := 121) (v := (6 : Int32)) dX6_report_121 (by decide) ?_
            refine jj_dup2 hk (pc := 123) dX6_report_123 rfl rfl ?_
            refine jm_ld hk hK (pc := 124) (by decide) dX6_report_124 (fun v11 => ?_)
            refine jj_iconst hk (pc := 125) (v := (1 : Int32)) dX6_report_125 (by decide) ?_
            refine jj_iadd hk (pc := 126) dX6_report_126 ?_
            refine jm_st hk hK (pc := 127) (by decide) dX6_report_127 (fun μ12 => ?_)
            refine jj_aload_n hk (pc := 128) dX6_report_128 1 rfl rfl ?_
            refine jm_g_s hk hK (pc := 129) dX6_report_129 ?_
            refine jj_bipush hk (pc := 132) (v := (6 : Int32)) dX6_report_132 (by decide) ?_
            refine jm_ld hk hK (pc := 134) (by decide) dX6_report_134 (fun v13 => ?_)
            refine jj_iconst hk (pc := 135) (v := (1 : Int32)) dX6_report_135 (by decide) ?_
            refine jj_isub hk (pc := 136) dX6_report_136 ?_
            exact jm_retUi hk (pc := 137) dX6_report_137
          · refine jj_bipush hk (pc := 61) (v := (-2 : Int32)) dX6_report_61 (by decide) ?_
            exact jm_retUi hk (pc := 63) dX6_report_63
        · refine jj_iconst hk (pc := 47) (v := (-1 : Int32)) dX6_report_47 (by decide) ?_
          exact jm_retUi hk (pc := 48) dX6_report_48
end
section
variable {p : Program} {l : Launch} {e : Env} {R : Room} {s : State} {m : MethodId} {args : Array Value} {below : List Frame} {meth : Method} {c : Code}
variable {G : jG}
set_option maxHeartbeats 4000000 in
theorem cc_m_forget (l : Launch) (G : jG)  (μ : MS)  (res : (Int32 × MS)) (hf : m_forget μ = some res) : jM l yX6_forget (ws_ yX6_forget cX6_forget 1 (some .int)) 1 23 [.ref (gh G)] (mWo G) (mnx G) (mK G) μ (jU res) (gA G) (gn G) := by
  refine jj_start [(0, .ref (gh G))] (by decide) (Nat.le_of_ble_eq_true rfl) rfl (fun p e R s m args below meth c hk hK hsz => ?_) hf
  have hk : jk p R s m args meth c (gn G) cX6_forget 1 RX6 1 23 (some .int) := hk
  unfold m_forget
  refine jj_aload_n hk (pc := 0) dX6_forget_0 0 rfl rfl ?_
  refine jj_bipush hk (pc := 1) (v := (6 : Int32)) dX6_forget_1 (by decide) ?_
  refine jj_iconst hk (pc := 3) (v := (0 : Int32)) dX6_forget_3 (by decide) ?_
  refine kc_m_becomes hk hK (pc := 4) (a0 := (6 : Int32)) (a1 := (0 : Int32)) (fun r h => cc_m_becomes l G μ (6 : Int32) (0 : Int32) r h) dX6_forget_4 ⟨Nat.le_of_ble_eq_true rfl, Nat.le_of_ble_eq_true rfl⟩ (Nat.le_of_ble_eq_true rfl) (fun r1 => ?_)
  exact jm_retUi hk (pc := 7) dX6_forget_7
end
section
variable {p : Program} {l : Launch} {e : Env} {R : Room} {s : State} {m : MethodId} {args : Array Value} {below : List Frame} {meth : Method} {c : Code}
variable {G : jG}
set_option maxHeartbeats 4000000 in
theorem wb_m_isSoBy_B56 {res : Bool} (hk : jk p R s m args meth c (gn G) cX6_isSoBy 8 RX6 1 22 (some .boolean)) (hK : mK G s) (N : Nat) (μ : MS) (x5 : Int32) (x6 : Int32) : jj p l e R s m args below meth c (gA G) (gn G) (jZ below args s (gA G) (gn G) (jRz μ res) (mWo G) (mnx G)) (mWo G) (mnx G) 8 μ 56 [(0, .ref (gh G)), (5, .int x5), (6, .int x6)] [] (m_isSoBy_B56 N μ x5 x6 = some res) := by
  unfold m_isSoBy_B56
  refine jj_iload hk (pc := 56) dX6_isSoBy_56 2 rfl ?_
  refine jj_bipush hk (pc := 58) (v := (31 : Int32)) dX6_isSoBy_58 (by decide) ?_
  refine jj_icmp_gt hk (pc := 60) 81 dX6_isSoBy_60 (by decide) ?_ ?_
  · refine jj_iconst hk (pc := 81) (v := (0 : Int32)) dX6_isSoBy_81 (by decide) ?_
    refine jj_istore hk (pc := 82) [(7, .int (0 : Int32)), (0, .ref (gh G)), (5, .int x5), (6, .int x6)] dX6_isSoBy_82 (Nat.le_of_ble_eq_true rfl) rfl ?_
    refine jj_iload hk (pc := 84) dX6_isSoBy_84 0 rfl ?_
    refine jj_aload_n hk (pc := 86) dX6_isSoBy_86 1 rfl rfl ?_
    refine jm_g_s hk hK (pc := 87) dX6_isSoBy_87 ?_
    refine jj_iload hk (pc := 90) dX6_isSoBy_90 2 rfl ?_
    refine jj_iconst hk (pc := 92) (v := (3 : Int32)) dX6_isSoBy_92 (by decide) ?_
    refine jj_iadd hk (pc := 93) dX6_isSoBy_93 ?_
    refine jm_ld hk hK (pc := 94) (by decide) dX6_isSoBy_94 (fun v1 => ?_)
    refine jj_iconst hk (pc := 95) (v := (1 : Int32)) dX6_isSoBy_95 (by decide) ?_
    refine jj_icmp_ne hk (pc := 96) 103 dX6_isSoBy_96 (by decide) ?_ ?_
    · refine jj_iconst hk (pc := 103) (v := (0 : Int32)) dX6_isSoBy_103 (by decide) ?_
      refine jj_icmp_ne_F hk (pc := 104) dX6_isSoBy_104 111 (by decide) (by decide) ?_
      refine jj_iconst hk (pc := 107) (v := (1 : Int32)) dX6_isSoBy_107 (by decide) ?_
      refine jj_goto hk (pc := 108) 112 dX6_isSoBy_108 (by decide) ?_
      exact jm_retRz hk (pc := 112) (b := true) dX6_isSoBy_112
    · refine jj_iconst hk (pc := 99) (v := (1 : Int32)) dX6_isSoBy_99 (by decide) ?_
      refine jj_goto hk (pc := 100) 104 dX6_isSoBy_100 (by decide) ?_
      refine jj_icmp_ne_T hk (pc := 104) 111 dX6_isSoBy_104 (by decide) (by decide) ?_
      refine jj_iconst hk (pc := 111) (v := (0 : Int32)) dX6_isSoBy_111 (by decide) ?_
      exact jm_retRz hk (pc := 112) (b := false) dX6_isSoBy_112
  · refine jj_iload hk (pc := 63) dX6_isSoBy_63 2 rfl ?_
    refine jj_aload_n hk (pc := 65) dX6_isSoBy_65 0 rfl rfl ?_
    refine jm_g_s hk hK (pc := 66) dX6_isSoBy_66 ?_
    refine jj_iload hk (pc := 69) dX6_isSoBy_69 1 rfl ?_
    refine jj_iconst hk (pc := 71) (v := (2 : Int32)) dX6_isSoBy_71 (by decide) ?_
    refine jj_iadd hk (pc := 72) dX6_isSoBy_72 ?_
    refine jm_ld hk hK (pc := 73) (by decide) dX6_isSoBy_73 (fun v2 => ?_)
    refine jj_icmp_gt hk (pc := 74) 81 dX6_isSoBy_74 (by decide) ?_ ?_
    · refine jj_iconst hk (pc := 81) (v := (0 : Int32)) dX6_isSoBy_81 (by decide) ?_
      refine jj_istore hk (pc := 82) [(7, .int (0 : Int32)), (0, .ref (gh G)), (5, .int x5), (6, .int x6)] dX6_isSoBy_82 (Nat.le_of_ble_eq_true rfl) rfl ?_
      refine jj_iload hk (pc := 84) dX6_isSoBy_84 0 rfl ?_
      refine jj_aload_n hk (pc := 86) dX6_isSoBy_86 1 rfl rfl ?_
      refine jm_g_s hk hK (pc := 87) dX6_isSoBy_87 ?_
      refine jj_iload hk (pc := 90) dX6_isSoBy_90 2 rfl ?_
      refine jj_iconst hk (pc := 92) (v := (3 : Int32)) dX6_isSoBy_92 (by decide) ?_
      refine jj_iadd hk (pc := 93) dX6_isSoBy_93 ?_
      refine jm_ld hk hK (pc := 94) (by decide) dX6_isSoBy_94 (fun v3 => ?_)
      refine jj_iconst hk (pc := 95) (v := (1 : Int32)) dX6_isSoBy_95 (by decide) ?_
      refine jj_icmp_ne hk (pc := 96) 103 dX6_isSoBy_96 (by decide) ?_ ?_
      · refine jj_iconst hk (pc := 103) (v := (0 : Int32)) dX6_isSoBy_103 (by decide) ?_
        refine jj_icmp_ne_F hk (pc := 104) dX6_isSoBy_104 111 (by decide) (by decide) ?_
        refine jj_iconst hk (pc := 107) (v := (1 : Int32)) dX6_isSoBy_107 (by decide) ?_
        refine jj_goto hk (pc := 108) 112 dX6_isSoBy_108 (by decide) ?_
        exact jm_retRz hk (pc := 112) (b := true) dX6_isSoBy_112
      · refine jj_iconst hk (pc := 99) (v := (1 : Int32)) dX6_isSoBy_99 (by decide) ?_
        refine jj_goto hk (pc := 100) 104 dX6_isSoBy_100 (by decide) ?_
        refine jj_icmp_ne_T hk (pc := 104) 111 dX6_isSoBy_104 (by decide) (by decide) ?_
        refine jj_iconst hk (pc := 111) (v := (0 : Int32)) dX6_isSoBy_111 (by decide) ?_
        exact jm_retRz hk (pc := 112) (b := false) dX6_isSoBy_112
    · refine jj_iconst hk (pc := 77) (v := (1 : Int32)) dX6_isSoBy_77 (by decide) ?_
      refine jj_goto hk (pc := 78) 82 dX6_isSoBy_78 (by decide) ?_
      refine jj_istore hk (pc := 82) [(7, .int (1 : Int32)), (0, .ref (gh G)), (5, .int x5), (6, .int x6)] dX6_isSoBy_82 (Nat.le_of_ble_eq_true rfl) rfl ?_
      refine jj_iload hk (pc := 84) dX6_isSoBy_84 0 rfl ?_
      refine jj_aload_n hk (pc := 86) dX6_isSoBy_86 1 rfl rfl ?_
      refine jm_g_s hk hK (pc := 87) dX6_isSoBy_87 ?_
      refine jj_iload hk (pc := 90) dX6_isSoBy_90 2 rfl ?_
      refine jj_iconst hk (pc := 92) (v := (3 : Int32)) dX6_isSoBy_92 (by decide) ?_
      refine jj_iadd hk (pc := 93) dX6_isSoBy_93 ?_
      refine jm_ld hk hK (pc := 94) (by decide) dX6_isSoBy_94 (fun v4 => ?_)
      refine jj_iconst hk (pc := 95) (v := (1 : Int32)) dX6_isSoBy_95 (by decide) ?_
      refine jj_icmp_ne hk (pc := 96) 103 dX6_isSoBy_96 (by decide) ?_ ?_
      · refine jj_iconst hk (pc := 103) (v := (0 : Int32)) dX6_isSoBy_103 (by decide) ?_
        refine jj_icmp_ne_T hk (pc := 104) 111 dX6_isSoBy_104 (by decide) (by decide) ?_
        refine jj_iconst hk (pc := 111) (v := (0 : Int32)) dX6_isSoBy_111 (by decide) ?_
        exact jm_retRz hk (pc := 112) (b := false) dX6_isSoBy_112
      · refine jj_iconst hk (pc := 99) (v := (1 : Int32)) dX6_isSoBy_99 (by decide) ?_
        refine jj_goto hk (pc := 100) 104 dX6_isSoBy_100 (by decide) ?_
        refine jj_icmp_ne_F hk (pc := 104) dX6_isSoBy_104 111 (by decide) (by decide) ?_
        refine jj_iconst hk (pc := 107) (v := (1 : Int32)) dX6_isSoBy_107 (by decide) ?_
        refine jj_goto hk (pc := 108) 112 dX6_isSoBy_108 (by decide) ?_
        exact jm_retRz hk (pc := 112) (b := true) dX6_isSoBy_112
set_option maxHeartbeats 4000000 in
theorem wb_m_isSoBy_L25 {res : Bool} (hk : jk p R s m args meth c (gn G) cX6_isSoBy 8 RX6 1 22 (some .boolean)) (hK : mK G s) (N : Nat) (μ : MS) : ∀ (n : Nat) (x2 : Int32) (x4 : Int32) (x5 : Int32) (x6 : Int32), jj p l e R s m args below meth c (gA G) (gn G) (jZ below args s (gA G) (gn G) (jRz μ res) (mWo G) (mnx G)) (mWo G) (mnx G) 8 μ 25 [(0, .ref (gh G)), (2, .int x2), (4, .int x4), (5, .int x5), (6, .int x6)] [] (m_isSoBy_L25 N μ n x2 x4 x5 x6 = some res) := by
  intro n
  induction n with
  | zero => intro x2 x4 x5 x6; exact jj_eq (fun hz => by rw [m_isSoBy_L25] at hz; exact hz) jj_no
  | succ n ih =>
    intro x2 x4 x5 x6
    rw [m_isSoBy_L25]
    refine jj_iload hk (pc := 25) dX6_isSoBy_25 4 rfl ?_
    refine jj_bipush hk (pc := 27) (v := (31 : Int32)) dX6_isSoBy_27 (by decide) ?_
    refine jj_icmp_gt hk (pc := 29) 56 dX6_isSoBy_29 (by decide) ?_ ?_
    · refine jj_loc [(0, .ref (gh G)), (5, .int x5), (6, .int x6)] [0, 3, 4] rfl ?_
      exact wb_m_isSoBy_B56 hk hK N μ x5 x6
    · refine jj_iload_n hk (pc := 32) dX6_isSoBy_32 1 rfl rfl ?_
      refine jj_iload hk (pc := 33) dX6_isSoBy_33 2 rfl ?_
      refine jj_iload hk (pc := 35) dX6_isSoBy_35 4 rfl ?_
      refine kc_m_pullOf hk hK (pc := 37) (a0 := x2) (a1 := x4) (a2 := x6) (fun r h => cc_m_pullOf l G μ x2 x4 x6 r h) dX6_isSoBy_37 ⟨Nat.le_of_ble_eq_true rfl, Nat.le_of_ble_eq_true rfl⟩ (Nat.le_of_ble_eq_true rfl) (fun r1 => ?_)
      refine jj_aload_n hk (pc := 40) dX6_isSoBy_40 0 rfl rfl ?_
      refine jm_g_s hk hK (pc := 41) dX6_isSoBy_41 ?_
      refine jj_iload hk (pc := 44) dX6_isSoBy_44 3 rfl ?_
      refine jm_ld hk hK (pc := 46) (by decide) dX6_isSoBy_46 (fun v2 => ?_)
      refine jj_icmp_ge hk (pc := 47) 56 dX6_isSoBy_47 (by decide) ?_ ?_
      · refine jj_loc [(0, .ref (gh G)), (5, .int x5), (6, .int x6)] [0, 3, 4] rfl ?_
        exact wb_m_isSoBy_B56 hk hK N μ x5 x6
      · refine jj_iinc hk (pc := 50) [(6, .int (x6 + 1)), (0, .ref (gh G)), (2, .int x2), (4, .int x4), (5, .int x5)] dX6_isSoBy_50 4 rfl rfl (Nat.le_of_ble_eq_true rfl) rfl ?_
        refine jj_goto hk (pc := 53) 25 dX6_isSoBy_53 (by decide) ?_
        refine jj_loc [(0, .ref (gh G)), (2, .int x2), (4, .int x4), (5, .int x5), (6, .int (x6 + 1))] [1, 2, 3, 4, 0] rfl ?_
        exact ih x2 x4 x5 (x6 + 1)
set_option maxHeartbeats 4000000 in
theorem cc_m_isSoBy (l : Launch) (G : jG) (N : Nat) (μ : MS) (a0 : Int32) (a1 : Int32) (a2 : Int32) (a3 : Int32) (res : Bool) (hf : m_isSoBy N μ a0 a1 a2 a3 = some res) : jM l yX6_isSoBy (ws_ yX6_isSoBy cX6_isSoBy 8 (some .boolean)) 1 22 [.ref (gh G), .int a0, .int a1, .int a2, .int a3] (mWo G) (mnx G) (mK G) μ (jRz μ res) (gA G) (gn G) := by
  refine jj_start [(0, .ref (gh G)), (1, .int a0), (2, .int a1), (3, .int a2), (4, .int a3)] (by decide) (Nat.le_of_ble_eq_true rfl) rfl (fun p e R s m args below meth c hk hK hsz => ?_) hf
  have hk : jk p R s m args meth c (gn G) cX6_isSoBy 8 RX6 1 22 (some .boolean) := hk
  unfold m_isSoBy
  refine jj_bipush hk (pc := 0) (v := (112 : Int32)) dX6_isSoBy_0 (by decide) ?_
  refine jj_iconst hk (pc := 2) (v := (4 : Int32)) dX6_isSoBy_2 (by decide) ?_
  refine jj_iload_n hk (pc := 3) dX6_isSoBy_3 1 rfl rfl ?_
  refine jj_imul hk (pc := 4) dX6_isSoBy_4 ?_
  refine jj_iadd hk (pc := 5) dX6_isSoBy_5 ?_
  refine jj_istore hk (pc := 6) [(5, .int ((112 : Int32) + ((4 : Int32) * a0))), (0, .ref (gh G)), (1, .int a0), (2, .int a1), (3, .int a2), (4, .int a3)] dX6_isSoBy_6 (Nat.le_of_ble_eq_true rfl) rfl ?_
  refine jj_aload_n hk (pc := 8) dX6_isSoBy_8 1 rfl rfl ?_
  refine jm_g_s hk hK (pc := 9) dX6_isSoBy_9 ?_
  refine jj_iload hk (pc := 12) dX6_isSoBy_12 0 rfl ?_
  refine jj_iconst hk (pc := 14) (v := (1 : Int32)) dX6_isSoBy_14 (by decide) ?_
  refine jj_iadd hk (pc := 15) dX6_isSoBy_15 ?_
  refine jm_ld hk hK (pc := 16) (by decide) dX6_isSoBy_16 (fun v1 => ?_)
  refine jj_iload_n hk (pc := 17) dX6_isSoBy_17 3 rfl rfl ?_
  refine jj_iload_n hk (pc := 18) dX6_isSoBy_18 4 rfl rfl ?_
  refine kc_m_termOf hk hK (pc := 19) (a0 := a1) (a1 := a2) (fun r h => cc_m_termOf l G μ a1 a2 r h) dX6_isSoBy_19 ⟨Nat.le_of_ble_eq_true rfl, Nat.le_of_ble_eq_true rfl⟩ (Nat.le_of_ble_eq_true rfl) (fun r2 => ?_)
  refine jj_iadd hk (pc := 22) dX6_isSoBy_22 ?_
  refine jj_istore hk (pc := 23) [(6, .int (v1 + r2)), (5, .int ((112 : Int32) + ((4 : Int32) * a0))), (0, .ref (gh G)), (1, .int a0), (2, .int a1), (3, .int a2), (4, .int a3)] dX6_isSoBy_23 (Nat.le_of_ble_eq_true rfl) rfl ?_
  refine jj_loc [(0, .ref (gh G)), (2, .int a1), (4, .int a3), (5, .int ((112 : Int32) + ((4 : Int32) * a0))), (6, .int (v1 + r2))] [2, 4, 6, 1, 0] rfl ?_
  exact wb_m_isSoBy_L25 hk hK N μ N a1 a3 ((112 : Int32) + ((4 : Int32) * a0)) (v1 + r2)
end
section
variable {p : Program} {l : Launch} {e : Env} {R : Room} {s : State} {m : MethodId} {args : Array Value} {below : List Frame} {meth : Method} {c : Code}
variable {G : jG}
variable {NX : Nat} {Q : State → Prop} {nL : Nat} {cc : ByteArray} {fr lo frc loc : Nat} {ret : Option FieldType}
variable {pc : Nat} {μ : MS} {lv : List (Nat × Value)} {st : List Value} {ρ : Type} {res : ρ}
theorem kc_m_isSoBy (hk : jk p R s m args meth c NX cc nL RX6 fr lo ret) (hK : mK G s) {a0 : Int32} {a1 : Int32} {a2 : Int32} {a3 : Int32} {F : Option Bool} {K : Bool → Option ρ} (hM : ∀ r, F = some r → jM l yX6_isSoBy (ws_ yX6_isSoBy cX6_isSoBy 8 (some .boolean)) frc loc [.ref (gh G), .int a0, .int a1, .int a2, .int a3] (mWo G) (mnx G) (mK G) μ (jRz μ r) (gA G) (gn G)) (hd : decode cc pc = .ok (.invokevirtual 234, 3)) (hr : frc + 1 ≤ fr ∧ 8 + (8 + 11) + loc ≤ lo) (hw : (st.map fun v => v.category).sum ≤ 8) (kk : ∀ r, jj p l e R s m args below meth c (gA G) NX Q (mWo G) (mnx G) nL μ (pc + 3) lv (.int (bI r) :: st) (K r = some res)) : jj p l e R s m args below meth c (gA G) NX Q (mWo G) (mnx G) nL μ pc lv (.int a3 :: .int a2 :: .int a1 :: .int a0 :: .ref (gh G) :: st) (F.bind K = some res) :=
  jm_VRz (n := 4) hk hK [.int a0, .int a1, .int a2, .int a3] hM (lw_V q1974 q1976 qs87 q127 q1977) (by decide +kernel) rfl rfl hd hr hw kk
end
section
variable {p : Program} {l : Launch} {e : Env} {R : Room} {s : State} {m : MethodId} {args : Array Value} {below : List Frame} {meth : Method} {c : Code}
variable {G : jG}
set_option maxHeartbeats 4000000 in
theorem wb_m_isFit_L6 {res : Bool} (hk : jk p R s m args meth c (gn G) cX6_isFit 7 RX6 2 49 (some .boolean)) (hK : mK G s) (N : Nat) (μ : MS) : ∀ (n : Nat) (x1 : Int32) (x2 : Int32) (x3 : Int32) (x4 : Int32) (x5 : Bool) (x6 : Int32), jj p l e R s m args below meth c (gA G) (gn G) (jZ below args s (gA G) (gn G) (jRz μ res) (mWo G) (mnx G)) (mWo G) (mnx G) 7 μ 6 [(0, .ref (gh G)), (1, .int x1), (2, .int x2), (3, .int x3), (4, .int x4), (5, .int (bI x5)), (6, .int x6)] [] (m_isFit_L6 N μ n x1 x2 x3 x4 x5 x6 = some res) := by
  intro n
  induction n with
  | zero => intro x1 x2 x3 x4 x5 x6; exact jj_eq (fun hz => by rw [m_isFit_L6] at hz; exact hz) jj_no
  | succ n ih =>
    intro x1 x2 x3 x4 x5 x6
    rw [m_isFit_L6]
    refine jj_iload hk (pc := 6) dX6_isFit_6 6 rfl ?_
    refine jj_aload_n hk (pc := 8) dX6_isFit_8 0 rfl rfl ?_
    refine jm_g_s hk hK (pc := 9) dX6_isFit_9 ?_
    refine jj_bipush hk (pc := 12) (v := (6 : Int32)) dX6_isFit_12 (by decide) ?_
    refine jm_ld hk hK (pc := 14) (by decide) dX6_isFit_14 (fun v1 => ?_)
    refine jj_icmp_ge hk (pc := 15) 55 dX6_isFit_15 (by decide) ?_ ?_
    · refine jj_iload hk (pc := 55) dX6_isFit_55 5 rfl ?_
      exact jm_retRz hk (pc := 57) (b := x5) dX6_isFit_57
    · refine jj_iload hk (pc := 18) dX6_isFit_18 5 rfl ?_
      refine jj_if_eq_b hk (pc := 20) 55 dX6_isFit_20 (by decide) ?_ ?_
      · refine jj_iload hk (pc := 55) dX6_isFit_55 5 rfl ?_
        exact jm_retRz hk (pc := 57) (b := x5) dX6_isFit_57
      · refine jj_iload hk (pc := 23) dX6_isFit_23 6 rfl ?_
        refine jj_iload hk (pc := 25) dX6_isFit_25 4 rfl ?_
        refine jj_icmp_eq hk (pc := 27) 42 dX6_isFit_27 (by decide) ?_ ?_
        · refine jj_iconst hk (pc := 42) (v := (1 : Int32)) dX6_isFit_42 (by decide) ?_
          refine jj_goto hk (pc := 43) 47 dX6_isFit_43 (by decide) ?_
          refine jj_istore hk (pc := 47) [(5, .int (1 : Int32)), (0, .ref (gh G)), (1, .int x1), (2, .int x2), (3, .int x3), (4, .int x4), (6, .int x6)] dX6_isFit_47 (Nat.le_of_ble_eq_true rfl) rfl ?_
          refine jj_iinc hk (pc := 49) [(6, .int (x6 + 1)), (5, .int (1 : Int32)), (0, .ref (gh G)), (1, .int x1), (2, .int x2), (3, .int x3), (4, .int x4)] dX6_isFit_49 6 rfl rfl (Nat.le_of_ble_eq_true rfl) rfl ?_
          refine jj_goto hk (pc := 52) 6 dX6_isFit_52 (by decide) ?_
          refine jj_loc [(0, .ref (gh G)), (1, .int x1), (2, .int x2), (3, .int x3), (4, .int x4), (5, .int (bI true)), (6, .int (x6 + 1))] [2, 3, 4, 5, 6, 1, 0] rfl ?_
          exact ih x1 x2 x3 x4 true (x6 + 1)
        · refine jj_aload_n hk (pc := 30) dX6_isFit_30 0 rfl rfl ?_
          refine jj_iload hk (pc := 31) dX6_isFit_31 6 rfl ?_
          refine jj_iload_n hk (pc := 33) dX6_isFit_33 1 rfl rfl ?_
          refine jj_iload_n hk (pc := 34) dX6_isFit_34 2 rfl rfl ?_
          refine jj_iload_n hk (pc := 35) dX6_isFit_35 3 rfl rfl ?_
          refine kc_m_isSoBy hk hK (pc := 36) (a0 := x6) (a1 := x1) (a2 := x2) (a3 := x3) (fun r h => cc_m_isSoBy l G N μ x6 x1 x2 x3 r h) dX6_isFit_36 ⟨Nat.le_of_ble_eq_true rfl, Nat.le_of_ble_eq_true rfl⟩ (Nat.le_of_ble_eq_true rfl) (fun r2 => ?_)
          refine jj_if_eq_b hk (pc := 39) 46 dX6_isFit_39 (by decide) ?_ ?_
          · refine jj_iconst hk (pc := 46) (v := (0 : Int32)) dX6_isFit_46 (by decide) ?_
            refine jj_istore hk (pc := 47) [(5, .int (0 : Int32)), (0, .ref (gh G)), (1, .int x1), (2, .int x2), (3, .int x3), (4, .int x4), (6, .int x6)] dX6_isFit_47 (Nat.le_of_ble_eq_true rfl) rfl ?_
            refine jj_iinc hk (pc := 49) [(6, .int (x6 + 1)), (5, .int (0 : Int32)), (0, .ref (gh G)), (1, .int x1), (2, .int x2), (3, .int x3), (4, .int x4)] dX6_isFit_49 6 rfl rfl (Nat.le_of_ble_eq_true rfl) rfl ?_
            refine jj_goto hk (pc := 52) 6 dX6_isFit_52 (by decide) ?_
            refine jj_loc [(0, .ref (gh G)), (1, .int x1), (2, .int x2), (3, .int x3), (4, .int x4), (5, .int (bI false)), (6, .int (x6 + 1))] [2, 3, 4, 5, 6, 1, 0] rfl ?_
            exact ih x1 x2 x3 x4 false (x6 + 1)
          · refine jj_iconst hk (pc := 42) (v := (1 : Int32)) dX6_isFit_42 (by decide) ?_
            refine jj_goto hk (pc := 43) 47 dX6_isFit_43 (by decide) ?_
            refine jj_istore hk (pc := 47) [(5, .int (1 : Int32)), (0, .ref (gh G)), (1, .int x1), (2, .int x2), (3, .int x3), (4, .int x4), (6, .int x6)] dX6_isFit_47 (Nat.le_of_ble_eq_true rfl) rfl ?_
            refine jj_iinc hk (pc := 49) [(6, .int (x6 + 1)), (5, .int (1 : Int32)), (0, .ref (gh G)), (1, .int x1), (2, .int x2), (3, .int x3), (4, .int x4)] dX6_isFit_49 6 rfl rfl (Nat.le_of_ble_eq_true rfl) rfl ?_
            refine jj_goto hk (pc := 52) 6 dX6_isFit_52 (by decide) ?_
            refine jj_loc [(0, .ref (gh G)), (1, .int x1), (2, .int x2), (3, .int x3), (4, .int x4), (5, .int (bI true)), (6, .int (x6 + 1))] [2, 3, 4, 5, 6, 1, 0] rfl ?_
            exact ih x1 x2 x3 x4 true (x6 + 1)
set_option maxHeartbeats 4000000 in
theorem cc_m_isFit (l : Launch) (G : jG) (N : Nat) (μ : MS) (a0 : Int32) (a1 : Int32) (a2 : Int32) (a3 : Int32) (res : Bool) (hf : m_isFit N μ a0 a1 a2 a3 = some res) : jM l yX6_isFit (ws_ yX6_isFit cX6_isFit 7 (some .boolean)) 2 49 [.ref (gh G), .int a0, .int a1, .int a2, .int a3] (mWo G) (mnx G) (mK G) μ (jRz μ res) (gA G) (gn G) := by
  refine jj_start [(0, .ref (gh G)), (1, .int a0), (2, .int a1), (3, .int a2), (4, .int a3)] (by decide) (Nat.le_of_ble_eq_true rfl) rfl (fun p e R s m args below meth c hk hK hsz => ?_) hf
  have hk : jk p R s m args meth c (gn G) cX6_isFit 7 RX6 2 49 (some .boolean) := hk
  unfold m_isFit
  refine jj_iconst hk (pc := 0) (v := (1 : Int32)) dX6_isFit_0 (by decide) ?_
  refine jj_istore hk (pc := 1) [(5, .int (1 : Int32)), (0, .ref (gh G)), (1, .int a0), (2, .int a1), (3, .int a2), (4, .int a3)] dX6_isFit_1 (Nat.le_of_ble_eq_true rfl) rfl ?_
  refine jj_iconst hk (pc := 3) (v := (0 : Int32)) dX6_isFit_3 (by decide) ?_
  refine jj_istore hk (pc := 4) [(6, .int (0 : Int32)), (5, .int (1 : Int32)), (0, .ref (gh G)), (1, .int a0), (2, .int a1), (3, .int a2), (4, .int a3)] dX6_isFit_4 (Nat.le_of_ble_eq_true rfl) rfl ?_
  refine jj_loc [(0, .ref (gh G)), (1, .int a0), (2, .int a1), (3, .int a2), (4, .int a3), (5, .int (bI true)), (6, .int (0 : Int32))] [2, 3, 4, 5, 6, 1, 0] rfl ?_
  exact wb_m_isFit_L6 hk hK N μ N a0 a1 a2 a3 true (0 : Int32)
end
section
variable {p : Program} {l : Launch} {e : Env} {R : Room} {s : State} {m : MethodId} {args : Array Value} {below : List Frame} {meth : Method} {c : Code}
variable {G : jG}
variable {NX : Nat} {Q : State → Prop} {nL : Nat} {cc : ByteArray} {fr lo frc loc : Nat} {ret : Option FieldType}
variable {pc : Nat} {μ : MS} {lv : List (Nat × Value)} {st : List Value} {ρ : Type} {res : ρ}
theorem kc_m_isFit (hk : jk p R s m args meth c NX cc nL RX6 fr lo ret) (hK : mK G s) {a0 : Int32} {a1 : Int32} {a2 : Int32} {a3 : Int32} {F : Option Bool} {K : Bool → Option ρ} (hM : ∀ r, F = some r → jM l yX6_isFit (ws_ yX6_isFit cX6_isFit 7 (some .boolean)) frc loc [.ref (gh G), .int a0, .int a1, .int a2, .int a3] (mWo G) (mnx G) (mK G) μ (jRz μ r) (gA G) (gn G)) (hd : decode cc pc = .ok (.invokevirtual 241, 3)) (hr : frc + 1 ≤ fr ∧ 8 + (7 + 11) + loc ≤ lo) (hw : (st.map fun v => v.category).sum ≤ 8) (kk : ∀ r, jj p l e R s m args below meth c (gA G) NX Q (mWo G) (mnx G) nL μ (pc + 3) lv (.int (bI r) :: st) (K r = some res)) : jj p l e R s m args below meth c (gA G) NX Q (mWo G) (mnx G) nL μ pc lv (.int a3 :: .int a2 :: .int a1 :: .int a0 :: .ref (gh G) :: st) (F.bind K = some res) :=
  jm_VRz (n := 4) hk hK [.int a0, .int a1, .int a2, .int a3] hM (lw_V q1970 q1972 qs86 q127 q1973) (by decide +kernel) rfl rfl hd hr hw kk
end
section
variable {p : Program} {l : Launch} {e : Env} {R : Room} {s : State} {m : MethodId} {args : Array Value} {below : List Frame} {meth : Method} {c : Code}
variable {G : jG}
set_option maxHeartbeats 4000000 in
theorem wb_m_findFits_B69 {res : MS} (hk : jk p R s m args meth c (gn G) cX6_findFits 6 RX6 3 75 none) (hK : mK G s) (N : Nat) {k7 : MS → Int32 → Int32 → Option MS} (hk7 : ∀ (μ : MS) (x1 : Int32) (x2 : Int32), jj p l e R s m args below meth c (gA G) (gn G) (jZ below args s (gA G) (gn G) (jV res) (mWo G) (mnx G)) (mWo G) (mnx G) 6 μ 7 [(0, .ref (gh G)), (1, .int x1), (2, .int x2)] [] (k7 μ x1 x2 = some res)) (μ : MS) (x1 : Int32) (x2 : Int32) (x4 : Int32) (x5 : Int32) (y0 : Int32) : jj p l e R s m args below meth c (gA G) (gn G) (jZ below args s (gA G) (gn G) (jV res) (mWo G) (mnx G)) (mWo G) (mnx G) 6 μ 69 [(0, .ref (gh G)), (1, .int x1), (2, .int x2), (4, .int x4), (5, .int x5)] [.int y0, .ref (gh G)] (m_findFits_B69 N k7 μ x1 x2 x4 x5 y0 = some res) := by
  unfold m_findFits_B69
  refine jm_p_fitKind hk hK (pc := 69) dX6_findFits_69 (fun μ1 => ?_)
  refine jj_aload_n hk (pc := 72) dX6_findFits_72 0 rfl rfl ?_
  refine jj_aload_n hk (pc := 73) dX6_findFits_73 0 rfl rfl ?_
  refine jm_g_fitMany hk hK (pc := 74) dX6_findFits_74 ?_
  refine jj_if_ne hk (pc := 77) 85 dX6_findFits_77 (by decide) ?_ ?_
  · refine jj_aload_n hk (pc := 85) dX6_findFits_85 0 rfl rfl ?_
    refine jm_g_fitGrace hk hK (pc := 86) dX6_findFits_86 ?_
    refine jm_p_fitGrace hk hK (pc := 89) dX6_findFits_89 (fun μ2 => ?_)
    refine jj_aload_n hk (pc := 92) dX6_findFits_92 0 rfl rfl ?_
    refine jj_aload_n hk (pc := 93) dX6_findFits_93 0 rfl rfl ?_
    refine jm_g_fitMany hk hK (pc := 94) dX6_findFits_94 ?_
    refine jj_if_ne hk (pc := 97) 105 dX6_findFits_97 (by decide) ?_ ?_
    · refine jj_aload_n hk (pc := 105) dX6_findFits_105 0 rfl rfl ?_
      refine jm_g_fitStrength hk hK (pc := 106) dX6_findFits_106 ?_
      refine jm_p_fitStrength hk hK (pc := 109) dX6_findFits_109 (fun μ3 => ?_)
      refine jj_aload_n hk (pc := 112) dX6_findFits_112 0 rfl rfl ?_
      refine jj_dup hk (pc := 113) dX6_findFits_113 rfl ?_
      refine jm_g_fitMany hk hK (pc := 114) dX6_findFits_114 ?_
      refine jj_iconst hk (pc := 117) (v := (1 : Int32)) dX6_findFits_117 (by decide) ?_
      refine jj_iadd hk (pc := 118) dX6_findFits_118 ?_
      refine jm_p_fitMany hk hK (pc := 119) dX6_findFits_119 (fun μ4 => ?_)
      refine jj_iinc hk (pc := 122) [(2, .int (x2 + 1)), (0, .ref (gh G)), (1, .int x1), (4, .int x4), (5, .int x5)] dX6_findFits_122 2 rfl rfl (Nat.le_of_ble_eq_true rfl) rfl ?_
      refine jj_goto hk (pc := 125) 7 dX6_findFits_125 (by decide) ?_
      refine jj_loc [(0, .ref (gh G)), (1, .int x1), (2, .int (x2 + 1))] [1, 2, 0] rfl ?_
      exact hk7 μ4 x1 (x2 + 1)
    · refine jj_iload hk (pc := 100) dX6_findFits_100 4 rfl ?_
      refine jj_goto hk (pc := 102) 109 dX6_findFits_102 (by decide) ?_
      refine jm_p_fitStrength hk hK (pc := 109) dX6_findFits_109 (fun μ5 => ?_)
      refine jj_aload_n hk (pc := 112) dX6_findFits_112 0 rfl rfl ?_
      refine jj_dup hk (pc := 113) dX6_findFits_113 rfl ?_
      refine jm_g_fitMany hk hK (pc := 114) dX6_findFits_114 ?_
      refine jj_iconst hk (pc := 117) (v := (1 : Int32)) dX6_findFits_117 (by decide) ?_
      refine jj_iadd hk (pc := 118) dX6_findFits_118 ?_
      refine jm_p_fitMany hk hK (pc := 119) dX6_findFits_119 (fun μ6 => ?_)
      refine jj_iinc hk (pc := 122) [(2, .int (x2 + 1)), (0, .ref (gh G)), (1, .int x1), (4, .int x4), (5, .int x5)] dX6_findFits_122 2 rfl rfl (Nat.le_of_ble_eq_true rfl) rfl ?_
      refine jj_goto hk (pc := 125) 7 dX6_findFits_125 (by decide) ?_
      refine jj_loc [(0, .ref (gh G)), (1, .int x1), (2, .int (x2 + 1))] [1, 2, 0] rfl ?_
      exact hk7 μ6 x1 (x2 + 1)
  · refine jj_iload hk (pc := 80) dX6_findFits_80 3 rfl ?_
    refine jj_goto hk (pc := 82) 89 dX6_findFits_82 (by decide) ?_
    refine jm_p_fitGrace hk hK (pc := 89) dX6_findFits_89 (fun μ7 => ?_)
    refine jj_aload_n hk (pc := 92) dX6_findFits_92 0 rfl rfl ?_
    refine jj_aload_n hk (pc := 93) dX6_findFits_93 0 rfl rfl ?_
    refine jm_g_fitMany hk hK (pc := 94) dX6_findFits_94 ?_
    refine jj_if_ne hk (pc := 97) 105 dX6_findFits_97 (by decide) ?_ ?_
    · refine jj_aload_n hk (pc := 105) dX6_findFits_105 0 rfl rfl ?_
      refine jm_g_fitStrength hk hK (pc := 106) dX6_findFits_106 ?_
      refine jm_p_fitStrength hk hK (pc := 109) dX6_findFits_109 (fun μ8 => ?_)
      refine jj_aload_n hk (pc := 112) dX6_findFits_112 0 rfl rfl ?_
      refine jj_dup hk (pc := 113) dX6_findFits_113 rfl ?_
      refine jm_g_fitMany hk hK (pc := 114) dX6_findFits_114 ?_
      refine jj_iconst hk (pc := 117) (v := (1 : Int32)) dX6_findFits_117 (by decide) ?_
      refine jj_iadd hk (pc := 118) dX6_findFits_118 ?_
      refine jm_p_fitMany hk hK (pc := 119) dX6_findFits_119 (fun μ9 => ?_)
      refine jj_iinc hk (pc := 122) [(2, .int (x2 + 1)), (0, .ref (gh G)), (1, .int x1), (4, .int x4), (5, .int x5)] dX6_findFits_122 2 rfl rfl (Nat.le_of_ble_eq_true rfl) rfl ?_
      refine jj_goto hk (pc := 125) 7 dX6_findFits_125 (by decide) ?_
      refine jj_loc [(0, .ref (gh G)), (1, .int x1), (2, .int (x2 + 1))] [1, 2, 0] rfl ?_
      exact hk7 μ9 x1 (x2 + 1)
    · refine jj_iload hk (pc := 100) dX6_findFits_100 4 rfl ?_
      refine jj_goto hk (pc := 102) 109 dX6_findFits_102 (by decide) ?_
      refine jm_p_fitStrength hk hK (pc := 109) dX6_findFits_109 (fun μ10 => ?_)
      refine jj_aload_n hk (pc := 112) dX6_findFits_112 0 rfl rfl ?_
      refine jj_dup hk (pc := 113) dX6_findFits_113 rfl ?_
      refine jm_g_fitMany hk hK (pc := 114) dX6_findFits_114 ?_
      refine jj_iconst hk (pc := 117) (v := (1 : Int32)) dX6_findFits_117 (by decide) ?_
      refine jj_iadd hk (pc := 118) dX6_findFits_118 ?_
      refine jm_p_fitMany hk hK (pc := 119) dX6_findFits_119 (fun μ11 => ?_)
      refine jj_iinc hk (pc := 122) [(2, .int (x2 + 1)), (0, .ref (gh G)), (1, .int x1), (4, .int x4), (5, .int x5)] dX6_findFits_122 2 rfl rfl (Nat.le_of_ble_eq_true rfl) rfl ?_
      refine jj_goto hk (pc := 125) 7 dX6_findFits_125 (by decide) ?_
      refine jj_loc [(0, .ref (gh G)), (1, .int x1), (2, .int (x2 + 1))] [1, 2, 0] rfl ?_
      exact hk7 μ11 x1 (x2 + 1)
set_option maxHeartbeats 4000000 in
theorem wb_m_findFits_L7 {res : MS} (hk : jk p R s m args meth c (gn G) cX6_findFits 6 RX6 3 75 none) (hK : mK G s) (N : Nat) : ∀ (n : Nat) (μ : MS) (x1 : Int32) (x2 : Int32), jj p l e R s m args below meth c (gA G) (gn G) (jZ below args s (gA G) (gn G) (jV res) (mWo G) (mnx G)) (mWo G) (mnx G) 6 μ 7 [(0, .ref (gh G)), (1, .int x1), (2, .int x2)] [] (m_findFits_L7 N n μ x1 x2 = some res) := by
  intro n
  induction n with
  | zero => intro μ x1 x2; exact jj_eq (fun hz => by rw [m_findFits_L7] at hz; exact hz) jj_no
  | succ n ih =>
    intro μ x1 x2
    rw [m_findFits_L7]
    refine jj_iload_n hk (pc := 7) dX6_findFits_7 2 rfl rfl ?_
    refine jj_sipush hk (pc := 8) (v := (405 : Int32)) dX6_findFits_8 (by decide) ?_
    refine jj_icmp_ge hk (pc := 11) 128 dX6_findFits_11 (by decide) ?_ ?_
    · exact jm_retV hk (pc := 128) dX6_findFits_128
    · refine jj_iconst hk (pc := 14) (v := (1 : Int32)) dX6_findFits_14 (by decide) ?_
      refine jj_iload_n hk (pc := 15) dX6_findFits_15 2 rfl rfl ?_
      refine jj_bipush hk (pc := 16) (v := (81 : Int32)) dX6_findFits_16 (by decide) ?_
      refine jj_idiv hk (pc := 18) dX6_findFits_18 (by decide) ?_
      refine jj_iadd hk (pc := 19) dX6_findFits_19 ?_
      refine jj_istore_n hk (pc := 20) [(3, .int ((1 : Int32) + (x2 / (81 : Int32)))), (0, .ref (gh G)), (1, .int x1), (2, .int x2)] dX6_findFits_20 rfl (Nat.le_of_ble_eq_true rfl) rfl ?_
      refine jj_iconst hk (pc := 21) (v := (1 : Int32)) dX6_findFits_21 (by decide) ?_
      refine jj_iload_n hk (pc := 22) dX6_findFits_22 3 rfl rfl ?_
      refine jj_bipush hk (pc := 23) (v := (9 : Int32)) dX6_findFits_23 (by decide) ?_
      refine jj_idiv hk (pc := 25) dX6_findFits_25 (by decide) ?_
      refine jj_bipush hk (pc := 26) (v := (9 : Int32)) dX6_findFits_26 (by decide) ?_
      refine jj_irem hk (pc := 28) dX6_findFits_28 (by decide) ?_
      refine jj_iadd hk (pc := 29) dX6_findFits_29 ?_
      refine jj_istore hk (pc := 30) [(4, .int ((1 : Int32) + ((x2 / (9 : Int32)) - (x2 / (9 : Int32)) / (9 : Int32) * (9 : Int32)))), (3, .int ((1 : Int32) + (x2 / (81 : Int32)))), (0, .ref (gh G)), (1, .int x1), (2, .int x2)] dX6_findFits_30 (Nat.le_of_ble_eq_true rfl) rfl ?_
      refine jj_iconst hk (pc := 32) (v := (1 : Int32)) dX6_findFits_32 (by decide) ?_
      refine jj_iload_n hk (pc := 33) dX6_findFits_33 4 rfl rfl ?_
      refine jj_bipush hk (pc := 34) (v := (9 : Int32)) dX6_findFits_34 (by decide) ?_
      refine jj_irem hk (pc := 36) dX6_findFits_36 (by decide) ?_
      refine jj_iadd hk (pc := 37) dX6_findFits_37 ?_
      refine jj_istore hk (pc := 38) [(5, .int ((1 : Int32) + (x2 - x2 / (9 : Int32) * (9 : Int32)))), (4, .int ((1 : Int32) + ((x2 / (9 : Int32)) - (x2 / (9 : Int32)) / (9 : Int32) * (9 : Int32)))), (3, .int ((1 : Int32) + (x2 / (81 : Int32)))), (0, .ref (gh G)), (1, .int x1), (2, .int x2)] dX6_findFits_38 (Nat.le_of_ble_eq_true rfl) rfl ?_
      refine jj_aload_n hk (pc := 40) dX6_findFits_40 3 rfl rfl ?_
      refine jj_iload_n hk (pc := 41) dX6_findFits_41 2 rfl rfl ?_
      refine jj_iload hk (pc := 42) dX6_findFits_42 1 rfl ?_
      refine jj_iload hk (pc := 44) dX6_findFits_44 0 rfl ?_
      refine jj_iload_n hk (pc := 46) dX6_findFits_46 4 rfl rfl ?_
      refine kc_m_isFit hk hK (pc := 47) (a0 := ((1 : Int32) + (x2 / (81 : Int32)))) (a1 := ((1 : Int32) + ((x2 / (9 : Int32)) - (x2 / (9 : Int32)) / (9 : Int32) * (9 : Int32)))) (a2 := ((1 : Int32) + (x2 - x2 / (9 : Int32) * (9 : Int32)))) (a3 := x1) (fun r h => cc_m_isFit l G N μ ((1 : Int32) + (x2 / (81 : Int32))) ((1 : Int32) + ((x2 / (9 : Int32)) - (x2 / (9 : Int32)) / (9 : Int32) * (9 : Int32))) ((1 : Int32) + (x2 - x2 / (9 : Int32) * (9 : Int32))) x1 r h) dX6_findFits_47 ⟨Nat.le_of_ble_eq_true rfl, Nat.le_of_ble_eq_true rfl⟩ (Nat.le_of_ble_eq_true rfl) (fun r1 => ?_)
      refine jj_if_eq_b hk (pc := 50) 122 dX6_findFits_50 (by decide) ?_ ?_
      · refine jj_iinc hk (pc := 122) [(2, .int (x2 + 1)), (5, .int ((1 : Int32) + (x2 - x2 / (9 : Int32) * (9 : Int32)))), (4, .int ((1 : Int32) + ((x2 / (9 : Int32)) - (x2 / (9 : Int32)) / (9 : Int32) * (9 : Int32)))), (3, .int ((1 : Int32) + (x2 / (81 : Int32)))), (0, .ref (gh G)), (1, .int x1)] dX6_findFits_122 5 rfl rfl (Nat.le_of_ble_eq_true rfl) rfl ?_
        refine jj_goto hk (pc := 125) 7 dX6_findFits_125 (by decide) ?_
        refine jj_loc [(0, .ref (gh G)), (1, .int x1), (2, .int (x2 + 1))] [4, 5, 0] rfl ?_
        exact ih μ x1 (x2 + 1)
      · refine jj_aload_n hk (pc := 53) dX6_findFits_53 3 rfl rfl ?_
        refine jj_aload_n hk (pc := 54) dX6_findFits_54 3 rfl rfl ?_
        refine jm_g_fitMany hk hK (pc := 55) dX6_findFits_55 ?_
        refine jj_if_ne hk (pc := 58) 65 dX6_findFits_58 (by decide) ?_ ?_
        · refine jj_aload_n hk (pc := 65) dX6_findFits_65 3 rfl rfl ?_
          refine jm_g_fitKind hk hK (pc := 66) dX6_findFits_66 ?_
          refine jj_loc [(0, .ref (gh G)), (1, .int x1), (2, .int x2), (4, .int ((1 : Int32) + ((x2 / (9 : Int32)) - (x2 / (9 : Int32)) / (9 : Int32) * (9 : Int32)))), (5, .int ((1 : Int32) + (x2 - x2 / (9 : Int32) * (9 : Int32))))] [3, 4, 5, 1, 0] rfl ?_
          exact wb_m_findFits_B69 hk hK N ih μ x1 x2 ((1 : Int32) + ((x2 / (9 : Int32)) - (x2 / (9 : Int32)) / (9 : Int32) * (9 : Int32))) ((1 : Int32) + (x2 - x2 / (9 : Int32) * (9 : Int32))) (μ.1 17)
        · refine jj_iload_n hk (pc := 61) dX6_findFits_61 2 rfl rfl ?_
          refine jj_goto hk (pc := 62) 69 dX6_findFits_62 (by decide) ?_
          refine jj_loc [(0, .ref (gh G)), (1, .int x1), (2, .int x2), (4, .int ((1 : Int32) + ((x2 / (9 : Int32)) - (x2 / (9 : Int32)) / (9 : Int32) * (9 : Int32)))), (5, .int ((1 : Int32) + (x2 - x2 / (9 : Int32) * (9 : Int32))))] [3, 4, 5, 1, 0] rfl ?_
          exact wb_m_findFits_B69 hk hK N ih μ x1 x2 ((1 : Int32) + ((x2 / (9 : Int32)) - (x2 / (9 : Int32)) / (9 : Int32) * (9 : Int32))) ((1 : Int32) + (x2 - x2 / (9 : Int32) * (9 : Int32))) ((1 : Int32) + (x2 / (81 : Int32)))
set_option maxHeartbeats 4000000 in
theorem cc_m_findFits (l : Launch) (G : jG) (N : Nat) (μ : MS) (a0 : Int32) (res : MS) (hf : m_findFits N μ a0 = some res) : jM l yX6_findFits (ws_ yX6_findFits cX6_findFits 6 none) 3 75 [.ref (gh G), .int a0] (mWo G) (mnx G) (mK G) μ (jV res) (gA G) (gn G) := by
  refine jj_start [(0, .ref (gh G)), (1, .int a0)] (by decide) (Nat.le_of_ble_eq_true rfl) rfl (fun p e R s m args below meth c hk hK hsz => ?_) hf
  have hk : jk p R s m args meth c (gn G) cX6_findFits 6 RX6 3 75 none := hk
  unfold m_findFits
  refine jj_aload_n hk (pc := 0) dX6_findFits_0 0 rfl rfl ?_
  refine jj_iconst hk (pc := 1) (v := (0 : Int32)) dX6_findFits_1 (by decide) ?_
  refine jm_p_fitMany hk hK (pc := 2) dX6_findFits_2 (fun μ1 => ?_)
  refine jj_iconst hk (pc := 5) (v := (0 : Int32)) dX6_findFits_5 (by decide) ?_
  refine jj_istore_n hk (pc := 6) [(2, .int (0 : Int32)), (0, .ref (gh G)), (1, .int a0)] dX6_findFits_6 rfl (Nat.le_of_ble_eq_true rfl) rfl ?_
  refine jj_loc [(0, .ref (gh G)), (1, .int a0), (2, .int (0 : Int32))] [1, 2, 0] rfl ?_
  exact wb_m_findFits_L7 hk hK N N μ1 a0 (0 : Int32)
end
section
variable {p : Program} {l : Launch} {e : Env} {R : Room} {s : State} {m : MethodId} {args : Array Value} {below : List Frame} {meth : Method} {c : Code}
variable {G : jG}
variable {NX : Nat} {Q : State → Prop} {nL : Nat} {cc : ByteArray} {fr lo frc loc : Nat} {ret : Option FieldType}
variable {pc : Nat} {μ : MS} {lv : List (Nat × Value)} {st : List Value} {ρ : Type} {res : ρ}
theorem kc_m_findFits (hk : jk p R s m args meth c NX cc nL RX6 fr lo ret) (hK : mK G s) {a0 : Int32} {F : Option MS} {K : MS → Option ρ} (hM : ∀ r, F = some r → jM l yX6_findFits (ws_ yX6_findFits cX6_findFits 6 none) frc loc [.ref (gh G), .int a0] (mWo G) (mnx G) (mK G) μ (jV r) (gA G) (gn G)) (hd : decode cc pc = .ok (.invokevirtual 253, 3)) (hr : frc + 1 ≤ fr ∧ 8 + (6 + 11) + loc ≤ lo) (hw : (st.map fun v => v.category).sum ≤ 8) (kk : ∀ r, jj p l e R s m args below meth c (gA G) NX Q (mWo G) (mnx G) nL r (pc + 3) lv st (K r = some res)) : jj p l e R s m args below meth c (gA G) NX Q (mWo G) (mnx G) nL μ pc lv (.int a0 :: .ref (gh G) :: st) (F.bind K = some res) :=
  jm_VV (n := 1) hk hK [.int a0] hM (lw_V q1966 q1968 qs85 q127 q1969) (by decide +kernel) rfl rfl hd hr hw kk
end
section
variable {p : Program} {l : Launch} {e : Env} {R : Room} {s : State} {m : MethodId} {args : Array Value} {below : List Frame} {meth : Method} {c : Code}
variable {G : jG}
set_option maxHeartbeats 4000000 in
theorem cc_m_span (l : Launch) (G : jG) (N : Nat) (μ : MS) (a0 : Int32) (res : (Int32 × MS)) (hf : m_span N μ a0 = some res) : jM l yX6_span (ws_ yX6_span cX6_span 2 (some .int)) 4 100 [.ref (gh G), .int a0] (mWo G) (mnx G) (mK G) μ (jU res) (gA G) (gn G) := by
  refine jj_start [(0, .ref (gh G)), (1, .int a0)] (by decide) (Nat.le_of_ble_eq_true rfl) rfl (fun p e R s m args below meth c hk hK hsz => ?_) hf
  have hk : jk p R s m args meth c (gn G) cX6_span 2 RX6 4 100 (some .int) := hk
  unfold m_span
  refine jj_iload_n hk (pc := 0) dX6_span_0 1 rfl rfl ?_
  refine jj_i2l hk (pc := 1) dX6_span_1 ?_
  refine jj_lconst hk (pc := 2) (v := (0 : Int64)) dX6_span_2 (by decide) ?_
  refine jj_ldc2_w hk (pc := 3) q1924 dX6_span_3 ?_
  refine kc_m_in hk hK (pc := 6) (a0 := a0.toInt64) (a1 := (0 : Int64)) (a2 := (3 : Int64)) (fun r h => cc_m_in l G μ a0.toInt64 (0 : Int64) (3 : Int64) r h) dX6_span_6 ⟨Nat.le_of_ble_eq_true rfl, Nat.le_of_ble_eq_true rfl⟩ (Nat.le_of_ble_eq_true rfl) (fun r1 => ?_)
  refine jj_if_ne_b hk (pc := 9) 14 dX6_span_9 (by decide) ?_ ?_
  · refine jj_aload_n hk (pc := 14) dX6_span_14 0 rfl rfl ?_
    refine jj_iconst hk (pc := 15) (v := (-1 : Int32)) dX6_span_15 (by decide) ?_
    refine kc_m_findFits hk hK (pc := 16) (a0 := (-1 : Int32)) (fun r h => cc_m_findFits l G N μ (-1 : Int32) r h) dX6_span_16 ⟨Nat.le_of_ble_eq_true rfl, Nat.le_of_ble_eq_true rfl⟩ (Nat.le_of_ble_eq_true rfl) (fun r2 => ?_)
    refine jj_iload_n hk (pc := 19) dX6_span_19 1 rfl rfl ?_
    refine jj_if_eq hk (pc := 20) 30 dX6_span_20 (by decide) ?_ ?_
    · refine jj_iload_n hk (pc := 30) dX6_span_30 1 rfl rfl ?_
      refine jj_if_ne hk (pc := 31) 41 dX6_span_31 (by decide) ?_ ?_
      · refine jj_bipush hk (pc := 41) (v := (-3 : Int32)) dX6_span_41 (by decide) ?_
        exact jm_retUi hk (pc := 43) dX6_span_43
      · refine jj_aload_n hk (pc := 34) dX6_span_34 0 rfl rfl ?_
        refine jm_g_fitMany hk hK (pc := 35) dX6_span_35 ?_
        refine jj_goto hk (pc := 38) 43 dX6_span_38 (by decide) ?_
        exact jm_retUi hk (pc := 43) dX6_span_43
    · refine jj_aload_n hk (pc := 23) dX6_span_23 0 rfl rfl ?_
      refine jm_g_fitMany hk hK (pc := 24) dX6_span_24 ?_
      refine jj_if_ne hk (pc := 27) 44 dX6_span_27 (by decide) ?_ ?_
      · refine jj_iload_n hk (pc := 44) dX6_span_44 1 rfl rfl ?_
        refine jj_iconst hk (pc := 45) (v := (1 : Int32)) dX6_span_45 (by decide) ?_
        refine jj_icmp_ne hk (pc := 46) 56 dX6_span_46 (by decide) ?_ ?_
        · refine jj_iload_n hk (pc := 56) dX6_span_56 1 rfl rfl ?_
          refine jj_iconst hk (pc := 57) (v := (2 : Int32)) dX6_span_57 (by decide) ?_
          refine jj_icmp_ne hk (pc := 58) 68 dX6_span_58 (by decide) ?_ ?_
          · refine jj_aload_n hk (pc := 68) dX6_span_68 0 rfl rfl ?_
            refine jm_g_fitStrength hk hK (pc := 69) dX6_span_69 ?_
            exact jm_retUi hk (pc := 72) dX6_span_72
          · refine jj_aload_n hk (pc := 61) dX6_span_61 0 rfl rfl ?_
            refine jm_g_fitGrace hk hK (pc := 62) dX6_span_62 ?_
            refine jj_goto hk (pc := 65) 72 dX6_span_65 (by decide) ?_
            exact jm_retUi hk (pc := 72) dX6_span_72
        · refine jj_aload_n hk (pc := 49) dX6_span_49 0 rfl rfl ?_
          refine jm_g_fitKind hk hK (pc := 50) dX6_span_50 ?_
          refine jj_goto hk (pc := 53) 72 dX6_span_53 (by decide) ?_
          exact jm_retUi hk (pc := 72) dX6_span_72
      · refine jj_iload_n hk (pc := 30) dX6_span_30 1 rfl rfl ?_
        refine jj_if_ne hk (pc := 31) 41 dX6_span_31 (by decide) ?_ ?_
        · refine jj_bipush hk (pc := 41) (v := (-3 : Int32)) dX6_span_41 (by decide) ?_
          exact jm_retUi hk (pc := 43) dX6_span_43
        · refine jj_aload_n hk (pc := 34) dX6_span_34 0 rfl rfl ?_
          refine jm_g_fitMany hk hK (pc := 35) dX6_span_35 ?_
          refine jj_goto hk (pc := 38) 43 dX6_span_38 (by decide) ?_
          exact jm_retUi hk (pc := 43) dX6_span_43
  · refine jj_iconst hk (pc := 12) (v := (-1 : Int32)) dX6_span_12 (by decide) ?_
    exact jm_retUi hk (pc := 13) dX6_span_13
end
section
variable {p : Program} {l : Launch} {e : Env} {R : Room} {s : State} {m : MethodId} {args : Array Value} {below : List Frame} {meth : Method} {c : Code}
variable {G : jG}
set_option maxHeartbeats 4000000 in
theorem wb_m_liar_L20 {res : (Int32 × MS)} (hk : jk p R s m args meth c (gn G) cX6_liar 3 RX6 4 100 (some .int)) (hK : mK G s) (N : Nat) : ∀ (n : Nat) (μ : MS) (x1 : Bool) (x2 : Int32), jj p l e R s m args below meth c (gA G) (gn G) (jZ below args s (gA G) (gn G) (jU res) (mWo G) (mnx G)) (mWo G) (mnx G) 3 μ 20 [(0, .ref (gh G)), (1, .int (bI x1)), (2, .int x2)] [] (m_liar_L20 N n μ x1 x2 = some res) := by
  intro n
  induction n with
  | zero => intro μ x1 x2; exact jj_eq (fun hz => by rw [m_liar_L20] at hz; exact hz) jj_no
  | succ n ih =>
    intro μ x1 x2
    rw [m_liar_L20]
    refine jj_iload_n hk (pc := 20) dX6_liar_20 2 rfl rfl ?_
    refine jj_aload_n hk (pc := 21) dX6_liar_21 0 rfl rfl ?_
    refine jm_g_s hk hK (pc := 22) dX6_liar_22 ?_
    refine jj_bipush hk (pc := 25) (v := (6 : Int32)) dX6_liar_25 (by decide) ?_
    refine jm_ld hk hK (pc := 27) (by decide) dX6_liar_27 (fun v1 => ?_)
    refine jj_icmp_ge hk (pc := 28) 55 dX6_liar_28 (by decide) ?_ ?_
    · refine jj_bipush hk (pc := 55) (v := (-3 : Int32)) dX6_liar_55 (by decide) ?_
      exact jm_retUi hk (pc := 57) dX6_liar_57
    · refine jj_iload_n hk (pc := 31) dX6_liar_31 1 rfl rfl ?_
      refine jj_if_eq_b hk (pc := 32) 55 dX6_liar_32 (by decide) ?_ ?_
      · refine jj_bipush hk (pc := 55) (v := (-3 : Int32)) dX6_liar_55 (by decide) ?_
        exact jm_retUi hk (pc := 57) dX6_liar_57
      · refine jj_aload_n hk (pc := 35) dX6_liar_35 0 rfl rfl ?_
        refine jj_iload_n hk (pc := 36) dX6_liar_36 2 rfl rfl ?_
        refine kc_m_findFits hk hK (pc := 37) (a0 := x2) (fun r h => cc_m_findFits l G N μ x2 r h) dX6_liar_37 ⟨Nat.le_of_ble_eq_true rfl, Nat.le_of_ble_eq_true rfl⟩ (Nat.le_of_ble_eq_true rfl) (fun r2 => ?_)
        refine jj_aload_n hk (pc := 40) dX6_liar_40 0 rfl rfl ?_
        refine jm_g_fitMany hk hK (pc := 41) dX6_liar_41 ?_
        refine jj_if_le hk (pc := 44) 49 dX6_liar_44 (by decide) ?_ ?_
        · refine jj_iinc hk (pc := 49) [(2, .int (x2 + 1)), (0, .ref (gh G)), (1, .int (bI x1))] dX6_liar_49 2 rfl rfl (Nat.le_of_ble_eq_true rfl) rfl ?_
          refine jj_goto hk (pc := 52) 20 dX6_liar_52 (by decide) ?_
          refine jj_loc [(0, .ref (gh G)), (1, .int (bI x1)), (2, .int (x2 + 1))] [1, 2, 0] rfl ?_
          exact ih r2 x1 (x2 + 1)
        · refine jj_iload_n hk (pc := 47) dX6_liar_47 2 rfl rfl ?_
          exact jm_retUi hk (pc := 48) dX6_liar_48
set_option maxHeartbeats 4000000 in
theorem cc_m_liar (l : Launch) (G : jG) (N : Nat) (μ : MS)  (res : (Int32 × MS)) (hf : m_liar N μ = some res) : jM l yX6_liar (ws_ yX6_liar cX6_liar 3 (some .int)) 4 100 [.ref (gh G)] (mWo G) (mnx G) (mK G) μ (jU res) (gA G) (gn G) := by
  refine jj_start [(0, .ref (gh G))] (by decide) (Nat.le_of_ble_eq_true rfl) rfl (fun p e R s m args below meth c hk hK hsz => ?_) hf
  have hk : jk p R s m args meth c (gn G) cX6_liar 3 RX6 4 100 (some .int) := hk
  unfold m_liar
  refine jj_aload_n hk (pc := 0) dX6_liar_0 0 rfl rfl ?_
  refine jj_iconst hk (pc := 1) (v := (-1 : Int32)) dX6_liar_1 (by decide) ?_
  refine kc_m_findFits hk hK (pc := 2) (a0 := (-1 : Int32)) (fun r h => cc_m_findFits l G N μ (-1 : Int32) r h) dX6_liar_2 ⟨Nat.le_of_ble_eq_true rfl, Nat.le_of_ble_eq_true rfl⟩ (Nat.le_of_ble_eq_true rfl) (fun r1 => ?_)
  refine jj_aload_n hk (pc := 5) dX6_liar_5 0 rfl rfl ?_
  refine jm_g_fitMany hk hK (pc := 6) dX6_liar_6 ?_
  refine jj_if_ne hk (pc := 9) 16 dX6_liar_9 (by decide) ?_ ?_
  · refine jj_iconst hk (pc := 16) (v := (0 : Int32)) dX6_liar_16 (by decide) ?_
    refine jj_istore_n hk (pc := 17) [(1, .int (0 : Int32)), (0, .ref (gh G))] dX6_liar_17 rfl (Nat.le_of_ble_eq_true rfl) rfl ?_
    refine jj_iconst hk (pc := 18) (v := (0 : Int32)) dX6_liar_18 (by decide) ?_
    refine jj_istore_n hk (pc := 19) [(2, .int (0 : Int32)), (1, .int (0 : Int32)), (0, .ref (gh G))] dX6_liar_19 rfl (Nat.le_of_ble_eq_true rfl) rfl ?_
    refine jj_loc [(0, .ref (gh G)), (1, .int (bI false)), (2, .int (0 : Int32))] [2, 1, 0] rfl ?_
    exact wb_m_liar_L20 hk hK N N r1 false (0 : Int32)
  · refine jj_iconst hk (pc := 12) (v := (1 : Int32)) dX6_liar_12 (by decide) ?_
    refine jj_goto hk (pc := 13) 17 dX6_liar_13 (by decide) ?_
    refine jj_istore_n hk (pc := 17) [(1, .int (1 : Int32)), (0, .ref (gh G))] dX6_liar_17 rfl (Nat.le_of_ble_eq_true rfl) rfl ?_
    refine jj_iconst hk (pc := 18) (v := (0 : Int32)) dX6_liar_18 (by decide) ?_
    refine jj_istore_n hk (pc := 19) [(2, .int (0 : Int32)), (1, .int (1 : Int32)), (0, .ref (gh G))] dX6_liar_19 rfl (Nat.le_of_ble_eq_true rfl) rfl ?_
    refine jj_loc [(0, .ref (gh G)), (1, .int (bI true)), (2, .int (0 : Int32))] [2, 1, 0] rfl ?_
    exact wb_m_liar_L20 hk hK N N r1 true (0 : Int32)
end
section
variable {p : Program} {l : Launch} {e : Env} {R : Room} {s : State} {m : MethodId} {args : Array Value} {below : List Frame} {meth : Method} {c : Code}
variable {G : jG}
set_option maxHeartbeats 4000000 in
theorem cc_m_seed (l : Launch) (G : jG)  (μ : MS) (a0 : Int32) (res : (Int32 × MS)) (hf : m_seed μ a0 = some res) : jM l yX6_seed (ws_ yX6_seed cX6_seed 2 (some .int)) 1 23 [.ref (gh G), .int a0] (mWo G) (mnx G) (mK G) μ (jU res) (gA G) (gn G) := by
  refine jj_start [(0, .ref (gh G)), (1, .int a0)] (by decide) (Nat.le_of_ble_eq_true rfl) rfl (fun p e R s m args below meth c hk hK hsz => ?_) hf
  have hk : jk p R s m args meth c (gn G) cX6_seed 2 RX6 1 23 (some .int) := hk
  unfold m_seed
  refine jj_aload_n hk (pc := 0) dX6_seed_0 0 rfl rfl ?_
  refine jj_bipush hk (pc := 1) (v := (7 : Int32)) dX6_seed_1 (by decide) ?_
  refine jj_iload_n hk (pc := 3) dX6_seed_3 1 rfl rfl ?_
  refine kc_m_becomes hk hK (pc := 4) (a0 := (7 : Int32)) (a1 := a0) (fun r h => cc_m_becomes l G μ (7 : Int32) a0 r h) dX6_seed_4 ⟨Nat.le_of_ble_eq_true rfl, Nat.le_of_ble_eq_true rfl⟩ (Nat.le_of_ble_eq_true rfl) (fun r1 => ?_)
  exact jm_retUi hk (pc := 7) dX6_seed_7
end
section
variable {p : Program} {l : Launch} {e : Env} {R : Room} {s : State} {m : MethodId} {args : Array Value} {below : List Frame} {meth : Method} {c : Code}
variable {G : jG}
set_option maxHeartbeats 4000000 in
theorem cc_m_byLot (l : Launch) (G : jG) (N : Nat) (μ : MS)  (res : (Int32 × MS)) (hf : m_byLot N μ = some res) : jM l yX6_byLot (ws_ yX6_byLot cX6_byLot 1 (some .int)) 7 168 [.ref (gh G)] (mWo G) (mnx G) (mK G) μ (jU res) (gA G) (gn G) := by
  refine jj_start [(0, .ref (gh G))] (by decide) (Nat.le_of_ble_eq_true rfl) rfl (fun p e R s m args below meth c hk hK hsz => ?_) hf
  have hk : jk p R s m args meth c (gn G) cX6_byLot 1 RX6 7 168 (some .int) := hk
  unfold m_byLot
  refine jj_aload_n hk (pc := 0) dX6_byLot_0 0 rfl rfl ?_
  refine jm_g_s hk hK (pc := 1) dX6_byLot_1 ?_
  refine jj_bipush hk (pc := 4) (v := (7 : Int32)) dX6_byLot_4 (by decide) ?_
  refine jj_aload_n hk (pc := 6) dX6_byLot_6 0 rfl rfl ?_
  refine jm_g_s hk hK (pc := 7) dX6_byLot_7 ?_
  refine jj_bipush hk (pc := 10) (v := (7 : Int32)) dX6_byLot_10 (by decide) ?_
  refine jm_ld hk hK (pc := 12) (by decide) dX6_byLot_12 (fun v1 => ?_)
  refine jj_ldc_w hk (pc := 13) q1994 dX6_byLot_13 ?_
  refine jj_imul hk (pc := 16) dX6_byLot_16 ?_
  refine jj_sipush hk (pc := 17) (v := (12345 : Int32)) dX6_byLot_17 (by decide) ?_
  refine jj_iadd hk (pc := 20) dX6_byLot_20 ?_
  refine jm_st hk hK (pc := 21) (by decide) dX6_byLot_21 (fun μ2 => ?_)
  refine jj_aload_n hk (pc := 22) dX6_byLot_22 0 rfl rfl ?_
  refine jj_aload_n hk (pc := 23) dX6_byLot_23 0 rfl rfl ?_
  refine jm_g_s hk hK (pc := 24) dX6_byLot_24 ?_
  refine jj_bipush hk (pc := 27) (v := (7 : Int32)) dX6_byLot_27 (by decide) ?_
  refine jm_ld hk hK (pc := 29) (by decide) dX6_byLot_29 (fun v3 => ?_)
  refine jj_bipush hk (pc := 30) (v := (16 : Int32)) dX6_byLot_30 (by decide) ?_
  refine jj_iushr hk (pc := 32) dX6_byLot_32 ?_
  refine jj_aload_n hk (pc := 33) dX6_byLot_33 0 rfl rfl ?_
  refine jm_g_s hk hK (pc := 34) dX6_byLot_34 ?_
  refine jj_iconst hk (pc := 37) (v := (0 : Int32)) dX6_byLot_37 (by decide) ?_
  refine jm_ld hk hK (pc := 38) (by decide) dX6_byLot_38 (fun v4 => ?_)
  refine jj_iconst hk (pc := 39) (v := (1 : Int32)) dX6_byLot_39 (by decide) ?_
  refine jj_iadd hk (pc := 40) dX6_byLot_40 ?_
  refine jj_ite (fun _ => jj_no) (fun hne => ?_)
  refine jj_irem hk (pc := 41) dX6_byLot_41 hne ?_
  refine kc_m_goes hk hK (pc := 42) (a0 := (((v3.toUInt32 >>> ((16 : Int32).toUInt32 &&& Int32.toUInt32 31)).toInt32) - ((v3.toUInt32 >>> ((16 : Int32).toUInt32 &&& Int32.toUInt32 31)).toInt32) / (v4 + (1 : Int32)) * (v4 + (1 : Int32)))) (fun r h => cc_m_goes l G N μ2 (((v3.toUInt32 >>> ((16 : Int32).toUInt32 &&& Int32.toUInt32 31)).toInt32) - ((v3.toUInt32 >>> ((16 : Int32).toUInt32 &&& Int32.toUInt32 31)).toInt32) / (v4 + (1 : Int32)) * (v4 + (1 : Int32))) r h) dX6_byLot_42 ⟨Nat.le_of_ble_eq_true rfl, Nat.le_of_ble_eq_true rfl⟩ (Nat.le_of_ble_eq_true rfl) (fun r5 => ?_)
  exact jm_retUi hk (pc := 45) dX6_byLot_45
end
section
variable {p : Program} {l : Launch} {e : Env} {R : Room} {s : State} {m : MethodId} {args : Array Value} {below : List Frame} {meth : Method} {c : Code}
variable {G : jG}
variable {NX : Nat} {Q : State → Prop} {nL : Nat} {cc : ByteArray} {fr lo frc loc : Nat} {ret : Option FieldType}
variable {pc : Nat} {μ : MS} {lv : List (Nat × Value)} {st : List Value} {ρ : Type} {res : ρ}
theorem kc_m_byLot (hk : jk p R s m args meth c NX cc nL RX6 fr lo ret) (hK : mK G s)  {F : Option (Int32 × MS)} {K : (Int32 × MS) → Option ρ} (hM : ∀ r, F = some r → jM l yX6_byLot (ws_ yX6_byLot cX6_byLot 1 (some .int)) frc loc [.ref (gh G)] (mWo G) (mnx G) (mK G) μ (jU r) (gA G) (gn G)) (hd : decode cc pc = .ok (.invokevirtual 257, 3)) (hr : frc + 1 ≤ fr ∧ 8 + (1 + 11) + loc ≤ lo) (hw : (st.map fun v => v.category).sum ≤ 8) (kk : ∀ r, jj p l e R s m args below meth c (gA G) NX Q (mWo G) (mnx G) nL r.2 (pc + 3) lv (.int r.1 :: st) (K r = some res)) : jj p l e R s m args below meth c (gA G) NX Q (mWo G) (mnx G) nL μ pc lv (.ref (gh G) :: st) (F.bind K = some res) :=
  jm_VUi (n := 0) hk hK [] hM (lw_V q1990 q1992 qs88 q127 q1993) (by decide +kernel) rfl rfl hd hr hw kk
end
section
variable {p : Program} {l : Launch} {e : Env} {R : Room} {s : State} {m : MethodId} {args : Array Value} {below : List Frame} {meth : Method} {c : Code}
variable {G : jG}
set_option maxHeartbeats 4000000 in
theorem cc_m_lot (l : Launch) (G : jG) (N : Nat) (μ : MS)  (res : (Int32 × MS)) (hf : m_lot N μ = some res) : jM l yX6_lot (ws_ yX6_lot cX6_lot 1 (some .int)) 8 188 [.ref (gh G)] (mWo G) (mnx G) (mK G) μ (jU res) (gA G) (gn G) := by
  refine jj_start [(0, .ref (gh G))] (by decide) (Nat.le_of_ble_eq_true rfl) rfl (fun p e R s m args below meth c hk hK hsz => ?_) hf
  have hk : jk p R s m args meth c (gn G) cX6_lot 1 RX6 8 188 (some .int) := hk
  unfold m_lot
  refine jj_aload_n hk (pc := 0) dX6_lot_0 0 rfl rfl ?_
  refine kc_m_isOver hk hK (pc := 1)  (fun r h => cc_m_isOver l G μ r h) dX6_lot_1 ⟨Nat.le_of_ble_eq_true rfl, Nat.le_of_ble_eq_true rfl⟩ (Nat.le_of_ble_eq_true rfl) (fun r1 => ?_)
  refine jj_if_eq_b hk (pc := 4) 12 dX6_lot_4 (by decide) ?_ ?_
  · refine jj_aload_n hk (pc := 12) dX6_lot_12 0 rfl rfl ?_
    refine kc_m_byLot hk hK (pc := 13)  (fun r h => cc_m_byLot l G N μ r h) dX6_lot_13 ⟨Nat.le_of_ble_eq_true rfl, Nat.le_of_ble_eq_true rfl⟩ (Nat.le_of_ble_eq_true rfl) (fun r2 => ?_)
    exact jm_retUi hk (pc := 16) dX6_lot_16
  · refine jj_bipush hk (pc := 7) (v := (-4 : Int32)) dX6_lot_7 (by decide) ?_
    refine jj_goto hk (pc := 9) 16 dX6_lot_9 (by decide) ?_
    exact jm_retUi hk (pc := 16) dX6_lot_16
end
section
variable {p : Program} {l : Launch} {e : Env} {R : Room} {s : State} {m : MethodId} {args : Array Value} {below : List Frame} {meth : Method} {c : Code}
variable {G : jG}
set_option maxHeartbeats 4000000 in
theorem wb_m_often_L44 {res : (Int32 × MS)} (hk : jk p R s m args meth c (gn G) cX6_often 7 RX6 8 188 (some .int)) (hK : mK G s) (N : Nat) {k35 : MS → Int32 → Int32 → Int32 → Int32 → Option (Int32 × MS)} (hk35 : ∀ (μ : MS) (x1 : Int32) (x2 : Int32) (x3 : Int32) (x4 : Int32), jj p l e R s m args below meth c (gA G) (gn G) (jZ below args s (gA G) (gn G) (jU res) (mWo G) (mnx G)) (mWo G) (mnx G) 7 μ 35 [(0, .ref (gh G)), (1, .int x1), (2, .int x2), (3, .int x3), (4, .int x4)] [] (k35 μ x1 x2 x3 x4 = some res)) : ∀ (n : Nat) (μ : MS) (x1 : Int32) (x2 : Int32) (x3 : Int32) (x4 : Int32) (x5 : Int32), jj p l e R s m args below meth c (gA G) (gn G) (jZ below args s (gA G) (gn G) (jU res) (mWo G) (mnx G)) (mWo G) (mnx G) 7 μ 44 [(0, .ref (gh G)), (1, .int x1), (2, .int x2), (3, .int x3), (4, .int x4), (5, .int x5)] [] (m_often_L44 N k35 n μ x1 x2 x3 x4 x5 = some res) := by
  intro n
  induction n with
  | zero => intro μ x1 x2 x3 x4 x5; exact jj_eq (fun hz => by rw [m_often_L44] at hz; exact hz) jj_no
  | succ n ih =>
    intro μ x1 x2 x3 x4 x5
    rw [m_often_L44]
    refine jj_aload_n hk (pc := 44) dX6_often_44 0 rfl rfl ?_
    refine kc_m_isOver hk hK (pc := 45)  (fun r h => cc_m_isOver l G μ r h) dX6_often_45 ⟨Nat.le_of_ble_eq_true rfl, Nat.le_of_ble_eq_true rfl⟩ (Nat.le_of_ble_eq_true rfl) (fun r1 => ?_)
    refine jj_if_ne_b hk (pc := 48) 63 dX6_often_48 (by decide) ?_ ?_
    · refine jj_iload_n hk (pc := 63) dX6_often_63 3 rfl rfl ?_
      refine jj_iload hk (pc := 64) dX6_often_64 5 rfl ?_
      refine jj_iload_n hk (pc := 66) dX6_often_66 2 rfl rfl ?_
      refine jj_icmp_lt hk (pc := 67) 74 dX6_often_67 (by decide) ?_ ?_
      · refine jj_iconst hk (pc := 74) (v := (0 : Int32)) dX6_often_74 (by decide) ?_
        refine jj_iadd hk (pc := 75) dX6_often_75 ?_
        refine jj_istore_n hk (pc := 76) [(3, .int (x3 + (0 : Int32))), (0, .ref (gh G)), (1, .int x1), (2, .int x2), (4, .int x4), (5, .int x5)] dX6_often_76 rfl (Nat.le_of_ble_eq_true rfl) rfl ?_
        refine jj_aload_n hk (pc := 77) dX6_often_77 1 rfl rfl ?_
        refine jm_g_s hk hK (pc := 78) dX6_often_78 ?_
        refine jj_bipush hk (pc := 81) (v := (7 : Int32)) dX6_often_81 (by decide) ?_
        refine jm_ld hk hK (pc := 83) (by decide) dX6_often_83 (fun v2 => ?_)
        refine jj_istore hk (pc := 84) [(6, .int v2), (3, .int (x3 + (0 : Int32))), (0, .ref (gh G)), (1, .int x1), (2, .int x2), (4, .int x4), (5, .int x5)] dX6_often_84 (Nat.le_of_ble_eq_true rfl) rfl ?_
        refine jj_aload_n hk (pc := 86) dX6_often_86 2 rfl rfl ?_
        refine kc_m_putsBack hk hK (pc := 87)  (fun r h => cc_m_putsBack l G N μ r h) dX6_often_87 ⟨Nat.le_of_ble_eq_true rfl, Nat.le_of_ble_eq_true rfl⟩ (Nat.le_of_ble_eq_true rfl) (fun r3 => ?_)
        refine jj_aload_n hk (pc := 90) dX6_often_90 2 rfl rfl ?_
        refine jm_g_s hk hK (pc := 91) dX6_often_91 ?_
        refine jj_bipush hk (pc := 94) (v := (7 : Int32)) dX6_often_94 (by decide) ?_
        refine jj_iload hk (pc := 96) dX6_often_96 0 rfl ?_
        refine jm_st hk hK (pc := 98) (by decide) dX6_often_98 (fun μ4 => ?_)
        refine jj_iinc hk (pc := 99) [(4, .int (x4 + 1)), (6, .int v2), (3, .int (x3 + (0 : Int32))), (0, .ref (gh G)), (1, .int x1), (2, .int x2), (5, .int x5)] dX6_often_99 5 rfl rfl (Nat.le_of_ble_eq_true rfl) rfl ?_
        refine jj_goto hk (pc := 102) 35 dX6_often_102 (by decide) ?_
        refine jj_loc [(0, .ref (gh G)), (1, .int x1), (2, .int x2), (3, .int (x3 + (0 : Int32))), (4, .int (x4 + 1))] [3, 4, 5, 2, 0] rfl ?_
        exact hk35 μ4 x1 x2 (x3 + (0 : Int32)) (x4 + 1)
      · refine jj_iconst hk (pc := 70) (v := (1 : Int32)) dX6_often_70 (by decide) ?_
        refine jj_goto hk (pc := 71) 75 dX6_often_71 (by decide) ?_
        refine jj_iadd hk (pc := 75) dX6_often_75 ?_
        refine jj_istore_n hk (pc := 76) [(3, .int (x3 + (1 : Int32))), (0, .ref (gh G)), (1, .int x1), (2, .int x2), (4, .int x4), (5, .int x5)] dX6_often_76 rfl (Nat.le_of_ble_eq_true rfl) rfl ?_
        refine jj_aload_n hk (pc := 77) dX6_often_77 1 rfl rfl ?_
        refine jm_g_s hk hK (pc := 78) dX6_often_78 ?_
        refine jj_bipush hk (pc := 81) (v := (7 : Int32)) dX6_often_81 (by decide) ?_
        refine jm_ld hk hK (pc := 83) (by decide) dX6_often_83 (fun v5 => ?_)
        refine jj_istore hk (pc := 84) [(6, .int v5), (3, .int (x3 + (1 : Int32))), (0, .ref (gh G)), (1, .int x1), (2, .int x2), (4, .int x4), (5, .int x5)] dX6_often_84 (Nat.le_of_ble_eq_true rfl) rfl ?_
        refine jj_aload_n hk (pc := 86) dX6_often_86 2 rfl rfl ?_
        refine kc_m_putsBack hk hK (pc := 87)  (fun r h => cc_m_putsBack l G N μ r h) dX6_often_87 ⟨Nat.le_of_ble_eq_true rfl, Nat.le_of_ble_eq_true rfl⟩ (Nat.le_of_ble_eq_true rfl) (fun r6 => ?_)
        refine jj_aload_n hk (pc := 90) dX6_often_90 2 rfl rfl ?_
        refine jm_g_s hk hK (pc := 91) dX6_often_91 ?_
        refine jj_bipush hk (pc := 94) (v := (7 : Int32)) dX6_often_94 (by decide) ?_
        refine jj_iload hk (pc := 96) dX6_often_96 0 rfl ?_
        refine jm_st hk hK (pc := 98) (by decide) dX6_often_98 (fun μ7 => ?_)
        refine jj_iinc hk (pc := 99) [(4, .int (x4 + 1)), (6, .int v5), (3, .int (x3 + (1 : Int32))), (0, .ref (gh G)), (1, .int x1), (2, .int x2), (5, .int x5)] dX6_often_99 5 rfl rfl (Nat.le_of_ble_eq_true rfl) rfl ?_
        refine jj_goto hk (pc := 102) 35 dX6_often_102 (by decide) ?_
        refine jj_loc [(0, .ref (gh G)), (1, .int x1), (2, .int x2), (3, .int (x3 + (1 : Int32))), (4, .int (x4 + 1))] [3, 4, 5, 2, 0] rfl ?_
        exact hk35 μ7 x1 x2 (x3 + (1 : Int32)) (x4 + 1)
    · refine jj_iload hk (pc := 51) dX6_often_51 5 rfl ?_
      refine jj_aload_n hk (pc := 53) dX6_often_53 0 rfl rfl ?_
      refine kc_m_byLot hk hK (pc := 54)  (fun r h => cc_m_byLot l G N μ r h) dX6_often_54 ⟨Nat.le_of_ble_eq_true rfl, Nat.le_of_ble_eq_true rfl⟩ (Nat.le_of_ble_eq_true rfl) (fun r8 => ?_)
      refine jj_iadd hk (pc := 57) dX6_often_57 ?_
      refine jj_istore hk (pc := 58) [(5, .int (x5 + r8.1)), (0, .ref (gh G)), (1, .int x1), (2, .int x2), (3, .int x3), (4, .int x4)] dX6_often_58 (Nat.le_of_ble_eq_true rfl) rfl ?_
      refine jj_goto hk (pc := 60) 44 dX6_often_60 (by decide) ?_
      refine jj_loc [(0, .ref (gh G)), (1, .int x1), (2, .int x2), (3, .int x3), (4, .int x4), (5, .int (x5 + r8.1))] [1, 2, 3, 4, 5, 0] rfl ?_
      exact ih r8.2 x1 x2 x3 x4 (x5 + r8.1)
set_option maxHeartbeats 4000000 in
theorem wb_m_often_L35 {res : (Int32 × MS)} (hk : jk p R s m args meth c (gn G) cX6_often 7 RX6 8 188 (some .int)) (hK : mK G s) (N : Nat) : ∀ (n : Nat) (μ : MS) (x1 : Int32) (x2 : Int32) (x3 : Int32) (x4 : Int32), jj p l e R s m args below meth c (gA G) (gn G) (jZ below args s (gA G) (gn G) (jU res) (mWo G) (mnx G)) (mWo G) (mnx G) 7 μ 35 [(0, .ref (gh G)), (1, .int x1), (2, .int x2), (3, .int x3), (4, .int x4)] [] (m_often_L35 N n μ x1 x2 x3 x4 = some res) := by
  intro n
  induction n with
  | zero => intro μ x1 x2 x3 x4; exact jj_eq (fun hz => by rw [m_often_L35] at hz; exact hz) jj_no
  | succ n ih =>
    intro μ x1 x2 x3 x4
    rw [m_often_L35]
    refine jj_iload hk (pc := 35) dX6_often_35 4 rfl ?_
    refine jj_iload_n hk (pc := 37) dX6_often_37 1 rfl rfl ?_
    refine jj_icmp_ge hk (pc := 38) 105 dX6_often_38 (by decide) ?_ ?_
    · refine jj_aload_n hk (pc := 105) dX6_often_105 0 rfl rfl ?_
      refine kc_m_putsBack hk hK (pc := 106)  (fun r h => cc_m_putsBack l G N μ r h) dX6_often_106 ⟨Nat.le_of_ble_eq_true rfl, Nat.le_of_ble_eq_true rfl⟩ (Nat.le_of_ble_eq_true rfl) (fun r1 => ?_)
      refine jj_iload_n hk (pc := 109) dX6_often_109 3 rfl rfl ?_
      exact jm_retUi hk (pc := 110) dX6_often_110
    · refine jj_iconst hk (pc := 41) (v := (0 : Int32)) dX6_often_41 (by decide) ?_
      refine jj_istore hk (pc := 42) [(5, .int (0 : Int32)), (0, .ref (gh G)), (1, .int x1), (2, .int x2), (3, .int x3), (4, .int x4)] dX6_often_42 (Nat.le_of_ble_eq_true rfl) rfl ?_
      refine jj_loc [(0, .ref (gh G)), (1, .int x1), (2, .int x2), (3, .int x3), (4, .int x4), (5, .int (0 : Int32))] [1, 2, 3, 4, 5, 0] rfl ?_
      exact wb_m_often_L44 hk hK N ih N μ x1 x2 x3 x4 (0 : Int32)
set_option maxHeartbeats 4000000 in
theorem cc_m_often (l : Launch) (G : jG) (N : Nat) (μ : MS) (a0 : Int32) (a1 : Int32) (res : (Int32 × MS)) (hf : m_often N μ a0 a1 = some res) : jM l yX6_often (ws_ yX6_often cX6_often 7 (some .int)) 8 188 [.ref (gh G), .int a0, .int a1] (mWo G) (mnx G) (mK G) μ (jU res) (gA G) (gn G) := by
  refine jj_start [(0, .ref (gh G)), (1, .int a0), (2, .int a1)] (by decide) (Nat.le_of_ble_eq_true rfl) rfl (fun p e R s m args below meth c hk hK hsz => ?_) hf
  have hk : jk p R s m args meth c (gn G) cX6_often 7 RX6 8 188 (some .int) := hk
  unfold m_often
  refine jj_iload_n hk (pc := 0) dX6_often_0 1 rfl rfl ?_
  refine jj_i2l hk (pc := 1) dX6_often_1 ?_
  refine jj_lconst hk (pc := 2) (v := (1 : Int64)) dX6_often_2 (by decide) ?_
  refine jj_ldc2_w hk (pc := 3) q1999 dX6_often_3 ?_
  refine kc_m_in hk hK (pc := 6) (a0 := a0.toInt64) (a1 := (1 : Int64)) (a2 := (40 : Int64)) (fun r h => cc_m_in l G μ a0.toInt64 (1 : Int64) (40 : Int64) r h) dX6_often_6 ⟨Nat.le_of_ble_eq_true rfl, Nat.le_of_ble_eq_true rfl⟩ (Nat.le_of_ble_eq_true rfl) (fun r1 => ?_)
  refine jj_if_eq_b hk (pc := 9) 24 dX6_often_9 (by decide) ?_ ?_
  · refine jj_iconst hk (pc := 24) (v := (-1 : Int32)) dX6_often_24 (by decide) ?_
    exact jm_retUi hk (pc := 25) dX6_often_25
  · refine jj_iload_n hk (pc := 12) dX6_often_12 2 rfl rfl ?_
    refine jj_i2l hk (pc := 13) dX6_often_13 ?_
    refine jj_lconst hk (pc := 14) (v := (0 : Int64)) dX6_often_14 (by decide) ?_
    refine jj_ldc2_w hk (pc := 15) q2000 dX6_often_15 ?_
    refine kc_m_in hk hK (pc := 18) (a0 := a1.toInt64) (a1 := (0 : Int64)) (a2 := (999 : Int64)) (fun r h => cc_m_in l G μ a1.toInt64 (0 : Int64) (999 : Int64) r h) dX6_often_18 ⟨Nat.le_of_ble_eq_true rfl, Nat.le_of_ble_eq_true rfl⟩ (Nat.le_of_ble_eq_true rfl) (fun r2 => ?_)
    refine jj_if_ne_b hk (pc := 21) 26 dX6_often_21 (by decide) ?_ ?_
    · refine jj_aload_n hk (pc := 26) dX6_often_26 0 rfl rfl ?_
      refine kc_m_puts hk hK (pc := 27)  (fun r h => cc_m_puts l G N μ r h) dX6_often_27 ⟨Nat.le_of_ble_eq_true rfl, Nat.le_of_ble_eq_true rfl⟩ (Nat.le_of_ble_eq_true rfl) (fun r3 => ?_)
      refine jj_iconst hk (pc := 30) (v := (0 : Int32)) dX6_often_30 (by decide) ?_
      refine jj_istore_n hk (pc := 31) [(3, .int (0 : Int32)), (0, .ref (gh G)), (1, .int a0), (2, .int a1)] dX6_often_31 rfl (Nat.le_of_ble_eq_true rfl) rfl ?_
      refine jj_iconst hk (pc := 32) (v := (0 : Int32)) dX6_often_32 (by decide) ?_
      refine jj_istore hk (pc := 33) [(4, .int (0 : Int32)), (3, .int (0 : Int32)), (0, .ref (gh G)), (1, .int a0), (2, .int a1)] dX6_often_33 (Nat.le_of_ble_eq_true rfl) rfl ?_
      refine jj_loc [(0, .ref (gh G)), (1, .int a0), (2, .int a1), (3, .int (0 : Int32)), (4, .int (0 : Int32))] [2, 3, 4, 1, 0] rfl ?_
      exact wb_m_often_L35 hk hK N N r3 a0 a1 (0 : Int32) (0 : Int32)
    · refine jj_iconst hk (pc := 24) (v := (-1 : Int32)) dX6_often_24 (by decide) ?_
      exact jm_retUi hk (pc := 25) dX6_often_25
end
