/-! THE MODEL's METHODS: contracts, printed by gen/gen.py -/
set_option maxRecDepth 100000
section
variable {p : Program} {l : Launch} {e : Env} {R : Room} {s : State} {m : MethodId} {args : Array Value} {below : List Frame} {meth : Method} {c : Code}
variable {G : jG}
set_option maxHeartbeats 4000000 in
theorem cc_m_state (l : Launch) (G : jG)  (μ : MS) (a0 : Int32) (res : Int32) (hf : m_state μ a0 = some res) : jM l yX6_state (ws_ yX6_state cX6_state 2 (some .int)) 1 20 [.ref (gh G), .int a0] (mWo G) (mnx G) (mK G) μ (jR μ res) (gA G) (gn G) := by
  refine jj_start [(0, .ref (gh G)), (1, .int a0)] (by decide) (Nat.le_of_ble_eq_true rfl) rfl (fun p e R s m args below meth c hk hK hsz => ?_) hf
  have hk : jk p R s m args meth c (gn G) cX6_state 2 RX6 1 20 (some .int) := hk
  unfold m_state
  refine jj_iload_n hk (pc := 0) dX6_state_0 1 rfl rfl ?_
  refine jj_ite (fun c_1_0 => ?_) (fun c_1_0 => ?_)
  · refine jj_tIn hk (pc := 1) (k := (0 : Int32)) (t := 0) 32 c_1_0 dX6_state_1 (by decide) rfl rfl (by decide) ?_
    refine jj_aload_n hk (pc := 32) dX6_state_32 0 rfl rfl ?_
    refine jm_g_s hk hK (pc := 33) dX6_state_33 ?_
    refine jj_iconst hk (pc := 36) (v := (3 : Int32)) dX6_state_36 (by decide) ?_
    refine jm_ld hk hK (pc := 37) (by decide) dX6_state_37 (fun v1 => ?_)
    exact jm_retRi hk (pc := 38) dX6_state_38
  refine jj_ite (fun c_1_1 => ?_) (fun c_1_1 => ?_)
  · refine jj_tIn hk (pc := 1) (k := (1 : Int32)) (t := 1) 39 c_1_1 dX6_state_1 (by decide) rfl rfl (by decide) ?_
    refine jj_aload_n hk (pc := 39) dX6_state_39 0 rfl rfl ?_
    refine jm_g_s hk hK (pc := 40) dX6_state_40 ?_
    refine jj_iconst hk (pc := 43) (v := (2 : Int32)) dX6_state_43 (by decide) ?_
    refine jm_ld hk hK (pc := 44) (by decide) dX6_state_44 (fun v2 => ?_)
    exact jm_retRi hk (pc := 45) dX6_state_45
  refine jj_ite (fun c_1_2 => ?_) (fun c_1_2 => ?_)
  · refine jj_tIn hk (pc := 1) (k := (2 : Int32)) (t := 2) 46 c_1_2 dX6_state_1 (by decide) rfl rfl (by decide) ?_
    refine jj_aload_n hk (pc := 46) dX6_state_46 0 rfl rfl ?_
    refine jm_g_s hk hK (pc := 47) dX6_state_47 ?_
    refine jj_iconst hk (pc := 50) (v := (4 : Int32)) dX6_state_50 (by decide) ?_
    refine jm_ld hk hK (pc := 51) (by decide) dX6_state_51 (fun v3 => ?_)
    exact jm_retRi hk (pc := 52) dX6_state_52
  refine jj_ite (fun c_1_3 => ?_) (fun c_1_3 => ?_)
  · refine jj_tIn hk (pc := 1) (k := (3 : Int32)) (t := 3) 53 c_1_3 dX6_state_1 (by decide) rfl rfl (by decide) ?_
    refine jj_aload_n hk (pc := 53) dX6_state_53 0 rfl rfl ?_
    refine kc_m_isOver hk hK (pc := 54)  (fun r h => cc_m_isOver l G μ r h) dX6_state_54 ⟨Nat.le_of_ble_eq_true rfl, Nat.le_of_ble_eq_true rfl⟩ (Nat.le_of_ble_eq_true rfl) (fun r4 => ?_)
    refine jj_if_eq_b hk (pc := 57) 64 dX6_state_57 (by decide) ?_ ?_
    · refine jj_iconst hk (pc := 64) (v := (0 : Int32)) dX6_state_64 (by decide) ?_
      exact jm_retRi hk (pc := 65) dX6_state_65
    · refine jj_iconst hk (pc := 60) (v := (1 : Int32)) dX6_state_60 (by decide) ?_
      refine jj_goto hk (pc := 61) 65 dX6_state_61 (by decide) ?_
      exact jm_retRi hk (pc := 65) dX6_state_65
  refine jj_tOut hk (pc := 1) 66 dX6_state_1 ?_ (by decide) ?_
  · have q0 := lv_neT (a := 0) c_1_0 (by decide); have q1 := lv_neT (a := 1) c_1_1 (by decide); have q2 := lv_neT (a := 2) c_1_2 (by decide); have q3 := lv_neT (a := 3) c_1_3 (by decide); omega
  refine jj_iconst hk (pc := 66) (v := (-1 : Int32)) dX6_state_66 (by decide) ?_
  exact jm_retRi hk (pc := 67) dX6_state_67
end
section
variable {p : Program} {l : Launch} {e : Env} {R : Room} {s : State} {m : MethodId} {args : Array Value} {below : List Frame} {meth : Method} {c : Code}
variable {G : jG}
set_option maxHeartbeats 4000000 in
theorem wb_m_undo_L13 {res : MS} (hk : jk p R s m args meth c (gn G) cX6_undo 5 RX6 2 43 none) (hK : mK G s) (N : Nat) : ∀ (n : Nat) (μ : MS) (x2 : Int32), jj p l e R s m args below meth c (gA G) (gn G) (jZ below args s (gA G) (gn G) (jV res) (mWo G) (mnx G)) (mWo G) (mnx G) 5 μ 13 [(0, .ref (gh G)), (2, .int x2)] [] (m_undo_L13 N n μ x2 = some res) := by
  intro n
  induction n with
  | zero => intro μ x2; exact jj_eq (fun hz => by rw [m_undo_L13] at hz; exact hz) jj_no
  | succ n ih =>
    intro μ x2
    rw [m_undo_L13]
    refine jj_iload_n hk (pc := 13) dX6_undo_13 1 rfl rfl ?_
    refine jj_aload_n hk (pc := 14) dX6_undo_14 0 rfl rfl ?_
    refine jm_g_s hk hK (pc := 15) dX6_undo_15 ?_
    refine jj_iconst hk (pc := 18) (v := (5 : Int32)) dX6_undo_18 (by decide) ?_
    refine jm_ld hk hK (pc := 19) (by decide) dX6_undo_19 (fun v1 => ?_)
    refine jj_icmp_ge hk (pc := 20) 102 dX6_undo_20 (by decide) ?_ ?_
    · exact jm_retV hk (pc := 102) dX6_undo_102
    · refine jj_aload_n hk (pc := 23) dX6_undo_23 0 rfl rfl ?_
      refine jj_iload_n hk (pc := 24) dX6_undo_24 1 rfl rfl ?_
      refine jj_iconst hk (pc := 25) (v := (3 : Int32)) dX6_undo_25 (by decide) ?_
      refine kc_m_deedIs hk hK (pc := 26) (a0 := x2) (a1 := (3 : Int32)) (fun r h => cc_m_deedIs l G μ x2 (3 : Int32) r h) dX6_undo_26 ⟨Nat.le_of_ble_eq_true rfl, Nat.le_of_ble_eq_true rfl⟩ (Nat.le_of_ble_eq_true rfl) (fun r2 => ?_)
      refine jj_istore_n hk (pc := 29) [(3, .int r2), (0, .ref (gh G)), (2, .int x2)] dX6_undo_29 rfl (Nat.le_of_ble_eq_true rfl) rfl ?_
      refine jj_aload_n hk (pc := 30) dX6_undo_30 1 rfl rfl ?_
      refine jj_iload_n hk (pc := 31) dX6_undo_31 2 rfl rfl ?_
      refine jj_iconst hk (pc := 32) (v := (4 : Int32)) dX6_undo_32 (by decide) ?_
      refine kc_m_deedIs hk hK (pc := 33) (a0 := x2) (a1 := (4 : Int32)) (fun r h => cc_m_deedIs l G μ x2 (4 : Int32) r h) dX6_undo_33 ⟨Nat.le_of_ble_eq_true rfl, Nat.le_of_ble_eq_true rfl⟩ (Nat.le_of_ble_eq_true rfl) (fun r3 => ?_)
      refine jj_iconst hk (pc := 36) (v := (1 : Int32)) dX6_undo_36 (by decide) ?_
      refine jj_icmp_ne hk (pc := 37) 68 dX6_undo_37 (by decide) ?_ ?_
      · refine jj_iconst hk (pc := 68) (v := (0 : Int32)) dX6_undo_68 (by decide) ?_
        refine jj_istore hk (pc := 69) [(4, .int (0 : Int32)), (3, .int r2), (0, .ref (gh G)), (2, .int x2)] dX6_undo_69 (Nat.le_of_ble_eq_true rfl) rfl ?_
        refine jj_aload_n hk (pc := 71) dX6_undo_71 2 rfl rfl ?_
        refine jm_g_s hk hK (pc := 72) dX6_undo_72 ?_
        refine jj_iload_n hk (pc := 75) dX6_undo_75 3 rfl rfl ?_
        refine jj_iconst hk (pc := 76) (v := (4 : Int32)) dX6_undo_76 (by decide) ?_
        refine kc_m_spot hk hK (pc := 77) (a0 := x2) (a1 := (4 : Int32)) (fun r h => cc_m_spot l G μ x2 (4 : Int32) r h) dX6_undo_77 ⟨Nat.le_of_ble_eq_true rfl, Nat.le_of_ble_eq_true rfl⟩ (Nat.le_of_ble_eq_true rfl) (fun r4 => ?_)
        refine jj_iload hk (pc := 80) dX6_undo_80 0 rfl ?_
        refine jj_if_eq_T hk (pc := 82) 89 dX6_undo_82 (by decide) (by decide) ?_
        refine jj_aload_n hk (pc := 89) dX6_undo_89 2 rfl rfl ?_
        refine jj_iload_n hk (pc := 90) dX6_undo_90 3 rfl rfl ?_
        refine jj_iconst hk (pc := 91) (v := (4 : Int32)) dX6_undo_91 (by decide) ?_
        refine kc_m_deedIs hk hK (pc := 92) (a0 := x2) (a1 := (4 : Int32)) (fun r h => cc_m_deedIs l G μ x2 (4 : Int32) r h) dX6_undo_92 ⟨Nat.le_of_ble_eq_true rfl, Nat.le_of_ble_eq_true rfl⟩ (Nat.le_of_ble_eq_true rfl) (fun r5 => ?_)
        refine jm_st hk hK (pc := 95) (by decide) dX6_undo_95 (fun μ6 => ?_)
        refine jj_iinc hk (pc := 96) [(2, .int (x2 + 1)), (4, .int (0 : Int32)), (3, .int r2), (0, .ref (gh G))] dX6_undo_96 3 rfl rfl (Nat.le_of_ble_eq_true rfl) rfl ?_
        refine jj_goto hk (pc := 99) 13 dX6_undo_99 (by decide) ?_
        refine jj_loc [(0, .ref (gh G)), (2, .int (x2 + 1))] [3, 0] rfl ?_
        exact ih μ6 (x2 + 1)
      · refine jj_iload_n hk (pc := 40) dX6_undo_40 0 rfl rfl ?_
        refine jj_if_lt hk (pc := 41) 68 dX6_undo_41 (by decide) ?_ ?_
        · refine jj_iconst hk (pc := 68) (v := (0 : Int32)) dX6_undo_68 (by decide) ?_
          refine jj_istore hk (pc := 69) [(4, .int (0 : Int32)), (3, .int r2), (0, .ref (gh G)), (2, .int x2)] dX6_undo_69 (Nat.le_of_ble_eq_true rfl) rfl ?_
          refine jj_aload_n hk (pc := 71) dX6_undo_71 2 rfl rfl ?_
          refine jm_g_s hk hK (pc := 72) dX6_undo_72 ?_
          refine jj_iload_n hk (pc := 75) dX6_undo_75 3 rfl rfl ?_
          refine jj_iconst hk (pc := 76) (v := (4 : Int32)) dX6_undo_76 (by decide) ?_
          refine kc_m_spot hk hK (pc := 77) (a0 := x2) (a1 := (4 : Int32)) (fun r h => cc_m_spot l G μ x2 (4 : Int32) r h) dX6_undo_77 ⟨Nat.le_of_ble_eq_true rfl, Nat.le_of_ble_eq_true rfl⟩ (Nat.le_of_ble_eq_true rfl) (fun r7 => ?_)
          refine jj_iload hk (pc := 80) dX6_undo_80 0 rfl ?_
          refine jj_if_eq_T hk (pc := 82) 89 dX6_undo_82 (by decide) (by decide) ?_
          refine jj_aload_n hk (pc := 89) dX6_undo_89 2 rfl rfl ?_
          refine jj_iload_n hk (pc := 90) dX6_undo_90 3 rfl rfl ?_
          refine jj_iconst hk (pc := 91) (v := (4 : Int32)) dX6_undo_91 (by decide) ?_
          refine kc_m_deedIs hk hK (pc := 92) (a0 := x2) (a1 := (4 : Int32)) (fun r h => cc_m_deedIs l G μ x2 (4 : Int32) r h) dX6_undo_92 ⟨Nat.le_of_ble_eq_true rfl, Nat.le_of_ble_eq_true rfl⟩ (Nat.le_of_ble_eq_true rfl) (fun r8 => ?_)
          refine jm_st hk hK (pc := 95) (by decide) dX6_undo_95 (fun μ9 => ?_)
          refine jj_iinc hk (pc := 96) [(2, .int (x2 + 1)), (4, .int (0 : Int32)), (3, .int r2), (0, .ref (gh G))] dX6_undo_96 3 rfl rfl (Nat.le_of_ble_eq_true rfl) rfl ?_
          refine jj_goto hk (pc := 99) 13 dX6_undo_99 (by decide) ?_
          refine jj_loc [(0, .ref (gh G)), (2, .int (x2 + 1))] [3, 0] rfl ?_
          exact ih μ9 (x2 + 1)
        · refine jj_aload_n hk (pc := 44) dX6_undo_44 1 rfl rfl ?_
          refine jj_iload_n hk (pc := 45) dX6_undo_45 0 rfl rfl ?_
          refine jj_iconst hk (pc := 46) (v := (4 : Int32)) dX6_undo_46 (by decide) ?_
          refine kc_m_deedIs hk hK (pc := 47) (a0 := r2) (a1 := (4 : Int32)) (fun r h => cc_m_deedIs l G μ r2 (4 : Int32) r h) dX6_undo_47 ⟨Nat.le_of_ble_eq_true rfl, Nat.le_of_ble_eq_true rfl⟩ (Nat.le_of_ble_eq_true rfl) (fun r10 => ?_)
          refine jj_iconst hk (pc := 50) (v := (2 : Int32)) dX6_undo_50 (by decide) ?_
          refine jj_icmp_eq hk (pc := 51) 64 dX6_undo_51 (by decide) ?_ ?_
          · refine jj_iconst hk (pc := 64) (v := (1 : Int32)) dX6_undo_64 (by decide) ?_
            refine jj_goto hk (pc := 65) 69 dX6_undo_65 (by decide) ?_
            refine jj_istore hk (pc := 69) [(4, .int (1 : Int32)), (3, .int r2), (0, .ref (gh G)), (2, .int x2)] dX6_undo_69 (Nat.le_of_ble_eq_true rfl) rfl ?_
            refine jj_aload_n hk (pc := 71) dX6_undo_71 2 rfl rfl ?_
            refine jm_g_s hk hK (pc := 72) dX6_undo_72 ?_
            refine jj_iload_n hk (pc := 75) dX6_undo_75 3 rfl rfl ?_
            refine jj_iconst hk (pc := 76) (v := (4 : Int32)) dX6_undo_76 (by decide) ?_
            refine kc_m_spot hk hK (pc := 77) (a0 := x2) (a1 := (4 : Int32)) (fun r h => cc_m_spot l G μ x2 (4 : Int32) r h) dX6_undo_77 ⟨Nat.le_of_ble_eq_true rfl, Nat.le_of_ble_eq_true rfl⟩ (Nat.le_of_ble_eq_true rfl) (fun r11 => ?_)
            refine jj_iload hk (pc := 80) dX6_undo_80 0 rfl ?_
            refine jj_if_eq_F hk (pc := 82) dX6_undo_82 89 (by decide) (by decide) ?_
            refine jj_iconst hk (pc := 85) (v := (3 : Int32)) dX6_undo_85 (by decide) ?_
            refine jj_goto hk (pc := 86) 95 dX6_undo_86 (by decide) ?_
            refine jm_st hk hK (pc := 95) (by decide) dX6_undo_95 (fun μ12 => ?_)
            refine jj_iinc hk (pc := 96) [(2, .int (x2 + 1)), (4, .int (1 : Int32)), (3, .int r2), (0, .ref (gh G))] dX6_undo_96 3 rfl rfl (Nat.le_of_ble_eq_true rfl) rfl ?_
            refine jj_goto hk (pc := 99) 13 dX6_undo_99 (by decide) ?_
            refine jj_loc [(0, .ref (gh G)), (2, .int (x2 + 1))] [3, 0] rfl ?_
            exact ih μ12 (x2 + 1)
          · refine jj_aload_n hk (pc := 54) dX6_undo_54 1 rfl rfl ?_
            refine jj_iload_n hk (pc := 55) dX6_undo_55 0 rfl rfl ?_
            refine jj_iconst hk (pc := 56) (v := (4 : Int32)) dX6_undo_56 (by decide) ?_
            refine kc_m_deedIs hk hK (pc := 57) (a0 := r2) (a1 := (4 : Int32)) (fun r h => cc_m_deedIs l G μ r2 (4 : Int32) r h) dX6_undo_57 ⟨Nat.le_of_ble_eq_true rfl, Nat.le_of_ble_eq_true rfl⟩ (Nat.le_of_ble_eq_true rfl) (fun r13 => ?_)
            refine jj_iconst hk (pc := 60) (v := (3 : Int32)) dX6_undo_60 (by decide) ?_
            refine jj_icmp_ne hk (pc := 61) 68 dX6_undo_61 (by decide) ?_ ?_
            · refine jj_iconst hk (pc := 68) (v := (0 : Int32)) dX6_undo_68 (by decide) ?_
              refine jj_istore hk (pc := 69) [(4, .int (0 : Int32)), (3, .int r2), (0, .ref (gh G)), (2, .int x2)] dX6_undo_69 (Nat.le_of_ble_eq_true rfl) rfl ?_
              refine jj_aload_n hk (pc := 71) dX6_undo_71 2 rfl rfl ?_
              refine jm_g_s hk hK (pc := 72) dX6_undo_72 ?_
              refine jj_iload_n hk (pc := 75) dX6_undo_75 3 rfl rfl ?_
              refine jj_iconst hk (pc := 76) (v := (4 : Int32)) dX6_undo_76 (by decide) ?_
              refine kc_m_spot hk hK (pc := 77) (a0 := x2) (a1 := (4 : Int32)) (fun r h => cc_m_spot l G μ x2 (4 : Int32) r h) dX6_undo_77 ⟨Nat.le_of_ble_eq_true rfl, Nat.le_of_ble_eq_true rfl⟩ (Nat.le_of_ble_eq_true rfl) (fun r14 => ?_)
              refine jj_iload hk (pc := 80) dX6_undo_80 0 rfl ?_
              refine jj_if_eq_T hk (pc := 82) 89 dX6_undo_82 (by decide) (by decide) ?_
              refine jj_aload_n hk (pc := 89) dX6_undo_89 2 rfl rfl ?_
              refine jj_iload_n hk (pc := 90) dX6_undo_90 3 rfl rfl ?_
              refine jj_iconst hk (pc := 91) (v := (4 : Int32)) dX6_undo_91 (by decide) ?_
              refine kc_m_deedIs hk hK (pc := 92) (a0 := x2) (a1 := (4 : Int32)) (fun r h => cc_m_deedIs l G μ x2 (4 : Int32) r h) dX6_undo_92 ⟨Nat.le_of_ble_eq_true rfl, Nat.le_of_ble_eq_true rfl⟩ (Nat.le_of_ble_eq_true rfl) (fun r15 => ?_)
              refine jm_st hk hK (pc := 95) (by decide) dX6_undo_95 (fun μ16 => ?_)
              refine jj_iinc hk (pc := 96) [(2, .int (x2 + 1)), (4, .int (0 : Int32)), (3, .int r2), (0, .ref (gh G))] dX6_undo_96 3 rfl rfl (Nat.le_of_ble_eq_true rfl) rfl ?_
              refine jj_goto hk (pc := 99) 13 dX6_undo_99 (by decide) ?_
              refine jj_loc [(0, .ref (gh G)), (2, .int (x2 + 1))] [3, 0] rfl ?_
              exact ih μ16 (x2 + 1)
            · refine jj_iconst hk (pc := 64) (v := (1 : Int32)) dX6_undo_64 (by decide) ?_
              refine jj_goto hk (pc := 65) 69 dX6_undo_65 (by decide) ?_
              refine jj_istore hk (pc := 69) [(4, .int (1 : Int32)), (3, .int r2), (0, .ref (gh G)), (2, .int x2)] dX6_undo_69 (Nat.le_of_ble_eq_true rfl) rfl ?_
              refine jj_aload_n hk (pc := 71) dX6_undo_71 2 rfl rfl ?_
              refine jm_g_s hk hK (pc := 72) dX6_undo_72 ?_
              refine jj_iload_n hk (pc := 75) dX6_undo_75 3 rfl rfl ?_
              refine jj_iconst hk (pc := 76) (v := (4 : Int32)) dX6_undo_76 (by decide) ?_
              refine kc_m_spot hk hK (pc := 77) (a0 := x2) (a1 := (4 : Int32)) (fun r h => cc_m_spot l G μ x2 (4 : Int32) r h) dX6_undo_77 ⟨Nat.le_of_ble_eq_true rfl, Nat.le_of_ble_eq_true rfl⟩ (Nat.le_of_ble_eq_true rfl) (fun r17 => ?_)
              refine jj_iload hk (pc := 80) dX6_undo_80 0 rfl ?_
              refine jj_if_eq_F hk (pc := 82) dX6_undo_82 89 (by decide) (by decide) ?_
              refine jj_iconst hk (pc := 85) (v := (3 : Int32)) dX6_undo_85 (by decide) ?_
              refine jj_goto hk (pc := 86) 95 dX6_undo_86 (by decide) ?_
              refine jm_st hk hK (pc := 95) (by decide) dX6_undo_95 (fun μ18 => ?_)
              refine jj_iinc hk (pc := 96) [(2, .int (x2 + 1)), (4, .int (1 : Int32)), (3, .int r2), (0, .ref (gh G))] dX6_undo_96 3 rfl rfl (Nat.le_of_ble_eq_true rfl) rfl ?_
              refine jj_goto hk (pc := 99) 13 dX6_undo_99 (by decide) ?_
              refine jj_loc [(0, .ref (gh G)), (2, .int (x2 + 1))] [3, 0] rfl ?_
              exact ih μ18 (x2 + 1)
set_option maxHeartbeats 4000000 in
theorem cc_m_undo (l : Launch) (G : jG) (N : Nat) (μ : MS) (a0 : Int32) (res : MS) (hf : m_undo N μ a0 = some res) : jM l yX6_undo (ws_ yX6_undo cX6_undo 5 none) 2 43 [.ref (gh G), .int a0] (mWo G) (mnx G) (mK G) μ (jV res) (gA G) (gn G) := by
  refine jj_start [(0, .ref (gh G)), (1, .int a0)] (by decide) (Nat.le_of_ble_eq_true rfl) rfl (fun p e R s m args below meth c hk hK hsz => ?_) hf
  have hk : jk p R s m args meth c (gn G) cX6_undo 5 RX6 2 43 none := hk
  unfold m_undo
  refine jj_aload_n hk (pc := 0) dX6_undo_0 0 rfl rfl ?_
  refine jm_g_s hk hK (pc := 1) dX6_undo_1 ?_
  refine jj_iload_n hk (pc := 4) dX6_undo_4 1 rfl rfl ?_
  refine jj_iconst hk (pc := 5) (v := (4 : Int32)) dX6_undo_5 (by decide) ?_
  refine kc_m_spot hk hK (pc := 6) (a0 := a0) (a1 := (4 : Int32)) (fun r h => cc_m_spot l G μ a0 (4 : Int32) r h) dX6_undo_6 ⟨Nat.le_of_ble_eq_true rfl, Nat.le_of_ble_eq_true rfl⟩ (Nat.le_of_ble_eq_true rfl) (fun r1 => ?_)
  refine jj_iconst hk (pc := 9) (v := (2 : Int32)) dX6_undo_9 (by decide) ?_
  refine jm_st hk hK (pc := 10) (by decide) dX6_undo_10 (fun μ2 => ?_)
  refine jj_iconst hk (pc := 11) (v := (0 : Int32)) dX6_undo_11 (by decide) ?_
  refine jj_istore_n hk (pc := 12) [(2, .int (0 : Int32)), (0, .ref (gh G)), (1, .int a0)] dX6_undo_12 rfl (Nat.le_of_ble_eq_true rfl) rfl ?_
  refine jj_loc [(0, .ref (gh G)), (2, .int (0 : Int32))] [1, 0] rfl ?_
  exact wb_m_undo_L13 hk hK N N μ2 (0 : Int32)
end
section
variable {p : Program} {l : Launch} {e : Env} {R : Room} {s : State} {m : MethodId} {args : Array Value} {below : List Frame} {meth : Method} {c : Code}
variable {G : jG}
variable {NX : Nat} {Q : State → Prop} {nL : Nat} {cc : ByteArray} {fr lo frc loc : Nat} {ret : Option FieldType}
variable {pc : Nat} {μ : MS} {lv : List (Nat × Value)} {st : List Value} {ρ : Type} {res : ρ}
theorem kc_m_undo (hk : jk p R s m args meth c NX cc nL RX6 fr lo ret) (hK : mK G s) {a0 : Int32} {F : Option MS} {K : MS → Option ρ} (hM : ∀ r, F = some r → jM l yX6_undo (ws_ yX6_undo cX6_undo 5 none) frc loc [.ref (gh G), .int a0] (mWo G) (mnx G) (mK G) μ (jV r) (gA G) (gn G)) (hd : decode cc pc = .ok (.invokevirtual 142, 3)) (hr : frc + 1 ≤ fr ∧ 8 + (5 + 11) + loc ≤ lo) (hw : (st.map fun v => v.category).sum ≤ 8) (kk : ∀ r, jj p l e R s m args below meth c (gA G) NX Q (mWo G) (mnx G) nL r (pc + 3) lv st (K r = some res)) : jj p l e R s m args below meth c (gA G) NX Q (mWo G) (mnx G) nL μ pc lv (.int a0 :: .ref (gh G) :: st) (F.bind K = some res) :=
  jm_VV (n := 1) hk hK [.int a0] hM (lw_V q1795 q1797 qs67 q127 q1798) (by decide +kernel) rfl rfl hd hr hw kk
end
section
variable {p : Program} {l : Launch} {e : Env} {R : Room} {s : State} {m : MethodId} {args : Array Value} {below : List Frame} {meth : Method} {c : Code}
variable {G : jG}
set_option maxHeartbeats 4000000 in
theorem wb_m_goes_L138 {res : (Int32 × MS)} (hk : jk p R s m args meth c (gn G) cX6_goes 5 RX6 6 144 (some .int)) (hK : mK G s) (N : Nat) : ∀ (n : Nat) (μ : MS) (x2 : Int32) (x3 : Int32) (x4 : Int32), jj p l e R s m args below meth c (gA G) (gn G) (jZ below args s (gA G) (gn G) (jU res) (mWo G) (mnx G)) (mWo G) (mnx G) 5 μ 138 [(0, .ref (gh G)), (2, .int x2), (3, .int x3), (4, .int x4)] [] (m_goes_L138 N n μ x2 x3 x4 = some res) := by
  intro n
  induction n with
  | zero => intro μ x2 x3 x4; exact jj_eq (fun hz => by rw [m_goes_L138] at hz; exact hz) jj_no
  | succ n ih =>
    intro μ x2 x3 x4
    rw [m_goes_L138]
    refine jj_iload hk (pc := 138) dX6_goes_138 3 rfl ?_
    refine jj_aload_n hk (pc := 140) dX6_goes_140 0 rfl rfl ?_
    refine jm_g_s hk hK (pc := 141) dX6_goes_141 ?_
    refine jj_iconst hk (pc := 144) (v := (5 : Int32)) dX6_goes_144 (by decide) ?_
    refine jm_ld hk hK (pc := 145) (by decide) dX6_goes_145 (fun v1 => ?_)
    refine jj_icmp_ge hk (pc := 146) 190 dX6_goes_146 (by decide) ?_ ?_
    · refine jj_aload_n hk (pc := 190) dX6_goes_190 0 rfl rfl ?_
      refine jm_g_s hk hK (pc := 191) dX6_goes_191 ?_
      refine jj_iconst hk (pc := 194) (v := (4 : Int32)) dX6_goes_194 (by decide) ?_
      refine jj_dup2 hk (pc := 195) dX6_goes_195 rfl rfl ?_
      refine jm_ld hk hK (pc := 196) (by decide) dX6_goes_196 (fun v2 => ?_)
      refine jj_iload_n hk (pc := 197) dX6_goes_197 2 rfl rfl ?_
      refine jj_iadd hk (pc := 198) dX6_goes_198 ?_
      refine jm_st hk hK (pc := 199) (by decide) dX6_goes_199 (fun μ3 => ?_)
      refine jj_aload_n hk (pc := 200) dX6_goes_200 0 rfl rfl ?_
      refine jm_g_s hk hK (pc := 201) dX6_goes_201 ?_
      refine jj_iconst hk (pc := 204) (v := (3 : Int32)) dX6_goes_204 (by decide) ?_
      refine jj_dup2 hk (pc := 205) dX6_goes_205 rfl rfl ?_
      refine jm_ld hk hK (pc := 206) (by decide) dX6_goes_206 (fun v4 => ?_)
      refine jj_iconst hk (pc := 207) (v := (1 : Int32)) dX6_goes_207 (by decide) ?_
      refine jj_iadd hk (pc := 208) dX6_goes_208 ?_
      refine jm_st hk hK (pc := 209) (by decide) dX6_goes_209 (fun μ5 => ?_)
      refine jj_iload_n hk (pc := 210) dX6_goes_210 2 rfl rfl ?_
      exact jm_retUi hk (pc := 211) dX6_goes_211
    · refine jj_iload_n hk (pc := 149) dX6_goes_149 2 rfl rfl ?_
      refine jj_aload_n hk (pc := 150) dX6_goes_150 0 rfl rfl ?_
      refine jj_iload hk (pc := 151) dX6_goes_151 3 rfl ?_
      refine jj_iconst hk (pc := 153) (v := (4 : Int32)) dX6_goes_153 (by decide) ?_
      refine kc_m_deedIs hk hK (pc := 154) (a0 := x4) (a1 := (4 : Int32)) (fun r h => cc_m_deedIs l G μ x4 (4 : Int32) r h) dX6_goes_154 ⟨Nat.le_of_ble_eq_true rfl, Nat.le_of_ble_eq_true rfl⟩ (Nat.le_of_ble_eq_true rfl) (fun r6 => ?_)
      refine jj_iconst hk (pc := 157) (v := (1 : Int32)) dX6_goes_157 (by decide) ?_
      refine jj_icmp_ne hk (pc := 158) 181 dX6_goes_158 (by decide) ?_ ?_
      · refine jj_iconst hk (pc := 181) (v := (0 : Int32)) dX6_goes_181 (by decide) ?_
        refine jj_iadd hk (pc := 182) dX6_goes_182 ?_
        refine jj_istore_n hk (pc := 183) [(3, .int (x3 + (0 : Int32))), (0, .ref (gh G)), (2, .int x2), (4, .int x4)] dX6_goes_183 rfl (Nat.le_of_ble_eq_true rfl) rfl ?_
        refine jj_iinc hk (pc := 184) [(4, .int (x4 + 1)), (3, .int (x3 + (0 : Int32))), (0, .ref (gh G)), (2, .int x2)] dX6_goes_184 3 rfl rfl (Nat.le_of_ble_eq_true rfl) rfl ?_
        refine jj_goto hk (pc := 187) 138 dX6_goes_187 (by decide) ?_
        refine jj_loc [(0, .ref (gh G)), (2, .int x2), (3, .int (x3 + (0 : Int32))), (4, .int (x4 + 1))] [2, 3, 1, 0] rfl ?_
        exact ih μ x2 (x3 + (0 : Int32)) (x4 + 1)
      · refine jj_aload_n hk (pc := 161) dX6_goes_161 0 rfl rfl ?_
        refine jj_iload hk (pc := 162) dX6_goes_162 3 rfl ?_
        refine kc_m_due hk hK (pc := 164) (a0 := x4) (fun r h => cc_m_due l G μ x4 r h) dX6_goes_164 ⟨Nat.le_of_ble_eq_true rfl, Nat.le_of_ble_eq_true rfl⟩ (Nat.le_of_ble_eq_true rfl) (fun r7 => ?_)
        refine jj_iload_n hk (pc := 167) dX6_goes_167 1 rfl rfl ?_
        refine jj_icmp_lt hk (pc := 168) 181 dX6_goes_168 (by decide) ?_ ?_
        · refine jj_iconst hk (pc := 181) (v := (0 : Int32)) dX6_goes_181 (by decide) ?_
          refine jj_iadd hk (pc := 182) dX6_goes_182 ?_
          refine jj_istore_n hk (pc := 183) [(3, .int (x3 + (0 : Int32))), (0, .ref (gh G)), (2, .int x2), (4, .int x4)] dX6_goes_183 rfl (Nat.le_of_ble_eq_true rfl) rfl ?_
          refine jj_iinc hk (pc := 184) [(4, .int (x4 + 1)), (3, .int (x3 + (0 : Int32))), (0, .ref (gh G)), (2, .int x2)] dX6_goes_184 3 rfl rfl (Nat.le_of_ble_eq_true rfl) rfl ?_
          refine jj_goto hk (pc := 187) 138 dX6_goes_187 (by decide) ?_
          refine jj_loc [(0, .ref (gh G)), (2, .int x2), (3, .int (x3 + (0 : Int32))), (4, .int (x4 + 1))] [2, 3, 1, 0] rfl ?_
          exact ih μ x2 (x3 + (0 : Int32)) (x4 + 1)
        · refine jj_aload_n hk (pc := 171) dX6_goes_171 0 rfl rfl ?_
          refine jj_iload hk (pc := 172) dX6_goes_172 3 rfl ?_
          refine jj_iconst hk (pc := 174) (v := (2 : Int32)) dX6_goes_174 (by decide) ?_
          refine kc_m_deedIs hk hK (pc := 175) (a0 := x4) (a1 := (2 : Int32)) (fun r h => cc_m_deedIs l G μ x4 (2 : Int32) r h) dX6_goes_175 ⟨Nat.le_of_ble_eq_true rfl, Nat.le_of_ble_eq_true rfl⟩ (Nat.le_of_ble_eq_true rfl) (fun r8 => ?_)
          refine jj_goto hk (pc := 178) 182 dX6_goes_178 (by decide) ?_
          refine jj_iadd hk (pc := 182) dX6_goes_182 ?_
          refine jj_istore_n hk (pc := 183) [(3, .int (x3 + r8)), (0, .ref (gh G)), (2, .int x2), (4, .int x4)] dX6_goes_183 rfl (Nat.le_of_ble_eq_true rfl) rfl ?_
          refine jj_iinc hk (pc := 184) [(4, .int (x4 + 1)), (3, .int (x3 + r8)), (0, .ref (gh G)), (2, .int x2)] dX6_goes_184 3 rfl rfl (Nat.le_of_ble_eq_true rfl) rfl ?_
          refine jj_goto hk (pc := 187) 138 dX6_goes_187 (by decide) ?_
          refine jj_loc [(0, .ref (gh G)), (2, .int x2), (3, .int (x3 + r8)), (4, .int (x4 + 1))] [2, 3, 1, 0] rfl ?_
          exact ih μ x2 (x3 + r8) (x4 + 1)
set_option maxHeartbeats 4000000 in
theorem wb_m_goes_L85 {res : (Int32 × MS)} (hk : jk p R s m args meth c (gn G) cX6_goes 5 RX6 6 144 (some .int)) (hK : mK G s) (N : Nat) : ∀ (n : Nat) (μ : MS) (x1 : Int32) (x2 : Int32) (x3 : Int32), jj p l e R s m args below meth c (gA G) (gn G) (jZ below args s (gA G) (gn G) (jU res) (mWo G) (mnx G)) (mWo G) (mnx G) 5 μ 85 [(0, .ref (gh G)), (1, .int x1), (2, .int x2), (3, .int x3)] [] (m_goes_L85 N n μ x1 x2 x3 = some res) := by
  intro n
  induction n with
  | zero => intro μ x1 x2 x3; exact jj_eq (fun hz => by rw [m_goes_L85] at hz; exact hz) jj_no
  | succ n ih =>
    intro μ x1 x2 x3
    rw [m_goes_L85]
    refine jj_iload_n hk (pc := 85) dX6_goes_85 3 rfl rfl ?_
    refine jj_aload_n hk (pc := 86) dX6_goes_86 0 rfl rfl ?_
    refine jm_g_s hk hK (pc := 87) dX6_goes_87 ?_
    refine jj_iconst hk (pc := 90) (v := (0 : Int32)) dX6_goes_90 (by decide) ?_
    refine jm_ld hk hK (pc := 91) (by decide) dX6_goes_91 (fun v1 => ?_)
    refine jj_icmp_ge hk (pc := 92) 133 dX6_goes_92 (by decide) ?_ ?_
    · refine jj_iconst hk (pc := 133) (v := (0 : Int32)) dX6_goes_133 (by decide) ?_
      refine jj_istore_n hk (pc := 134) [(3, .int (0 : Int32)), (0, .ref (gh G)), (1, .int x1), (2, .int x2)] dX6_goes_134 rfl (Nat.le_of_ble_eq_true rfl) rfl ?_
      refine jj_iconst hk (pc := 135) (v := (0 : Int32)) dX6_goes_135 (by decide) ?_
      refine jj_istore hk (pc := 136) [(4, .int (0 : Int32)), (3, .int (0 : Int32)), (0, .ref (gh G)), (1, .int x1), (2, .int x2)] dX6_goes_136 (Nat.le_of_ble_eq_true rfl) rfl ?_
      refine jj_loc [(0, .ref (gh G)), (2, .int x2), (3, .int (0 : Int32)), (4, .int (0 : Int32))] [2, 4, 1, 0] rfl ?_
      exact wb_m_goes_L138 hk hK N N μ x2 (0 : Int32) (0 : Int32)
    · refine jj_iload_n hk (pc := 95) dX6_goes_95 3 rfl rfl ?_
      refine jj_iconst hk (pc := 96) (v := (1 : Int32)) dX6_goes_96 (by decide) ?_
      refine jj_iadd hk (pc := 97) dX6_goes_97 ?_
      refine jj_iload_n hk (pc := 98) dX6_goes_98 1 rfl rfl ?_
      refine jj_icmp_ne hk (pc := 99) 107 dX6_goes_99 (by decide) ?_ ?_
      · refine jj_aload_n hk (pc := 107) dX6_goes_107 0 rfl rfl ?_
        refine jj_iload_n hk (pc := 108) dX6_goes_108 3 rfl rfl ?_
        refine kc_m_choice hk hK (pc := 109) (a0 := x3) (fun r h => cc_m_choice l G N μ x3 r h) dX6_goes_109 ⟨Nat.le_of_ble_eq_true rfl, Nat.le_of_ble_eq_true rfl⟩ (Nat.le_of_ble_eq_true rfl) (fun r2 => ?_)
        refine jj_istore hk (pc := 112) [(4, .int r2.1), (0, .ref (gh G)), (1, .int x1), (2, .int x2), (3, .int x3)] dX6_goes_112 (Nat.le_of_ble_eq_true rfl) rfl ?_
        refine jj_iload hk (pc := 114) dX6_goes_114 0 rfl ?_
        refine jj_bipush hk (pc := 116) (v := (10 : Int32)) dX6_goes_116 (by decide) ?_
        refine jj_icmp_eq hk (pc := 118) 127 dX6_goes_118 (by decide) ?_ ?_
        · refine jj_iinc hk (pc := 127) [(3, .int (x3 + 1)), (4, .int r2.1), (0, .ref (gh G)), (1, .int x1), (2, .int x2)] dX6_goes_127 4 rfl rfl (Nat.le_of_ble_eq_true rfl) rfl ?_
          refine jj_goto hk (pc := 130) 85 dX6_goes_130 (by decide) ?_
          refine jj_loc [(0, .ref (gh G)), (1, .int x1), (2, .int x2), (3, .int (x3 + 1))] [2, 3, 4, 0] rfl ?_
          exact ih r2.2 x1 x2 (x3 + 1)
        · refine jj_aload_n hk (pc := 121) dX6_goes_121 1 rfl rfl ?_
          refine jj_iload hk (pc := 122) dX6_goes_122 0 rfl ?_
          refine kc_m_undo hk hK (pc := 124) (a0 := r2.1) (fun r h => cc_m_undo l G N r2.2 r2.1 r h) dX6_goes_124 ⟨Nat.le_of_ble_eq_true rfl, Nat.le_of_ble_eq_true rfl⟩ (Nat.le_of_ble_eq_true rfl) (fun r3 => ?_)
          refine jj_iinc hk (pc := 127) [(3, .int (x3 + 1)), (4, .int r2.1), (0, .ref (gh G)), (1, .int x1), (2, .int x2)] dX6_goes_127 4 rfl rfl (Nat.le_of_ble_eq_true rfl) rfl ?_
          refine jj_goto hk (pc := 130) 85 dX6_goes_130 (by decide) ?_
          refine jj_loc [(0, .ref (gh G)), (1, .int x1), (2, .int x2), (3, .int (x3 + 1))] [2, 3, 4, 0] rfl ?_
          exact ih r3 x1 x2 (x3 + 1)
      · refine jj_bipush hk (pc := 102) (v := (10 : Int32)) dX6_goes_102 (by decide) ?_
        refine jj_goto hk (pc := 104) 112 dX6_goes_104 (by decide) ?_
        refine jj_istore hk (pc := 112) [(4, .int (10 : Int32)), (0, .ref (gh G)), (1, .int x1), (2, .int x2), (3, .int x3)] dX6_goes_112 (Nat.le_of_ble_eq_true rfl) rfl ?_
        refine jj_iload hk (pc := 114) dX6_goes_114 0 rfl ?_
        refine jj_bipush hk (pc := 116) (v := (10 : Int32)) dX6_goes_116 (by decide) ?_
        refine jj_icmp_eq_T hk (pc := 118) 127 dX6_goes_118 (by decide) (by decide) ?_
        refine jj_iinc hk (pc := 127) [(3, .int (x3 + 1)), (4, .int (10 : Int32)), (0, .ref (gh G)), (1, .int x1), (2, .int x2)] dX6_goes_127 4 rfl rfl (Nat.le_of_ble_eq_true rfl) rfl ?_
        refine jj_goto hk (pc := 130) 85 dX6_goes_130 (by decide) ?_
        refine jj_loc [(0, .ref (gh G)), (1, .int x1), (2, .int x2), (3, .int (x3 + 1))] [2, 3, 4, 0] rfl ?_
        exact ih μ x1 x2 (x3 + 1)
set_option maxHeartbeats 4000000 in
theorem wb_m_goes_L9 {res : (Int32 × MS)} (hk : jk p R s m args meth c (gn G) cX6_goes 5 RX6 6 144 (some .int)) (hK : mK G s) (N : Nat) : ∀ (n : Nat) (μ : MS) (x1 : Int32) (x2 : Int32) (x3 : Int32), jj p l e R s m args below meth c (gA G) (gn G) (jZ below args s (gA G) (gn G) (jU res) (mWo G) (mnx G)) (mWo G) (mnx G) 5 μ 9 [(0, .ref (gh G)), (1, .int x1), (2, .int x2), (3, .int x3)] [] (m_goes_L9 N n μ x1 x2 x3 = some res) := by
  intro n
  induction n with
  | zero => intro μ x1 x2 x3; exact jj_eq (fun hz => by rw [m_goes_L9] at hz; exact hz) jj_no
  | succ n ih =>
    intro μ x1 x2 x3
    rw [m_goes_L9]
    refine jj_iload_n hk (pc := 9) dX6_goes_9 3 rfl rfl ?_
    refine jj_aload_n hk (pc := 10) dX6_goes_10 0 rfl rfl ?_
    refine jm_g_s hk hK (pc := 11) dX6_goes_11 ?_
    refine jj_iconst hk (pc := 14) (v := (5 : Int32)) dX6_goes_14 (by decide) ?_
    refine jm_ld hk hK (pc := 15) (by decide) dX6_goes_15 (fun v1 => ?_)
    refine jj_icmp_ge hk (pc := 16) 83 dX6_goes_16 (by decide) ?_ ?_
    · refine jj_iconst hk (pc := 83) (v := (0 : Int32)) dX6_goes_83 (by decide) ?_
      refine jj_istore_n hk (pc := 84) [(3, .int (0 : Int32)), (0, .ref (gh G)), (1, .int x1), (2, .int x2)] dX6_goes_84 rfl (Nat.le_of_ble_eq_true rfl) rfl ?_
      refine jj_loc [(0, .ref (gh G)), (1, .int x1), (2, .int x2), (3, .int (0 : Int32))] [1, 2, 3, 0] rfl ?_
      exact wb_m_goes_L85 hk hK N N μ x1 x2 (0 : Int32)
    · refine jj_aload_n hk (pc := 19) dX6_goes_19 0 rfl rfl ?_
      refine jj_iload_n hk (pc := 20) dX6_goes_20 3 rfl rfl ?_
      refine jj_iconst hk (pc := 21) (v := (1 : Int32)) dX6_goes_21 (by decide) ?_
      refine kc_m_deedIs hk hK (pc := 22) (a0 := x3) (a1 := (1 : Int32)) (fun r h => cc_m_deedIs l G μ x3 (1 : Int32) r h) dX6_goes_22 ⟨Nat.le_of_ble_eq_true rfl, Nat.le_of_ble_eq_true rfl⟩ (Nat.le_of_ble_eq_true rfl) (fun r2 => ?_)
      refine jj_iload_n hk (pc := 25) dX6_goes_25 2 rfl rfl ?_
      refine jj_icmp_ne hk (pc := 26) 77 dX6_goes_26 (by decide) ?_ ?_
      · refine jj_iinc hk (pc := 77) [(3, .int (x3 + 1)), (0, .ref (gh G)), (1, .int x1), (2, .int x2)] dX6_goes_77 3 rfl rfl (Nat.le_of_ble_eq_true rfl) rfl ?_
        refine jj_goto hk (pc := 80) 9 dX6_goes_80 (by decide) ?_
        refine jj_loc [(0, .ref (gh G)), (1, .int x1), (2, .int x2), (3, .int (x3 + 1))] [1, 2, 3, 0] rfl ?_
        exact ih μ x1 x2 (x3 + 1)
      · refine jj_aload_n hk (pc := 29) dX6_goes_29 0 rfl rfl ?_
        refine jj_iload_n hk (pc := 30) dX6_goes_30 3 rfl rfl ?_
        refine jj_iconst hk (pc := 31) (v := (4 : Int32)) dX6_goes_31 (by decide) ?_
        refine kc_m_deedIs hk hK (pc := 32) (a0 := x3) (a1 := (4 : Int32)) (fun r h => cc_m_deedIs l G μ x3 (4 : Int32) r h) dX6_goes_32 ⟨Nat.le_of_ble_eq_true rfl, Nat.le_of_ble_eq_true rfl⟩ (Nat.le_of_ble_eq_true rfl) (fun r3 => ?_)
        refine jj_if_ne hk (pc := 35) 77 dX6_goes_35 (by decide) ?_ ?_
        · refine jj_iinc hk (pc := 77) [(3, .int (x3 + 1)), (0, .ref (gh G)), (1, .int x1), (2, .int x2)] dX6_goes_77 3 rfl rfl (Nat.le_of_ble_eq_true rfl) rfl ?_
          refine jj_goto hk (pc := 80) 9 dX6_goes_80 (by decide) ?_
          refine jj_loc [(0, .ref (gh G)), (1, .int x1), (2, .int x2), (3, .int (x3 + 1))] [1, 2, 3, 0] rfl ?_
          exact ih μ x1 x2 (x3 + 1)
        · refine jj_aload_n hk (pc := 38) dX6_goes_38 0 rfl rfl ?_
          refine jj_iload_n hk (pc := 39) dX6_goes_39 3 rfl rfl ?_
          refine jj_iconst hk (pc := 40) (v := (3 : Int32)) dX6_goes_40 (by decide) ?_
          refine kc_m_deedIs hk hK (pc := 41) (a0 := x3) (a1 := (3 : Int32)) (fun r h => cc_m_deedIs l G μ x3 (3 : Int32) r h) dX6_goes_41 ⟨Nat.le_of_ble_eq_true rfl, Nat.le_of_ble_eq_true rfl⟩ (Nat.le_of_ble_eq_true rfl) (fun r4 => ?_)
          refine jj_istore hk (pc := 44) [(4, .int r4), (0, .ref (gh G)), (1, .int x1), (2, .int x2), (3, .int x3)] dX6_goes_44 (Nat.le_of_ble_eq_true rfl) rfl ?_
          refine jj_aload_n hk (pc := 46) dX6_goes_46 1 rfl rfl ?_
          refine jm_g_s hk hK (pc := 47) dX6_goes_47 ?_
          refine jj_iload_n hk (pc := 50) dX6_goes_50 4 rfl rfl ?_
          refine jj_iconst hk (pc := 51) (v := (4 : Int32)) dX6_goes_51 (by decide) ?_
          refine kc_m_spot hk hK (pc := 52) (a0 := x3) (a1 := (4 : Int32)) (fun r h => cc_m_spot l G μ x3 (4 : Int32) r h) dX6_goes_52 ⟨Nat.le_of_ble_eq_true rfl, Nat.le_of_ble_eq_true rfl⟩ (Nat.le_of_ble_eq_true rfl) (fun r5 => ?_)
          refine jj_iload hk (pc := 55) dX6_goes_55 0 rfl ?_
          refine jj_if_lt hk (pc := 57) 71 dX6_goes_57 (by decide) ?_ ?_
          · refine jj_iconst hk (pc := 71) (v := (1 : Int32)) dX6_goes_71 (by decide) ?_
            refine jj_goto hk (pc := 72) 76 dX6_goes_72 (by decide) ?_
            refine jm_st hk hK (pc := 76) (by decide) dX6_goes_76 (fun μ6 => ?_)
            refine jj_iinc hk (pc := 77) [(3, .int (x3 + 1)), (4, .int r4), (0, .ref (gh G)), (1, .int x1), (2, .int x2)] dX6_goes_77 4 rfl rfl (Nat.le_of_ble_eq_true rfl) rfl ?_
            refine jj_goto hk (pc := 80) 9 dX6_goes_80 (by decide) ?_
            refine jj_loc [(0, .ref (gh G)), (1, .int x1), (2, .int x2), (3, .int (x3 + 1))] [2, 3, 4, 0] rfl ?_
            exact ih μ6 x1 x2 (x3 + 1)
          · refine jj_aload_n hk (pc := 60) dX6_goes_60 1 rfl rfl ?_
            refine jj_iload hk (pc := 61) dX6_goes_61 0 rfl ?_
            refine jj_iconst hk (pc := 63) (v := (4 : Int32)) dX6_goes_63 (by decide) ?_
            refine kc_m_deedIs hk hK (pc := 64) (a0 := r4) (a1 := (4 : Int32)) (fun r h => cc_m_deedIs l G μ r4 (4 : Int32) r h) dX6_goes_64 ⟨Nat.le_of_ble_eq_true rfl, Nat.le_of_ble_eq_true rfl⟩ (Nat.le_of_ble_eq_true rfl) (fun r7 => ?_)
            refine jj_iconst hk (pc := 67) (v := (1 : Int32)) dX6_goes_67 (by decide) ?_
            refine jj_icmp_ne hk (pc := 68) 75 dX6_goes_68 (by decide) ?_ ?_
            · refine jj_iconst hk (pc := 75) (v := (4 : Int32)) dX6_goes_75 (by decide) ?_
              refine jm_st hk hK (pc := 76) (by decide) dX6_goes_76 (fun μ8 => ?_)
              refine jj_iinc hk (pc := 77) [(3, .int (x3 + 1)), (4, .int r4), (0, .ref (gh G)), (1, .int x1), (2, .int x2)] dX6_goes_77 4 rfl rfl (Nat.le_of_ble_eq_true rfl) rfl ?_
              refine jj_goto hk (pc := 80) 9 dX6_goes_80 (by decide) ?_
              refine jj_loc [(0, .ref (gh G)), (1, .int x1), (2, .int x2), (3, .int (x3 + 1))] [2, 3, 4, 0] rfl ?_
              exact ih μ8 x1 x2 (x3 + 1)
            · refine jj_iconst hk (pc := 71) (v := (1 : Int32)) dX6_goes_71 (by decide) ?_
              refine jj_goto hk (pc := 72) 76 dX6_goes_72 (by decide) ?_
              refine jm_st hk hK (pc := 76) (by decide) dX6_goes_76 (fun μ9 => ?_)
              refine jj_iinc hk (pc := 77) [(3, .int (x3 + 1)), (4, .int r4), (0, .ref (gh G)), (1, .int x1), (2, .int x2)] dX6_goes_77 4 rfl rfl (Nat.le_of_ble_eq_true rfl) rfl ?_
              refine jj_goto hk (pc := 80) 9 dX6_goes_80 (by decide) ?_
              refine jj_loc [(0, .ref (gh G)), (1, .int x1), (2, .int x2), (3, .int (x3 + 1))] [2, 3, 4, 0] rfl ?_
              exact ih μ9 x1 x2 (x3 + 1)
set_option maxHeartbeats 4000000 in
theorem cc_m_goes (l : Launch) (G : jG) (N : Nat) (μ : MS) (a0 : Int32) (res : (Int32 × MS)) (hf : m_goes N μ a0 = some res) : jM l yX6_goes (ws_ yX6_goes cX6_goes 5 (some .int)) 6 144 [.ref (gh G), .int a0] (mWo G) (mnx G) (mK G) μ (jU res) (gA G) (gn G) := by
  refine jj_start [(0, .ref (gh G)), (1, .int a0)] (by decide) (Nat.le_of_ble_eq_true rfl) rfl (fun p e R s m args below meth c hk hK hsz => ?_) hf
  have hk : jk p R s m args meth c (gn G) cX6_goes 5 RX6 6 144 (some .int) := hk
  unfold m_goes
  refine jj_aload_n hk (pc := 0) dX6_goes_0 0 rfl rfl ?_
  refine jm_g_s hk hK (pc := 1) dX6_goes_1 ?_
  refine jj_iconst hk (pc := 4) (v := (3 : Int32)) dX6_goes_4 (by decide) ?_
  refine jm_ld hk hK (pc := 5) (by decide) dX6_goes_5 (fun v1 => ?_)
  refine jj_istore_n hk (pc := 6) [(2, .int v1), (0, .ref (gh G)), (1, .int a0)] dX6_goes_6 rfl (Nat.le_of_ble_eq_true rfl) rfl ?_
  refine jj_iconst hk (pc := 7) (v := (0 : Int32)) dX6_goes_7 (by decide) ?_
  refine jj_istore_n hk (pc := 8) [(3, .int (0 : Int32)), (2, .int v1), (0, .ref (gh G)), (1, .int a0)] dX6_goes_8 rfl (Nat.le_of_ble_eq_true rfl) rfl ?_
  refine jj_loc [(0, .ref (gh G)), (1, .int a0), (2, .int v1), (3, .int (0 : Int32))] [2, 3, 1, 0] rfl ?_
  exact wb_m_goes_L9 hk hK N N μ a0 v1 (0 : Int32)
end
section
variable {p : Program} {l : Launch} {e : Env} {R : Room} {s : State} {m : MethodId} {args : Array Value} {below : List Frame} {meth : Method} {c : Code}
variable {G : jG}
variable {NX : Nat} {Q : State → Prop} {nL : Nat} {cc : ByteArray} {fr lo frc loc : Nat} {ret : Option FieldType}
variable {pc : Nat} {μ : MS} {lv : List (Nat × Value)} {st : List Value} {ρ : Type} {res : ρ}
theorem kc_m_goes (hk : jk p R s m args meth c NX cc nL RX6 fr lo ret) (hK : mK G s) {a0 : Int32} {F : Option (Int32 × MS)} {K : (Int32 × MS) → Option ρ} (hM : ∀ r, F = some r → jM l yX6_goes (ws_ yX6_goes cX6_goes 5 (some .int)) frc loc [.ref (gh G), .int a0] (mWo G) (mnx G) (mK G) μ (jU r) (gA G) (gn G)) (hd : decode cc pc = .ok (.invokevirtual 146, 3)) (hr : frc + 1 ≤ fr ∧ 8 + (5 + 11) + loc ≤ lo) (hw : (st.map fun v => v.category).sum ≤ 8) (kk : ∀ r, jj p l e R s m args below meth c (gA G) NX Q (mWo G) (mnx G) nL r.2 (pc + 3) lv (.int r.1 :: st) (K r = some res)) : jj p l e R s m args below meth c (gA G) NX Q (mWo G) (mnx G) nL μ pc lv (.int a0 :: .ref (gh G) :: st) (F.bind K = some res) :=
  jm_VUi (n := 1) hk hK [.int a0] hM (lw_V q1791 q1793 qs66 q127 q1794) (by decide +kernel) rfl rfl hd hr hw kk
end
section
variable {p : Program} {l : Launch} {e : Env} {R : Room} {s : State} {m : MethodId} {args : Array Value} {below : List Frame} {meth : Method} {c : Code}
variable {G : jG}
set_option maxHeartbeats 4000000 in
theorem cc_m_year (l : Launch) (G : jG) (N : Nat) (μ : MS)  (res : (Int32 × MS)) (hf : m_year N μ = some res) : jM l yX6_year (ws_ yX6_year cX6_year 1 (some .int)) 7 168 [.ref (gh G)] (mWo G) (mnx G) (mK G) μ (jU res) (gA G) (gn G) := by
  refine jj_start [(0, .ref (gh G))] (by decide) (Nat.le_of_ble_eq_true rfl) rfl (fun p e R s m args below meth c hk hK hsz => ?_) hf
  have hk : jk p R s m args meth c (gn G) cX6_year 1 RX6 7 168 (some .int) := hk
  unfold m_year
  refine jj_aload_n hk (pc := 0) dX6_year_0 0 rfl rfl ?_
  refine kc_m_isOver hk hK (pc := 1)  (fun r h => cc_m_isOver l G μ r h) dX6_year_1 ⟨Nat.le_of_ble_eq_true rfl, Nat.le_of_ble_eq_true rfl⟩ (Nat.le_of_ble_eq_true rfl) (fun r1 => ?_)
  refine jj_if_eq_b hk (pc := 4) 12 dX6_year_4 (by decide) ?_ ?_
  · refine jj_aload_n hk (pc := 12) dX6_year_12 0 rfl rfl ?_
    refine jj_iconst hk (pc := 13) (v := (0 : Int32)) dX6_year_13 (by decide) ?_
    refine kc_m_goes hk hK (pc := 14) (a0 := (0 : Int32)) (fun r h => cc_m_goes l G N μ (0 : Int32) r h) dX6_year_14 ⟨Nat.le_of_ble_eq_true rfl, Nat.le_of_ble_eq_true rfl⟩ (Nat.le_of_ble_eq_true rfl) (fun r2 => ?_)
    exact jm_retUi hk (pc := 17) dX6_year_17
  · refine jj_bipush hk (pc := 7) (v := (-4 : Int32)) dX6_year_7 (by decide) ?_
    refine jj_goto hk (pc := 9) 17 dX6_year_9 (by decide) ?_
    exact jm_retUi hk (pc := 17) dX6_year_17
end
section
variable {p : Program} {l : Launch} {e : Env} {R : Room} {s : State} {m : MethodId} {args : Array Value} {below : List Frame} {meth : Method} {c : Code}
variable {G : jG}
set_option maxHeartbeats 4000000 in
theorem wb_m_those_L4 {res : Int32} (hk : jk p R s m args meth c (gn G) cX6_those 4 RX6 2 43 (some .int)) (hK : mK G s) (N : Nat) (μ : MS) : ∀ (n : Nat) (x1 : Int32) (x2 : Int32) (x3 : Int32), jj p l e R s m args below meth c (gA G) (gn G) (jZ below args s (gA G) (gn G) (jR μ res) (mWo G) (mnx G)) (mWo G) (mnx G) 4 μ 4 [(0, .ref (gh G)), (1, .int x1), (2, .int x2), (3, .int x3)] [] (m_those_L4 N μ n x1 x2 x3 = some res) := by
  intro n
  induction n with
  | zero => intro x1 x2 x3; exact jj_eq (fun hz => by rw [m_those_L4] at hz; exact hz) jj_no
  | succ n ih =>
    intro x1 x2 x3
    rw [m_those_L4]
    refine jj_iload_n hk (pc := 4) dX6_those_4 3 rfl rfl ?_
    refine jj_aload_n hk (pc := 5) dX6_those_5 0 rfl rfl ?_
    refine jm_g_s hk hK (pc := 6) dX6_those_6 ?_
    refine jj_iconst hk (pc := 9) (v := (5 : Int32)) dX6_those_9 (by decide) ?_
    refine jm_ld hk hK (pc := 10) (by decide) dX6_those_10 (fun v1 => ?_)
    refine jj_icmp_ge hk (pc := 11) 40 dX6_those_11 (by decide) ?_ ?_
    · refine jj_iload_n hk (pc := 40) dX6_those_40 2 rfl rfl ?_
      exact jm_retRi hk (pc := 41) dX6_those_41
    · refine jj_iload_n hk (pc := 14) dX6_those_14 2 rfl rfl ?_
      refine jj_aload_n hk (pc := 15) dX6_those_15 0 rfl rfl ?_
      refine jj_iload_n hk (pc := 16) dX6_those_16 3 rfl rfl ?_
      refine jj_iconst hk (pc := 17) (v := (4 : Int32)) dX6_those_17 (by decide) ?_
      refine kc_m_deedIs hk hK (pc := 18) (a0 := x3) (a1 := (4 : Int32)) (fun r h => cc_m_deedIs l G μ x3 (4 : Int32) r h) dX6_those_18 ⟨Nat.le_of_ble_eq_true rfl, Nat.le_of_ble_eq_true rfl⟩ (Nat.le_of_ble_eq_true rfl) (fun r2 => ?_)
      refine jj_iload_n hk (pc := 21) dX6_those_21 1 rfl rfl ?_
      refine jj_icmp_ne hk (pc := 22) 31 dX6_those_22 (by decide) ?_ ?_
      · refine jj_iconst hk (pc := 31) (v := (0 : Int32)) dX6_those_31 (by decide) ?_
        refine jj_ior hk (pc := 32) dX6_those_32 ?_
        refine jj_istore_n hk (pc := 33) [(2, .int (x2 ||| (0 : Int32))), (0, .ref (gh G)), (1, .int x1), (3, .int x3)] dX6_those_33 rfl (Nat.le_of_ble_eq_true rfl) rfl ?_
        refine jj_iinc hk (pc := 34) [(3, .int (x3 + 1)), (2, .int (x2 ||| (0 : Int32))), (0, .ref (gh G)), (1, .int x1)] dX6_those_34 3 rfl rfl (Nat.le_of_ble_eq_true rfl) rfl ?_
        refine jj_goto hk (pc := 37) 4 dX6_those_37 (by decide) ?_
        refine jj_loc [(0, .ref (gh G)), (1, .int x1), (2, .int (x2 ||| (0 : Int32))), (3, .int (x3 + 1))] [2, 3, 1, 0] rfl ?_
        exact ih x1 (x2 ||| (0 : Int32)) (x3 + 1)
      · refine jj_iconst hk (pc := 25) (v := (1 : Int32)) dX6_those_25 (by decide) ?_
        refine jj_iload_n hk (pc := 26) dX6_those_26 3 rfl rfl ?_
        refine jj_ishl hk (pc := 27) dX6_those_27 ?_
        refine jj_goto hk (pc := 28) 32 dX6_those_28 (by decide) ?_
        refine jj_ior hk (pc := 32) dX6_those_32 ?_
        refine jj_istore_n hk (pc := 33) [(2, .int (x2 ||| ((1 : Int32) <<< (x3 &&& 31)))), (0, .ref (gh G)), (1, .int x1), (3, .int x3)] dX6_those_33 rfl (Nat.le_of_ble_eq_true rfl) rfl ?_
        refine jj_iinc hk (pc := 34) [(3, .int (x3 + 1)), (2, .int (x2 ||| ((1 : Int32) <<< (x3 &&& 31)))), (0, .ref (gh G)), (1, .int x1)] dX6_those_34 3 rfl rfl (Nat.le_of_ble_eq_true rfl) rfl ?_
        refine jj_goto hk (pc := 37) 4 dX6_those_37 (by decide) ?_
        refine jj_loc [(0, .ref (gh G)), (1, .int x1), (2, .int (x2 ||| ((1 : Int32) <<< (x3 &&& 31)))), (3, .int (x3 + 1))] [2, 3, 1, 0] rfl ?_
        exact ih x1 (x2 ||| ((1 : Int32) <<< (x3 &&& 31))) (x3 + 1)
set_option maxHeartbeats 4000000 in
theorem cc_m_those (l : Launch) (G : jG) (N : Nat) (μ : MS) (a0 : Int32) (res : Int32) (hf : m_those N μ a0 = some res) : jM l yX6_those (ws_ yX6_those cX6_those 4 (some .int)) 2 43 [.ref (gh G), .int a0] (mWo G) (mnx G) (mK G) μ (jR μ res) (gA G) (gn G) := by
  refine jj_start [(0, .ref (gh G)), (1, .int a0)] (by decide) (Nat.le_of_ble_eq_true rfl) rfl (fun p e R s m args below meth c hk hK hsz => ?_) hf
  have hk : jk p R s m args meth c (gn G) cX6_those 4 RX6 2 43 (some .int) := hk
  unfold m_those
  refine jj_iconst hk (pc := 0) (v := (0 : Int32)) dX6_those_0 (by decide) ?_
  refine jj_istore_n hk (pc := 1) [(2, .int (0 : Int32)), (0, .ref (gh G)), (1, .int a0)] dX6_those_1 rfl (Nat.le_of_ble_eq_true rfl) rfl ?_
  refine jj_iconst hk (pc := 2) (v := (0 : Int32)) dX6_those_2 (by decide) ?_
  refine jj_istore_n hk (pc := 3) [(3, .int (0 : Int32)), (2, .int (0 : Int32)), (0, .ref (gh G)), (1, .int a0)] dX6_those_3 rfl (Nat.le_of_ble_eq_true rfl) rfl ?_
  refine jj_loc [(0, .ref (gh G)), (1, .int a0), (2, .int (0 : Int32)), (3, .int (0 : Int32))] [2, 3, 1, 0] rfl ?_
  exact wb_m_those_L4 hk hK N μ N a0 (0 : Int32) (0 : Int32)
end
section
variable {p : Program} {l : Launch} {e : Env} {R : Room} {s : State} {m : MethodId} {args : Array Value} {below : List Frame} {meth : Method} {c : Code}
variable {G : jG}
variable {NX : Nat} {Q : State → Prop} {nL : Nat} {cc : ByteArray} {fr lo frc loc : Nat} {ret : Option FieldType}
variable {pc : Nat} {μ : MS} {lv : List (Nat × Value)} {st : List Value} {ρ : Type} {res : ρ}
theorem kc_m_those (hk : jk p R s m args meth c NX cc nL RX6 fr lo ret) (hK : mK G s) {a0 : Int32} {F : Option Int32} {K : Int32 → Option ρ} (hM : ∀ r, F = some r → jM l yX6_those (ws_ yX6_those cX6_those 4 (some .int)) frc loc [.ref (gh G), .int a0] (mWo G) (mnx G) (mK G) μ (jR μ r) (gA G) (gn G)) (hd : decode cc pc = .ok (.invokevirtual 151, 3)) (hr : frc + 1 ≤ fr ∧ 8 + (4 + 11) + loc ≤ lo) (hw : (st.map fun v => v.category).sum ≤ 8) (kk : ∀ r, jj p l e R s m args below meth c (gA G) NX Q (mWo G) (mnx G) nL μ (pc + 3) lv (.int r :: st) (K r = some res)) : jj p l e R s m args below meth c (gA G) NX Q (mWo G) (mnx G) nL μ pc lv (.int a0 :: .ref (gh G) :: st) (F.bind K = some res) :=
  jm_VRi (n := 1) hk hK [.int a0] hM (lw_V q1804 q1806 qs68 q127 q1807) (by decide +kernel) rfl rfl hd hr hw kk
end
section
variable {p : Program} {l : Launch} {e : Env} {R : Room} {s : State} {m : MethodId} {args : Array Value} {below : List Frame} {meth : Method} {c : Code}
variable {G : jG}
set_option maxHeartbeats 4000000 in
theorem cc_m_standing (l : Launch) (G : jG) (N : Nat) (μ : MS) (a0 : Int32) (res : Int32) (hf : m_standing N μ a0 = some res) : jM l yX6_standing (ws_ yX6_standing cX6_standing 2 (some .int)) 3 66 [.ref (gh G), .int a0] (mWo G) (mnx G) (mK G) μ (jR μ res) (gA G) (gn G) := by
  refine jj_start [(0, .ref (gh G)), (1, .int a0)] (by decide) (Nat.le_of_ble_eq_true rfl) rfl (fun p e R s m args below meth c hk hK hsz => ?_) hf
  have hk : jk p R s m args meth c (gn G) cX6_standing 2 RX6 3 66 (some .int) := hk
  unfold m_standing
  refine jj_iload_n hk (pc := 0) dX6_standing_0 1 rfl rfl ?_
  refine jj_i2l hk (pc := 1) dX6_standing_1 ?_
  refine jj_lconst hk (pc := 2) (v := (0 : Int64)) dX6_standing_2 (by decide) ?_
  refine jj_ldc2_w hk (pc := 3) q1803 dX6_standing_3 ?_
  refine kc_m_in hk hK (pc := 6) (a0 := a0.toInt64) (a1 := (0 : Int64)) (a2 := (4 : Int64)) (fun r h => cc_m_in l G μ a0.toInt64 (0 : Int64) (4 : Int64) r h) dX6_standing_6 ⟨Nat.le_of_ble_eq_true rfl, Nat.le_of_ble_eq_true rfl⟩ (Nat.le_of_ble_eq_true rfl) (fun r1 => ?_)
  refine jj_if_eq_b hk (pc := 9) 20 dX6_standing_9 (by decide) ?_ ?_
  · refine jj_iconst hk (pc := 20) (v := (-1 : Int32)) dX6_standing_20 (by decide) ?_
    exact jm_retRi hk (pc := 21) dX6_standing_21
  · refine jj_aload_n hk (pc := 12) dX6_standing_12 0 rfl rfl ?_
    refine jj_iload_n hk (pc := 13) dX6_standing_13 1 rfl rfl ?_
    refine kc_m_those hk hK (pc := 14) (a0 := a0) (fun r h => cc_m_those l G N μ a0 r h) dX6_standing_14 ⟨Nat.le_of_ble_eq_true rfl, Nat.le_of_ble_eq_true rfl⟩ (Nat.le_of_ble_eq_true rfl) (fun r2 => ?_)
    refine jj_goto hk (pc := 17) 21 dX6_standing_17 (by decide) ?_
    exact jm_retRi hk (pc := 21) dX6_standing_21
end
section
variable {p : Program} {l : Launch} {e : Env} {R : Room} {s : State} {m : MethodId} {args : Array Value} {below : List Frame} {meth : Method} {c : Code}
variable {G : jG}
set_option maxHeartbeats 4000000 in
theorem wb_m_puts_L2 {res : MS} (hk : jk p R s m args meth c (gn G) cX6_puts 2 RX6 0 0 none) (hK : mK G s) (N : Nat) : ∀ (n : Nat) (μ : MS) (x1 : Int32), jj p l e R s m args below meth c (gA G) (gn G) (jZ below args s (gA G) (gn G) (jV res) (mWo G) (mnx G)) (mWo G) (mnx G) 2 μ 2 [(0, .ref (gh G)), (1, .int x1)] [] (m_puts_L2 N n μ x1 = some res) := by
  intro n
  induction n with
  | zero => intro μ x1; exact jj_eq (fun hz => by rw [m_puts_L2] at hz; exact hz) jj_no
  | succ n ih =>
    intro μ x1
    rw [m_puts_L2]
    refine jj_iload_n hk (pc := 2) dX6_puts_2 1 rfl rfl ?_
    refine jj_sipush hk (pc := 3) (v := (368 : Int32)) dX6_puts_3 (by decide) ?_
    refine jj_icmp_ge hk (pc := 6) 27 dX6_puts_6 (by decide) ?_ ?_
    · exact jm_retV hk (pc := 27) dX6_puts_27
    · refine jj_aload_n hk (pc := 9) dX6_puts_9 0 rfl rfl ?_
      refine jm_g_other hk hK (pc := 10) dX6_puts_10 ?_
      refine jj_iload_n hk (pc := 13) dX6_puts_13 1 rfl rfl ?_
      refine jj_aload_n hk (pc := 14) dX6_puts_14 0 rfl rfl ?_
      refine jm_g_s hk hK (pc := 15) dX6_puts_15 ?_
      refine jj_iload_n hk (pc := 18) dX6_puts_18 1 rfl rfl ?_
      refine jm_ld hk hK (pc := 19) (by decide) dX6_puts_19 (fun v1 => ?_)
      refine jm_st hk hK (pc := 20) (by decide) dX6_puts_20 (fun μ2 => ?_)
      refine jj_iinc hk (pc := 21) [(1, .int (x1 + 1)), (0, .ref (gh G))] dX6_puts_21 1 rfl rfl (Nat.le_of_ble_eq_true rfl) rfl ?_
      refine jj_goto hk (pc := 24) 2 dX6_puts_24 (by decide) ?_
      refine jj_loc [(0, .ref (gh G)), (1, .int (x1 + 1))] [1, 0] rfl ?_
      exact ih μ2 (x1 + 1)
set_option maxHeartbeats 4000000 in
theorem cc_m_puts (l : Launch) (G : jG) (N : Nat) (μ : MS)  (res : MS) (hf : m_puts N μ = some res) : jM l yX6_puts (ws_ yX6_puts cX6_puts 2 none) 0 0 [.ref (gh G)] (mWo G) (mnx G) (mK G) μ (jV res) (gA G) (gn G) := by
  refine jj_start [(0, .ref (gh G))] (by decide) (Nat.le_of_ble_eq_true rfl) rfl (fun p e R s m args below meth c hk hK hsz => ?_) hf
  have hk : jk p R s m args meth c (gn G) cX6_puts 2 RX6 0 0 none := hk
  unfold m_puts
  refine jj_iconst hk (pc := 0) (v := (0 : Int32)) dX6_puts_0 (by decide) ?_
  refine jj_istore_n hk (pc := 1) [(1, .int (0 : Int32)), (0, .ref (gh G))] dX6_puts_1 rfl (Nat.le_of_ble_eq_true rfl) rfl ?_
  refine jj_loc [(0, .ref (gh G)), (1, .int (0 : Int32))] [1, 0] rfl ?_
  exact wb_m_puts_L2 hk hK N N μ (0 : Int32)
end
section
variable {p : Program} {l : Launch} {e : Env} {R : Room} {s : State} {m : MethodId} {args : Array Value} {below : List Frame} {meth : Method} {c : Code}
variable {G : jG}
variable {NX : Nat} {Q : State → Prop} {nL : Nat} {cc : ByteArray} {fr lo frc loc : Nat} {ret : Option FieldType}
variable {pc : Nat} {μ : MS} {lv : List (Nat × Value)} {st : List Value} {ρ : Type} {res : ρ}
theorem kc_m_puts (hk : jk p R s m args meth c NX cc nL RX6 fr lo ret) (hK : mK G s)  {F : Option MS} {K : MS → Option ρ} (hM : ∀ r, F = some r → jM l yX6_puts (ws_ yX6_puts cX6_puts 2 none) frc loc [.ref (gh G)] (mWo G) (mnx G) (mK G) μ (jV r) (gA G) (gn G)) (hd : decode cc pc = .ok (.invokevirtual 154, 3)) (hr : frc + 1 ≤ fr ∧ 8 + (2 + 11) + loc ≤ lo) (hw : (st.map fun v => v.category).sum ≤ 8) (kk : ∀ r, jj p l e R s m args below meth c (gA G) NX Q (mWo G) (mnx G) nL r (pc + 3) lv st (K r = some res)) : jj p l e R s m args below meth c (gA G) NX Q (mWo G) (mnx G) nL μ pc lv (.ref (gh G) :: st) (F.bind K = some res) :=
  jm_VV (n := 0) hk hK [] hM (lw_V q1812 q1814 qs69 q127 q1815) (by decide +kernel) rfl rfl hd hr hw kk
end
section
variable {p : Program} {l : Launch} {e : Env} {R : Room} {s : State} {m : MethodId} {args : Array Value} {below : List Frame} {meth : Method} {c : Code}
variable {G : jG}
set_option maxHeartbeats 4000000 in
theorem wb_m_putsBack_L2 {res : MS} (hk : jk p R s m args meth c (gn G) cX6_putsBack 2 RX6 0 0 none) (hK : mK G s) (N : Nat) : ∀ (n : Nat) (μ : MS) (x1 : Int32), jj p l e R s m args below meth c (gA G) (gn G) (jZ below args s (gA G) (gn G) (jV res) (mWo G) (mnx G)) (mWo G) (mnx G) 2 μ 2 [(0, .ref (gh G)), (1, .int x1)] [] (m_putsBack_L2 N n μ x1 = some res) := by
  intro n
  induction n with
  | zero => intro μ x1; exact jj_eq (fun hz => by rw [m_putsBack_L2] at hz; exact hz) jj_no
  | succ n ih =>
    intro μ x1
    rw [m_putsBack_L2]
    refine jj_iload_n hk (pc := 2) dX6_putsBack_2 1 rfl rfl ?_
    refine jj_sipush hk (pc := 3) (v := (368 : Int32)) dX6_putsBack_3 (by decide) ?_
    refine jj_icmp_ge hk (pc := 6) 27 dX6_putsBack_6 (by decide) ?_ ?_
    · exact jm_retV hk (pc := 27) dX6_putsBack_27
    · refine jj_aload_n hk (pc := 9) dX6_putsBack_9 0 rfl rfl ?_
      refine jm_g_s hk hK (pc := 10) dX6_putsBack_10 ?_
      refine jj_iload_n hk (pc := 13) dX6_putsBack_13 1 rfl rfl ?_
      refine jj_aload_n hk (pc := 14) dX6_putsBack_14 0 rfl rfl ?_
      refine jm_g_other hk hK (pc := 15) dX6_putsBack_15 ?_
      refine jj_iload_n hk (pc := 18) dX6_putsBack_18 1 rfl rfl ?_
      refine jm_ld hk hK (pc := 19) (by decide) dX6_putsBack_19 (fun v1 => ?_)
      refine jm_st hk hK (pc := 20) (by decide) dX6_putsBack_20 (fun μ2 => ?_)
      refine jj_iinc hk (pc := 21) [(1, .int (x1 + 1)), (0, .ref (gh G))] dX6_putsBack_21 1 rfl rfl (Nat.le_of_ble_eq_true rfl) rfl ?_
      refine jj_goto hk (pc := 24) 2 dX6_putsBack_24 (by decide) ?_
      refine jj_loc [(0, .ref (gh G)), (1, .int (x1 + 1))] [1, 0] rfl ?_
      exact ih μ2 (x1 + 1)
set_option maxHeartbeats 4000000 in
theorem cc_m_putsBack (l : Launch) (G : jG) (N : Nat) (μ : MS)  (res : MS) (hf : m_putsBack N μ = some res) : jM l yX6_putsBack (ws_ yX6_putsBack cX6_putsBack 2 none) 0 0 [.ref (gh G)] (mWo G) (mnx G) (mK G) μ (jV res) (gA G) (gn G) := by
  refine jj_start [(0, .ref (gh G))] (by decide) (Nat.le_of_ble_eq_true rfl) rfl (fun p e R s m args below meth c hk hK hsz => ?_) hf
  have hk : jk p R s m args meth c (gn G) cX6_putsBack 2 RX6 0 0 none := hk
  unfold m_putsBack
  refine jj_iconst hk (pc := 0) (v := (0 : Int32)) dX6_putsBack_0 (by decide) ?_
  refine jj_istore_n hk (pc := 1) [(1, .int (0 : Int32)), (0, .ref (gh G))] dX6_putsBack_1 rfl (Nat.le_of_ble_eq_true rfl) rfl ?_
  refine jj_loc [(0, .ref (gh G)), (1, .int (0 : Int32))] [1, 0] rfl ?_
  exact wb_m_putsBack_L2 hk hK N N μ (0 : Int32)
end
section
variable {p : Program} {l : Launch} {e : Env} {R : Room} {s : State} {m : MethodId} {args : Array Value} {below : List Frame} {meth : Method} {c : Code}
variable {G : jG}
variable {NX : Nat} {Q : State → Prop} {nL : Nat} {cc : ByteArray} {fr lo frc loc : Nat} {ret : Option FieldType}
variable {pc : Nat} {μ : MS} {lv : List (Nat × Value)} {st : List Value} {ρ : Type} {res : ρ}
theorem kc_m_putsBack (hk : jk p R s m args meth c NX cc nL RX6 fr lo ret) (hK : mK G s)  {F : Option MS} {K : MS → Option ρ} (hM : ∀ r, F = some r → jM l yX6_putsBack (ws_ yX6_putsBack cX6_putsBack 2 none) frc loc [.ref (gh G)] (mWo G) (mnx G) (mK G) μ (jV r) (gA G) (gn G)) (hd : decode cc pc = .ok (.invokevirtual 160, 3)) (hr : frc + 1 ≤ fr ∧ 8 + (2 + 11) + loc ≤ lo) (hw : (st.map fun v => v.category).sum ≤ 8) (kk : ∀ r, jj p l e R s m args below meth c (gA G) NX Q (mWo G) (mnx G) nL r (pc + 3) lv st (K r = some res)) : jj p l e R s m args below meth c (gA G) NX Q (mWo G) (mnx G) nL μ pc lv (.ref (gh G) :: st) (F.bind K = some res) :=
  jm_VV (n := 0) hk hK [] hM (lw_V q1820 q1822 qs71 q127 q1823) (by decide +kernel) rfl rfl hd hr hw kk
end
section
variable {p : Program} {l : Launch} {e : Env} {R : Room} {s : State} {m : MethodId} {args : Array Value} {below : List Frame} {meth : Method} {c : Code}
variable {G : jG}
set_option maxHeartbeats 4000000 in
theorem wb_m_rest_L4 {res : (Int32 × MS)} (hk : jk p R s m args meth c (gn G) cX6_rest 4 RX6 7 168 (some .int)) (hK : mK G s) (N : Nat) : ∀ (n : Nat) (μ : MS) (x1 : Int32) (x2 : Int32) (x3 : Int32), jj p l e R s m args below meth c (gA G) (gn G) (jZ below args s (gA G) (gn G) (jU res) (mWo G) (mnx G)) (mWo G) (mnx G) 4 μ 4 [(0, .ref (gh G)), (1, .int x1), (2, .int x2), (3, .int x3)] [] (m_rest_L4 N n μ x1 x2 x3 = some res) := by
  intro n
  induction n with
  | zero => intro μ x1 x2 x3; exact jj_eq (fun hz => by rw [m_rest_L4] at hz; exact hz) jj_no
  | succ n ih =>
    intro μ x1 x2 x3
    rw [m_rest_L4]
    refine jj_iload_n hk (pc := 4) dX6_rest_4 3 rfl rfl ?_
    refine jj_iload_n hk (pc := 5) dX6_rest_5 1 rfl rfl ?_
    refine jj_icmp_ge hk (pc := 6) 30 dX6_rest_6 (by decide) ?_ ?_
    · refine jj_iload_n hk (pc := 30) dX6_rest_30 2 rfl rfl ?_
      exact jm_retUi hk (pc := 31) dX6_rest_31
    · refine jj_aload_n hk (pc := 9) dX6_rest_9 0 rfl rfl ?_
      refine kc_m_isOver hk hK (pc := 10)  (fun r h => cc_m_isOver l G μ r h) dX6_rest_10 ⟨Nat.le_of_ble_eq_true rfl, Nat.le_of_ble_eq_true rfl⟩ (Nat.le_of_ble_eq_true rfl) (fun r1 => ?_)
      refine jj_if_ne_b hk (pc := 13) 30 dX6_rest_13 (by decide) ?_ ?_
      · refine jj_iload_n hk (pc := 30) dX6_rest_30 2 rfl rfl ?_
        exact jm_retUi hk (pc := 31) dX6_rest_31
      · refine jj_iload_n hk (pc := 16) dX6_rest_16 2 rfl rfl ?_
        refine jj_aload_n hk (pc := 17) dX6_rest_17 0 rfl rfl ?_
        refine jj_iconst hk (pc := 18) (v := (0 : Int32)) dX6_rest_18 (by decide) ?_
        refine kc_m_goes hk hK (pc := 19) (a0 := (0 : Int32)) (fun r h => cc_m_goes l G N μ (0 : Int32) r h) dX6_rest_19 ⟨Nat.le_of_ble_eq_true rfl, Nat.le_of_ble_eq_true rfl⟩ (Nat.le_of_ble_eq_true rfl) (fun r2 => ?_)
        refine jj_iadd hk (pc := 22) dX6_rest_22 ?_
        refine jj_istore_n hk (pc := 23) [(2, .int (x2 + r2.1)), (0, .ref (gh G)), (1, .int x1), (3, .int x3)] dX6_rest_23 rfl (Nat.le_of_ble_eq_true rfl) rfl ?_
        refine jj_iinc hk (pc := 24) [(3, .int (x3 + 1)), (2, .int (x2 + r2.1)), (0, .ref (gh G)), (1, .int x1)] dX6_rest_24 3 rfl rfl (Nat.le_of_ble_eq_true rfl) rfl ?_
        refine jj_goto hk (pc := 27) 4 dX6_rest_27 (by decide) ?_
        refine jj_loc [(0, .ref (gh G)), (1, .int x1), (2, .int (x2 + r2.1)), (3, .int (x3 + 1))] [2, 3, 1, 0] rfl ?_
        exact ih r2.2 x1 (x2 + r2.1) (x3 + 1)
set_option maxHeartbeats 4000000 in
theorem cc_m_rest (l : Launch) (G : jG) (N : Nat) (μ : MS) (a0 : Int32) (res : (Int32 × MS)) (hf : m_rest N μ a0 = some res) : jM l yX6_rest (ws_ yX6_rest cX6_rest 4 (some .int)) 7 168 [.ref (gh G), .int a0] (mWo G) (mnx G) (mK G) μ (jU res) (gA G) (gn G) := by
  refine jj_start [(0, .ref (gh G)), (1, .int a0)] (by decide) (Nat.le_of_ble_eq_true rfl) rfl (fun p e R s m args below meth c hk hK hsz => ?_) hf
  have hk : jk p R s m args meth c (gn G) cX6_rest 4 RX6 7 168 (some .int) := hk
  unfold m_rest
  refine jj_iconst hk (pc := 0) (v := (0 : Int32)) dX6_rest_0 (by decide) ?_
  refine jj_istore_n hk (pc := 1) [(2, .int (0 : Int32)), (0, .ref (gh G)), (1, .int a0)] dX6_rest_1 rfl (Nat.le_of_ble_eq_true rfl) rfl ?_
  refine jj_iconst hk (pc := 2) (v := (0 : Int32)) dX6_rest_2 (by decide) ?_
  refine jj_istore_n hk (pc := 3) [(3, .int (0 : Int32)), (2, .int (0 : Int32)), (0, .ref (gh G)), (1, .int a0)] dX6_rest_3 rfl (Nat.le_of_ble_eq_true rfl) rfl ?_
  refine jj_loc [(0, .ref (gh G)), (1, .int a0), (2, .int (0 : Int32)), (3, .int (0 : Int32))] [2, 3, 1, 0] rfl ?_
  exact wb_m_rest_L4 hk hK N N μ a0 (0 : Int32) (0 : Int32)
end
section
variable {p : Program} {l : Launch} {e : Env} {R : Room} {s : State} {m : MethodId} {args : Array Value} {below : List Frame} {meth : Method} {c : Code}
variable {G : jG}
variable {NX : Nat} {Q : State → Prop} {nL : Nat} {cc : ByteArray} {fr lo frc loc : Nat} {ret : Option FieldType}
variable {pc : Nat} {μ : MS} {lv : List (Nat × Value)} {st : List Value} {ρ : Type} {res : ρ}
theorem kc_m_rest (hk : jk p R s m args meth c NX cc nL RX6 fr lo ret) (hK : mK G s) {a0 : Int32} {F : Option (Int32 × MS)} {K : (Int32 × MS) → Option ρ} (hM : ∀ r, F = some r → jM l yX6_rest (ws_ yX6_rest cX6_rest 4 (some .int)) frc loc [.ref (gh G), .int a0] (mWo G) (mnx G) (mK G) μ (jU r) (gA G) (gn G)) (hd : decode cc pc = .ok (.invokevirtual 157, 3)) (hr : frc + 1 ≤ fr ∧ 8 + (4 + 11) + loc ≤ lo) (hw : (st.map fun v => v.category).sum ≤ 8) (kk : ∀ r, jj p l e R s m args below meth c (gA G) NX Q (mWo G) (mnx G) nL r.2 (pc + 3) lv (.int r.1 :: st) (K r = some res)) : jj p l e R s m args below meth c (gA G) NX Q (mWo G) (mnx G) nL μ pc lv (.int a0 :: .ref (gh G) :: st) (F.bind K = some res) :=
  jm_VUi (n := 1) hk hK [.int a0] hM (lw_V q1816 q1818 qs70 q127 q1819) (by decide +kernel) rfl rfl hd hr hw kk
end
section
variable {p : Program} {l : Launch} {e : Env} {R : Room} {s : State} {m : MethodId} {args : Array Value} {below : List Frame} {meth : Method} {c : Code}
variable {G : jG}
set_option maxHeartbeats 4000000 in
theorem cc_m_leaves (l : Launch) (G : jG) (N : Nat) (μ : MS) (a0 : Int32) (res : (Int32 × MS)) (hf : m_leaves N μ a0 = some res) : jM l yX6_leaves (ws_ yX6_leaves cX6_leaves 4 (some .int)) 8 191 [.ref (gh G), .int a0] (mWo G) (mnx G) (mK G) μ (jU res) (gA G) (gn G) := by
  refine jj_start [(0, .ref (gh G)), (1, .int a0)] (by decide) (Nat.le_of_ble_eq_true rfl) rfl (fun p e R s m args below meth c hk hK hsz => ?_) hf
  have hk : jk p R s m args meth c (gn G) cX6_leaves 4 RX6 8 191 (some .int) := hk
  unfold m_leaves
  refine jj_aload_n hk (pc := 0) dX6_leaves_0 0 rfl rfl ?_
  refine jj_iload_n hk (pc := 1) dX6_leaves_1 1 rfl rfl ?_
  refine kc_m_isPerson hk hK (pc := 2) (a0 := a0) (fun r h => cc_m_isPerson l G μ a0 r h) dX6_leaves_2 ⟨Nat.le_of_ble_eq_true rfl, Nat.le_of_ble_eq_true rfl⟩ (Nat.le_of_ble_eq_true rfl) (fun r1 => ?_)
  refine jj_if_ne_b hk (pc := 5) 10 dX6_leaves_5 (by decide) ?_ ?_
  · refine jj_aload_n hk (pc := 10) dX6_leaves_10 0 rfl rfl ?_
    refine kc_m_puts hk hK (pc := 11)  (fun r h => cc_m_puts l G N μ r h) dX6_leaves_11 ⟨Nat.le_of_ble_eq_true rfl, Nat.le_of_ble_eq_true rfl⟩ (Nat.le_of_ble_eq_true rfl) (fun r2 => ?_)
    refine jj_aload_n hk (pc := 14) dX6_leaves_14 0 rfl rfl ?_
    refine jj_bipush hk (pc := 15) (v := (16 : Int32)) dX6_leaves_15 (by decide) ?_
    refine kc_m_rest hk hK (pc := 17) (a0 := (16 : Int32)) (fun r h => cc_m_rest l G N r2 (16 : Int32) r h) dX6_leaves_17 ⟨Nat.le_of_ble_eq_true rfl, Nat.le_of_ble_eq_true rfl⟩ (Nat.le_of_ble_eq_true rfl) (fun r3 => ?_)
    refine jj_istore_n hk (pc := 20) [(2, .int r3.1), (0, .ref (gh G)), (1, .int a0)] dX6_leaves_20 rfl (Nat.le_of_ble_eq_true rfl) rfl ?_
    refine jj_aload_n hk (pc := 21) dX6_leaves_21 1 rfl rfl ?_
    refine jj_iload_n hk (pc := 22) dX6_leaves_22 2 rfl rfl ?_
    refine kc_m_standWeight hk hK (pc := 23) (a0 := a0) (fun r h => cc_m_standWeight l G N r3.2 a0 r h) dX6_leaves_23 ⟨Nat.le_of_ble_eq_true rfl, Nat.le_of_ble_eq_true rfl⟩ (Nat.le_of_ble_eq_true rfl) (fun r4 => ?_)
    refine jj_istore_n hk (pc := 26) [(3, .int r4), (2, .int r3.1), (0, .ref (gh G)), (1, .int a0)] dX6_leaves_26 rfl (Nat.le_of_ble_eq_true rfl) rfl ?_
    refine jj_aload_n hk (pc := 27) dX6_leaves_27 2 rfl rfl ?_
    refine kc_m_putsBack hk hK (pc := 28)  (fun r h => cc_m_putsBack l G N r3.2 r h) dX6_leaves_28 ⟨Nat.le_of_ble_eq_true rfl, Nat.le_of_ble_eq_true rfl⟩ (Nat.le_of_ble_eq_true rfl) (fun r5 => ?_)
    refine jj_iload_n hk (pc := 31) dX6_leaves_31 0 rfl rfl ?_
    exact jm_retUi hk (pc := 32) dX6_leaves_32
  · refine jj_iconst hk (pc := 8) (v := (-1 : Int32)) dX6_leaves_8 (by decide) ?_
    exact jm_retUi hk (pc := 9) dX6_leaves_9
end
section
variable {p : Program} {l : Launch} {e : Env} {R : Room} {s : State} {m : MethodId} {args : Array Value} {below : List Frame} {meth : Method} {c : Code}
variable {G : jG}
set_option maxHeartbeats 4000000 in
theorem cc_m_on (l : Launch) (G : jG) (N : Nat) (μ : MS) (a0 : Int32) (res : (Int32 × MS)) (hf : m_on N μ a0 = some res) : jM l yX6_on (ws_ yX6_on cX6_on 3 (some .int)) 8 191 [.ref (gh G), .int a0] (mWo G) (mnx G) (mK G) μ (jU res) (gA G) (gn G) := by
  refine jj_start [(0, .ref (gh G)), (1, .int a0)] (by decide) (Nat.le_of_ble_eq_true rfl) rfl (fun p e R s m args below meth c hk hK hsz => ?_) hf
  have hk : jk p R s m args meth c (gn G) cX6_on 3 RX6 8 191 (some .int) := hk
  unfold m_on
  refine jj_iload_n hk (pc := 0) dX6_on_0 1 rfl rfl ?_
  refine jj_i2l hk (pc := 1) dX6_on_1 ?_
  refine jj_lconst hk (pc := 2) (v := (0 : Int64)) dX6_on_2 (by decide) ?_
  refine jj_ldc2_w hk (pc := 3) q1774 dX6_on_3 ?_
  refine kc_m_in hk hK (pc := 6) (a0 := a0.toInt64) (a1 := (0 : Int64)) (a2 := (16 : Int64)) (fun r h => cc_m_in l G μ a0.toInt64 (0 : Int64) (16 : Int64) r h) dX6_on_6 ⟨Nat.le_of_ble_eq_true rfl, Nat.le_of_ble_eq_true rfl⟩ (Nat.le_of_ble_eq_true rfl) (fun r1 => ?_)
  refine jj_if_ne_b hk (pc := 9) 14 dX6_on_9 (by decide) ?_ ?_
  · refine jj_aload_n hk (pc := 14) dX6_on_14 0 rfl rfl ?_
    refine kc_m_puts hk hK (pc := 15)  (fun r h => cc_m_puts l G N μ r h) dX6_on_15 ⟨Nat.le_of_ble_eq_true rfl, Nat.le_of_ble_eq_true rfl⟩ (Nat.le_of_ble_eq_true rfl) (fun r2 => ?_)
    refine jj_aload_n hk (pc := 18) dX6_on_18 0 rfl rfl ?_
    refine jj_iload_n hk (pc := 19) dX6_on_19 1 rfl rfl ?_
    refine kc_m_rest hk hK (pc := 20) (a0 := a0) (fun r h => cc_m_rest l G N r2 a0 r h) dX6_on_20 ⟨Nat.le_of_ble_eq_true rfl, Nat.le_of_ble_eq_true rfl⟩ (Nat.le_of_ble_eq_true rfl) (fun r3 => ?_)
    refine jj_istore_n hk (pc := 23) [(2, .int r3.1), (0, .ref (gh G)), (1, .int a0)] dX6_on_23 rfl (Nat.le_of_ble_eq_true rfl) rfl ?_
    refine jj_aload_n hk (pc := 24) dX6_on_24 1 rfl rfl ?_
    refine kc_m_putsBack hk hK (pc := 25)  (fun r h => cc_m_putsBack l G N r3.2 r h) dX6_on_25 ⟨Nat.le_of_ble_eq_true rfl, Nat.le_of_ble_eq_true rfl⟩ (Nat.le_of_ble_eq_true rfl) (fun r4 => ?_)
    refine jj_iload_n hk (pc := 28) dX6_on_28 0 rfl rfl ?_
    exact jm_retUi hk (pc := 29) dX6_on_29
  · refine jj_iconst hk (pc := 12) (v := (-1 : Int32)) dX6_on_12 (by decide) ?_
    exact jm_retUi hk (pc := 13) dX6_on_13
end
section
variable {p : Program} {l : Launch} {e : Env} {R : Room} {s : State} {m : MethodId} {args : Array Value} {below : List Frame} {meth : Method} {c : Code}
variable {G : jG}
set_option maxHeartbeats 4000000 in
theorem cc_m_isGone (l : Launch) (G : jG)  (μ : MS) (a0 : Int32) (res : Bool) (hf : m_isGone μ a0 = some res) : jM l yX6_isGone (ws_ yX6_isGone cX6_isGone 2 (some .boolean)) 2 43 [.ref (gh G), .int a0] (mWo G) (mnx G) (mK G) μ (jRz μ res) (gA G) (gn G) := by
  refine jj_start [(0, .ref (gh G)), (1, .int a0)] (by decide) (Nat.le_of_ble_eq_true rfl) rfl (fun p e R s m args below meth c hk hK hsz => ?_) hf
  have hk : jk p R s m args meth c (gn G) cX6_isGone 2 RX6 2 43 (some .boolean) := hk
  unfold m_isGone
  refine jj_aload_n hk (pc := 0) dX6_isGone_0 0 rfl rfl ?_
  refine jj_iload_n hk (pc := 1) dX6_isGone_1 1 rfl rfl ?_
  refine jj_iconst hk (pc := 2) (v := (4 : Int32)) dX6_isGone_2 (by decide) ?_
  refine kc_m_deedIs hk hK (pc := 3) (a0 := a0) (a1 := (4 : Int32)) (fun r h => cc_m_deedIs l G μ a0 (4 : Int32) r h) dX6_isGone_3 ⟨Nat.le_of_ble_eq_true rfl, Nat.le_of_ble_eq_true rfl⟩ (Nat.le_of_ble_eq_true rfl) (fun r1 => ?_)
  refine jj_iconst hk (pc := 6) (v := (2 : Int32)) dX6_isGone_6 (by decide) ?_
  refine jj_icmp_eq hk (pc := 7) 20 dX6_isGone_7 (by decide) ?_ ?_
  · refine jj_iconst hk (pc := 20) (v := (1 : Int32)) dX6_isGone_20 (by decide) ?_
    refine jj_goto hk (pc := 21) 25 dX6_isGone_21 (by decide) ?_
    exact jm_retRz hk (pc := 25) (b := true) dX6_isGone_25
  · refine jj_aload_n hk (pc := 10) dX6_isGone_10 0 rfl rfl ?_
    refine jj_iload_n hk (pc := 11) dX6_isGone_11 1 rfl rfl ?_
    refine jj_iconst hk (pc := 12) (v := (4 : Int32)) dX6_isGone_12 (by decide) ?_
    refine kc_m_deedIs hk hK (pc := 13) (a0 := a0) (a1 := (4 : Int32)) (fun r h => cc_m_deedIs l G μ a0 (4 : Int32) r h) dX6_isGone_13 ⟨Nat.le_of_ble_eq_true rfl, Nat.le_of_ble_eq_true rfl⟩ (Nat.le_of_ble_eq_true rfl) (fun r2 => ?_)
    refine jj_iconst hk (pc := 16) (v := (3 : Int32)) dX6_isGone_16 (by decide) ?_
    refine jj_icmp_ne hk (pc := 17) 24 dX6_isGone_17 (by decide) ?_ ?_
    · refine jj_iconst hk (pc := 24) (v := (0 : Int32)) dX6_isGone_24 (by decide) ?_
      exact jm_retRz hk (pc := 25) (b := false) dX6_isGone_25
    · refine jj_iconst hk (pc := 20) (v := (1 : Int32)) dX6_isGone_20 (by decide) ?_
      refine jj_goto hk (pc := 21) 25 dX6_isGone_21 (by decide) ?_
      exact jm_retRz hk (pc := 25) (b := true) dX6_isGone_25
end
section
variable {p : Program} {l : Launch} {e : Env} {R : Room} {s : State} {m : MethodId} {args : Array Value} {below : List Frame} {meth : Method} {c : Code}
variable {G : jG}
variable {NX : Nat} {Q : State → Prop} {nL : Nat} {cc : ByteArray} {fr lo frc loc : Nat} {ret : Option FieldType}
variable {pc : Nat} {μ : MS} {lv : List (Nat × Value)} {st : List Value} {ρ : Type} {res : ρ}
theorem kc_m_isGone (hk : jk p R s m args meth c NX cc nL RX6 fr lo ret) (hK : mK G s) {a0 : Int32} {F : Option Bool} {K : Bool → Option ρ} (hM : ∀ r, F = some r → jM l yX6_isGone (ws_ yX6_isGone cX6_isGone 2 (some .boolean)) frc loc [.ref (gh G), .int a0] (mWo G) (mnx G) (mK G) μ (jRz μ r) (gA G) (gn G)) (hd : decode cc pc = .ok (.invokevirtual 163, 3)) (hr : frc + 1 ≤ fr ∧ 8 + (2 + 11) + loc ≤ lo) (hw : (st.map fun v => v.category).sum ≤ 8) (kk : ∀ r, jj p l e R s m args below meth c (gA G) NX Q (mWo G) (mnx G) nL μ (pc + 3) lv (.int (bI r) :: st) (K r = some res)) : jj p l e R s m args below meth c (gA G) NX Q (mWo G) (mnx G) nL μ pc lv (.int a0 :: .ref (gh G) :: st) (F.bind K = some res) :=
  jm_VRz (n := 1) hk hK [.int a0] hM (lw_V q1832 q1834 qs72 q127 q1835) (by decide +kernel) rfl rfl hd hr hw kk
end
section
variable {p : Program} {l : Launch} {e : Env} {R : Room} {s : State} {m : MethodId} {args : Array Value} {below : List Frame} {meth : Method} {c : Code}
variable {G : jG}
set_option maxHeartbeats 4000000 in
theorem wb_m_until_L28 {res : (Int32 × MS)} (hk : jk p R s m args meth c (gn G) cX6_until 4 RX6 7 168 (some .int)) (hK : mK G s) (N : Nat) : ∀ (n : Nat) (μ : MS) (x1 : Int32) (x2 : Int32), jj p l e R s m args below meth c (gA G) (gn G) (jZ below args s (gA G) (gn G) (jU res) (mWo G) (mnx G)) (mWo G) (mnx G) 4 μ 28 [(0, .ref (gh G)), (1, .int x1), (2, .int x2)] [] (m_until_L28 N n μ x1 x2 = some res) := by
  intro n
  induction n with
  | zero => intro μ x1 x2; exact jj_eq (fun hz => by rw [m_until_L28] at hz; exact hz) jj_no
  | succ n ih =>
    intro μ x1 x2
    rw [m_until_L28]
    refine jj_iload_n hk (pc := 28) dX6_until_28 2 rfl rfl ?_
    refine jj_if_ge hk (pc := 29) 70 dX6_until_29 (by decide) ?_ ?_
    · refine jj_aload_n hk (pc := 70) dX6_until_70 0 rfl rfl ?_
      refine kc_m_putsBack hk hK (pc := 71)  (fun r h => cc_m_putsBack l G N μ r h) dX6_until_71 ⟨Nat.le_of_ble_eq_true rfl, Nat.le_of_ble_eq_true rfl⟩ (Nat.le_of_ble_eq_true rfl) (fun r1 => ?_)
      refine jj_iload_n hk (pc := 74) dX6_until_74 2 rfl rfl ?_
      exact jm_retUi hk (pc := 75) dX6_until_75
    · refine jj_aload_n hk (pc := 32) dX6_until_32 0 rfl rfl ?_
      refine kc_m_isOver hk hK (pc := 33)  (fun r h => cc_m_isOver l G μ r h) dX6_until_33 ⟨Nat.le_of_ble_eq_true rfl, Nat.le_of_ble_eq_true rfl⟩ (Nat.le_of_ble_eq_true rfl) (fun r2 => ?_)
      refine jj_if_ne_b hk (pc := 36) 70 dX6_until_36 (by decide) ?_ ?_
      · refine jj_aload_n hk (pc := 70) dX6_until_70 0 rfl rfl ?_
        refine kc_m_putsBack hk hK (pc := 71)  (fun r h => cc_m_putsBack l G N μ r h) dX6_until_71 ⟨Nat.le_of_ble_eq_true rfl, Nat.le_of_ble_eq_true rfl⟩ (Nat.le_of_ble_eq_true rfl) (fun r3 => ?_)
        refine jj_iload_n hk (pc := 74) dX6_until_74 2 rfl rfl ?_
        exact jm_retUi hk (pc := 75) dX6_until_75
      · refine jj_aload_n hk (pc := 39) dX6_until_39 0 rfl rfl ?_
        refine jj_iconst hk (pc := 40) (v := (0 : Int32)) dX6_until_40 (by decide) ?_
        refine kc_m_goes hk hK (pc := 41) (a0 := (0 : Int32)) (fun r h => cc_m_goes l G N μ (0 : Int32) r h) dX6_until_41 ⟨Nat.le_of_ble_eq_true rfl, Nat.le_of_ble_eq_true rfl⟩ (Nat.le_of_ble_eq_true rfl) (fun r4 => ?_)
        refine jj_istore_n hk (pc := 44) [(3, .int r4.1), (0, .ref (gh G)), (1, .int x1), (2, .int x2)] dX6_until_44 rfl (Nat.le_of_ble_eq_true rfl) rfl ?_
        refine jj_aload_n hk (pc := 45) dX6_until_45 1 rfl rfl ?_
        refine jj_iload_n hk (pc := 46) dX6_until_46 2 rfl rfl ?_
        refine kc_m_isGone hk hK (pc := 47) (a0 := x1) (fun r h => cc_m_isGone l G r4.2 x1 r h) dX6_until_47 ⟨Nat.le_of_ble_eq_true rfl, Nat.le_of_ble_eq_true rfl⟩ (Nat.le_of_ble_eq_true rfl) (fun r5 => ?_)
        refine jj_if_eq_b hk (pc := 50) 64 dX6_until_50 (by decide) ?_ ?_
        · refine jj_bipush hk (pc := 64) (v := (-3 : Int32)) dX6_until_64 (by decide) ?_
          refine jj_istore_n hk (pc := 66) [(2, .int (-3 : Int32)), (3, .int r4.1), (0, .ref (gh G)), (1, .int x1)] dX6_until_66 rfl (Nat.le_of_ble_eq_true rfl) rfl ?_
          refine jj_goto hk (pc := 67) 28 dX6_until_67 (by decide) ?_
          refine jj_loc [(0, .ref (gh G)), (1, .int x1), (2, .int (-3 : Int32))] [2, 3, 0] rfl ?_
          exact ih r4.2 x1 (-3 : Int32)
        · refine jj_aload_n hk (pc := 53) dX6_until_53 1 rfl rfl ?_
          refine jm_g_s hk hK (pc := 54) dX6_until_54 ?_
          refine jj_iconst hk (pc := 57) (v := (3 : Int32)) dX6_until_57 (by decide) ?_
          refine jm_ld hk hK (pc := 58) (by decide) dX6_until_58 (fun v6 => ?_)
          refine jj_iconst hk (pc := 59) (v := (1 : Int32)) dX6_until_59 (by decide) ?_
          refine jj_isub hk (pc := 60) dX6_until_60 ?_
          refine jj_goto hk (pc := 61) 66 dX6_until_61 (by decide) ?_
          refine jj_istore_n hk (pc := 66) [(2, .int (v6 - (1 : Int32))), (3, .int r4.1), (0, .ref (gh G)), (1, .int x1)] dX6_until_66 rfl (Nat.le_of_ble_eq_true rfl) rfl ?_
          refine jj_goto hk (pc := 67) 28 dX6_until_67 (by decide) ?_
          refine jj_loc [(0, .ref (gh G)), (1, .int x1), (2, .int (v6 - (1 : Int32)))] [2, 3, 0] rfl ?_
          exact ih r4.2 x1 (v6 - (1 : Int32))
set_option maxHeartbeats 4000000 in
theorem cc_m_until (l : Launch) (G : jG) (N : Nat) (μ : MS) (a0 : Int32) (res : (Int32 × MS)) (hf : m_until N μ a0 = some res) : jM l yX6_until (ws_ yX6_until cX6_until 4 (some .int)) 7 168 [.ref (gh G), .int a0] (mWo G) (mnx G) (mK G) μ (jU res) (gA G) (gn G) := by
  refine jj_start [(0, .ref (gh G)), (1, .int a0)] (by decide) (Nat.le_of_ble_eq_true rfl) rfl (fun p e R s m args below meth c hk hK hsz => ?_) hf
  have hk : jk p R s m args meth c (gn G) cX6_until 4 RX6 7 168 (some .int) := hk
  unfold m_until
  refine jj_aload_n hk (pc := 0) dX6_until_0 0 rfl rfl ?_
  refine jj_iload_n hk (pc := 1) dX6_until_1 1 rfl rfl ?_
  refine kc_m_isDeed hk hK (pc := 2) (a0 := a0) (fun r h => cc_m_isDeed l G μ a0 r h) dX6_until_2 ⟨Nat.le_of_ble_eq_true rfl, Nat.le_of_ble_eq_true rfl⟩ (Nat.le_of_ble_eq_true rfl) (fun r1 => ?_)
  refine jj_if_ne_b hk (pc := 5) 10 dX6_until_5 (by decide) ?_ ?_
  · refine jj_aload_n hk (pc := 10) dX6_until_10 0 rfl rfl ?_
    refine jj_iload_n hk (pc := 11) dX6_until_11 1 rfl rfl ?_
    refine kc_m_isGone hk hK (pc := 12) (a0 := a0) (fun r h => cc_m_isGone l G μ a0 r h) dX6_until_12 ⟨Nat.le_of_ble_eq_true rfl, Nat.le_of_ble_eq_true rfl⟩ (Nat.le_of_ble_eq_true rfl) (fun r2 => ?_)
    refine jj_if_eq_b hk (pc := 15) 21 dX6_until_15 (by decide) ?_ ?_
    · refine jj_aload_n hk (pc := 21) dX6_until_21 0 rfl rfl ?_
      refine kc_m_puts hk hK (pc := 22)  (fun r h => cc_m_puts l G N μ r h) dX6_until_22 ⟨Nat.le_of_ble_eq_true rfl, Nat.le_of_ble_eq_true rfl⟩ (Nat.le_of_ble_eq_true rfl) (fun r3 => ?_)
      refine jj_bipush hk (pc := 25) (v := (-3 : Int32)) dX6_until_25 (by decide) ?_
      refine jj_istore_n hk (pc := 27) [(2, .int (-3 : Int32)), (0, .ref (gh G)), (1, .int a0)] dX6_until_27 rfl (Nat.le_of_ble_eq_true rfl) rfl ?_
      refine jj_loc [(0, .ref (gh G)), (1, .int a0), (2, .int (-3 : Int32))] [1, 2, 0] rfl ?_
      exact wb_m_until_L28 hk hK N N r3 a0 (-3 : Int32)
    · refine jj_bipush hk (pc := 18) (v := (-3 : Int32)) dX6_until_18 (by decide) ?_
      exact jm_retUi hk (pc := 20) dX6_until_20
  · refine jj_iconst hk (pc := 8) (v := (-1 : Int32)) dX6_until_8 (by decide) ?_
    exact jm_retUi hk (pc := 9) dX6_until_9
end
section
variable {p : Program} {l : Launch} {e : Env} {R : Room} {s : State} {m : MethodId} {args : Array Value} {below : List Frame} {meth : Method} {c : Code}
variable {G : jG}
set_option maxHeartbeats 4000000 in
theorem wb_m_late_L4 {res : Int32} (hk : jk p R s m args meth c (gn G) cX6_late 3 RX6 3 65 (some .int)) (hK : mK G s) (N : Nat) (μ : MS) : ∀ (n : Nat) (x1 : Int32) (x2 : Int32), jj p l e R s m args below meth c (gA G) (gn G) (jZ below args s (gA G) (gn G) (jR μ res) (mWo G) (mnx G)) (mWo G) (mnx G) 3 μ 4 [(0, .ref (gh G)), (1, .int x1), (2, .int x2)] [] (m_late_L4 N μ n x1 x2 = some res) := by
  intro n
  induction n with
  | zero => intro x1 x2; exact jj_eq (fun hz => by rw [m_late_L4] at hz; exact hz) jj_no
  | succ n ih =>
    intro x1 x2
    rw [m_late_L4]
    refine jj_iload_n hk (pc := 4) dX6_late_4 2 rfl rfl ?_
    refine jj_aload_n hk (pc := 5) dX6_late_5 0 rfl rfl ?_
    refine jm_g_s hk hK (pc := 6) dX6_late_6 ?_
    refine jj_iconst hk (pc := 9) (v := (5 : Int32)) dX6_late_9 (by decide) ?_
    refine jm_ld hk hK (pc := 10) (by decide) dX6_late_10 (fun v1 => ?_)
    refine jj_icmp_ge hk (pc := 11) 61 dX6_late_11 (by decide) ?_ ?_
    · refine jj_iload_n hk (pc := 61) dX6_late_61 1 rfl rfl ?_
      exact jm_retRi hk (pc := 62) dX6_late_62
    · refine jj_iload_n hk (pc := 14) dX6_late_14 1 rfl rfl ?_
      refine jj_aload_n hk (pc := 15) dX6_late_15 0 rfl rfl ?_
      refine jj_iload_n hk (pc := 16) dX6_late_16 2 rfl rfl ?_
      refine jj_iconst hk (pc := 17) (v := (4 : Int32)) dX6_late_17 (by decide) ?_
      refine kc_m_deedIs hk hK (pc := 18) (a0 := x2) (a1 := (4 : Int32)) (fun r h => cc_m_deedIs l G μ x2 (4 : Int32) r h) dX6_late_18 ⟨Nat.le_of_ble_eq_true rfl, Nat.le_of_ble_eq_true rfl⟩ (Nat.le_of_ble_eq_true rfl) (fun r2 => ?_)
      refine jj_iconst hk (pc := 21) (v := (1 : Int32)) dX6_late_21 (by decide) ?_
      refine jj_icmp_ne hk (pc := 22) 52 dX6_late_22 (by decide) ?_ ?_
      · refine jj_iconst hk (pc := 52) (v := (0 : Int32)) dX6_late_52 (by decide) ?_
        refine jj_ior hk (pc := 53) dX6_late_53 ?_
        refine jj_istore_n hk (pc := 54) [(1, .int (x1 ||| (0 : Int32))), (0, .ref (gh G)), (2, .int x2)] dX6_late_54 rfl (Nat.le_of_ble_eq_true rfl) rfl ?_
        refine jj_iinc hk (pc := 55) [(2, .int (x2 + 1)), (1, .int (x1 ||| (0 : Int32))), (0, .ref (gh G))] dX6_late_55 2 rfl rfl (Nat.le_of_ble_eq_true rfl) rfl ?_
        refine jj_goto hk (pc := 58) 4 dX6_late_58 (by decide) ?_
        refine jj_loc [(0, .ref (gh G)), (1, .int (x1 ||| (0 : Int32))), (2, .int (x2 + 1))] [2, 1, 0] rfl ?_
        exact ih (x1 ||| (0 : Int32)) (x2 + 1)
      · refine jj_aload_n hk (pc := 25) dX6_late_25 0 rfl rfl ?_
        refine jj_iload_n hk (pc := 26) dX6_late_26 2 rfl rfl ?_
        refine kc_m_due hk hK (pc := 27) (a0 := x2) (fun r h => cc_m_due l G μ x2 r h) dX6_late_27 ⟨Nat.le_of_ble_eq_true rfl, Nat.le_of_ble_eq_true rfl⟩ (Nat.le_of_ble_eq_true rfl) (fun r3 => ?_)
        refine jj_aload_n hk (pc := 30) dX6_late_30 0 rfl rfl ?_
        refine jm_g_s hk hK (pc := 31) dX6_late_31 ?_
        refine jj_iconst hk (pc := 34) (v := (2 : Int32)) dX6_late_34 (by decide) ?_
        refine jm_ld hk hK (pc := 35) (by decide) dX6_late_35 (fun v4 => ?_)
        refine jj_iconst hk (pc := 36) (v := (1 : Int32)) dX6_late_36 (by decide) ?_
        refine jj_isub hk (pc := 37) dX6_late_37 ?_
        refine jj_icmp_ge hk (pc := 38) 52 dX6_late_38 (by decide) ?_ ?_
        · refine jj_iconst hk (pc := 52) (v := (0 : Int32)) dX6_late_52 (by decide) ?_
          refine jj_ior hk (pc := 53) dX6_late_53 ?_
          refine jj_istore_n hk (pc := 54) [(1, .int (x1 ||| (0 : Int32))), (0, .ref (gh G)), (2, .int x2)] dX6_late_54 rfl (Nat.le_of_ble_eq_true rfl) rfl ?_
          refine jj_iinc hk (pc := 55) [(2, .int (x2 + 1)), (1, .int (x1 ||| (0 : Int32))), (0, .ref (gh G))] dX6_late_55 2 rfl rfl (Nat.le_of_ble_eq_true rfl) rfl ?_
          refine jj_goto hk (pc := 58) 4 dX6_late_58 (by decide) ?_
          refine jj_loc [(0, .ref (gh G)), (1, .int (x1 ||| (0 : Int32))), (2, .int (x2 + 1))] [2, 1, 0] rfl ?_
          exact ih (x1 ||| (0 : Int32)) (x2 + 1)
        · refine jj_iconst hk (pc := 41) (v := (1 : Int32)) dX6_late_41 (by decide) ?_
          refine jj_aload_n hk (pc := 42) dX6_late_42 0 rfl rfl ?_
          refine jj_iload_n hk (pc := 43) dX6_late_43 2 rfl rfl ?_
          refine jj_iconst hk (pc := 44) (v := (0 : Int32)) dX6_late_44 (by decide) ?_
          refine kc_m_deedIs hk hK (pc := 45) (a0 := x2) (a1 := (0 : Int32)) (fun r h => cc_m_deedIs l G μ x2 (0 : Int32) r h) dX6_late_45 ⟨Nat.le_of_ble_eq_true rfl, Nat.le_of_ble_eq_true rfl⟩ (Nat.le_of_ble_eq_true rfl) (fun r5 => ?_)
          refine jj_ishl hk (pc := 48) dX6_late_48 ?_
          refine jj_goto hk (pc := 49) 53 dX6_late_49 (by decide) ?_
          refine jj_ior hk (pc := 53) dX6_late_53 ?_
          refine jj_istore_n hk (pc := 54) [(1, .int (x1 ||| ((1 : Int32) <<< (r5 &&& 31)))), (0, .ref (gh G)), (2, .int x2)] dX6_late_54 rfl (Nat.le_of_ble_eq_true rfl) rfl ?_
          refine jj_iinc hk (pc := 55) [(2, .int (x2 + 1)), (1, .int (x1 ||| ((1 : Int32) <<< (r5 &&& 31)))), (0, .ref (gh G))] dX6_late_55 2 rfl rfl (Nat.le_of_ble_eq_true rfl) rfl ?_
          refine jj_goto hk (pc := 58) 4 dX6_late_58 (by decide) ?_
          refine jj_loc [(0, .ref (gh G)), (1, .int (x1 ||| ((1 : Int32) <<< (r5 &&& 31)))), (2, .int (x2 + 1))] [2, 1, 0] rfl ?_
          exact ih (x1 ||| ((1 : Int32) <<< (r5 &&& 31))) (x2 + 1)
set_option maxHeartbeats 4000000 in
theorem cc_m_late (l : Launch) (G : jG) (N : Nat) (μ : MS)  (res : Int32) (hf : m_late N μ = some res) : jM l yX6_late (ws_ yX6_late cX6_late 3 (some .int)) 3 65 [.ref (gh G)] (mWo G) (mnx G) (mK G) μ (jR μ res) (gA G) (gn G) := by
  refine jj_start [(0, .ref (gh G))] (by decide) (Nat.le_of_ble_eq_true rfl) rfl (fun p e R s m args below meth c hk hK hsz => ?_) hf
  have hk : jk p R s m args meth c (gn G) cX6_late 3 RX6 3 65 (some .int) := hk
  unfold m_late
  refine jj_iconst hk (pc := 0) (v := (0 : Int32)) dX6_late_0 (by decide) ?_
  refine jj_istore_n hk (pc := 1) [(1, .int (0 : Int32)), (0, .ref (gh G))] dX6_late_1 rfl (Nat.le_of_ble_eq_true rfl) rfl ?_
  refine jj_iconst hk (pc := 2) (v := (0 : Int32)) dX6_late_2 (by decide) ?_
  refine jj_istore_n hk (pc := 3) [(2, .int (0 : Int32)), (1, .int (0 : Int32)), (0, .ref (gh G))] dX6_late_3 rfl (Nat.le_of_ble_eq_true rfl) rfl ?_
  refine jj_loc [(0, .ref (gh G)), (1, .int (0 : Int32)), (2, .int (0 : Int32))] [2, 1, 0] rfl ?_
  exact wb_m_late_L4 hk hK N μ N (0 : Int32) (0 : Int32)
end
section
variable {p : Program} {l : Launch} {e : Env} {R : Room} {s : State} {m : MethodId} {args : Array Value} {below : List Frame} {meth : Method} {c : Code}
variable {G : jG}
variable {NX : Nat} {Q : State → Prop} {nL : Nat} {cc : ByteArray} {fr lo frc loc : Nat} {ret : Option FieldType}
variable {pc : Nat} {μ : MS} {lv : List (Nat × Value)} {st : List Value} {ρ : Type} {res : ρ}
theorem kc_m_late (hk : jk p R s m args meth c NX cc nL RX6 fr lo ret) (hK : mK G s)  {F : Option Int32} {K : Int32 → Option ρ} (hM : ∀ r, F = some r → jM l yX6_late (ws_ yX6_late cX6_late 3 (some .int)) frc loc [.ref (gh G)] (mWo G) (mnx G) (mK G) μ (jR μ r) (gA G) (gn G)) (hd : decode cc pc = .ok (.invokevirtual 166, 3)) (hr : frc + 1 ≤ fr ∧ 8 + (3 + 11) + loc ≤ lo) (hw : (st.map fun v => v.category).sum ≤ 8) (kk : ∀ r, jj p l e R s m args below meth c (gA G) NX Q (mWo G) (mnx G) nL μ (pc + 3) lv (.int r :: st) (K r = some res)) : jj p l e R s m args below meth c (gA G) NX Q (mWo G) (mnx G) nL μ pc lv (.ref (gh G) :: st) (F.bind K = some res) :=
  jm_VRi (n := 0) hk hK [] hM (lw_V q1840 q1842 qs73 q127 q1843) (by decide +kernel) rfl rfl hd hr hw kk
end
section
variable {p : Program} {l : Launch} {e : Env} {R : Room} {s : State} {m : MethodId} {args : Array Value} {below : List Frame} {meth : Method} {c : Code}
variable {G : jG}
set_option maxHeartbeats 4000000 in
theorem cc_m_overdue (l : Launch) (G : jG) (N : Nat) (μ : MS)  (res : (Int32 × MS)) (hf : m_overdue N μ = some res) : jM l yX6_overdue (ws_ yX6_overdue cX6_overdue 3 (some .int)) 8 191 [.ref (gh G)] (mWo G) (mnx G) (mK G) μ (jU res) (gA G) (gn G) := by
  refine jj_start [(0, .ref (gh G))] (by decide) (Nat.le_of_ble_eq_true rfl) rfl (fun p e R s m args below meth c hk hK hsz => ?_) hf
  have hk : jk p R s m args meth c (gn G) cX6_overdue 3 RX6 8 191 (some .int) := hk
  unfold m_overdue
  refine jj_aload_n hk (pc := 0) dX6_overdue_0 0 rfl rfl ?_
  refine kc_m_puts hk hK (pc := 1)  (fun r h => cc_m_puts l G N μ r h) dX6_overdue_1 ⟨Nat.le_of_ble_eq_true rfl, Nat.le_of_ble_eq_true rfl⟩ (Nat.le_of_ble_eq_true rfl) (fun r1 => ?_)
  refine jj_aload_n hk (pc := 4) dX6_overdue_4 0 rfl rfl ?_
  refine jj_bipush hk (pc := 5) (v := (16 : Int32)) dX6_overdue_5 (by decide) ?_
  refine kc_m_rest hk hK (pc := 7) (a0 := (16 : Int32)) (fun r h => cc_m_rest l G N r1 (16 : Int32) r h) dX6_overdue_7 ⟨Nat.le_of_ble_eq_true rfl, Nat.le_of_ble_eq_true rfl⟩ (Nat.le_of_ble_eq_true rfl) (fun r2 => ?_)
  refine jj_istore_n hk (pc := 10) [(1, .int r2.1), (0, .ref (gh G))] dX6_overdue_10 rfl (Nat.le_of_ble_eq_true rfl) rfl ?_
  refine jj_aload_n hk (pc := 11) dX6_overdue_11 1 rfl rfl ?_
  refine kc_m_late hk hK (pc := 12)  (fun r h => cc_m_late l G N r2.2 r h) dX6_overdue_12 ⟨Nat.le_of_ble_eq_true rfl, Nat.le_of_ble_eq_true rfl⟩ (Nat.le_of_ble_eq_true rfl) (fun r3 => ?_)
  refine jj_istore_n hk (pc := 15) [(2, .int r3), (1, .int r2.1), (0, .ref (gh G))] dX6_overdue_15 rfl (Nat.le_of_ble_eq_true rfl) rfl ?_
  refine jj_aload_n hk (pc := 16) dX6_overdue_16 2 rfl rfl ?_
  refine kc_m_putsBack hk hK (pc := 17)  (fun r h => cc_m_putsBack l G N r2.2 r h) dX6_overdue_17 ⟨Nat.le_of_ble_eq_true rfl, Nat.le_of_ble_eq_true rfl⟩ (Nat.le_of_ble_eq_true rfl) (fun r4 => ?_)
  refine jj_iload_n hk (pc := 20) dX6_overdue_20 0 rfl rfl ?_
  exact jm_retUi hk (pc := 21) dX6_overdue_21
end
section
variable {p : Program} {l : Launch} {e : Env} {R : Room} {s : State} {m : MethodId} {args : Array Value} {below : List Frame} {meth : Method} {c : Code}
variable {G : jG}
set_option maxHeartbeats 4000000 in
theorem cc_m_falls (l : Launch) (G : jG) (N : Nat) (μ : MS) (a0 : Int32) (res : (Int32 × MS)) (hf : m_falls N μ a0 = some res) : jM l yX6_falls (ws_ yX6_falls cX6_falls 4 (some .int)) 3 67 [.ref (gh G), .int a0] (mWo G) (mnx G) (mK G) μ (jU res) (gA G) (gn G) := by
  refine jj_start [(0, .ref (gh G)), (1, .int a0)] (by decide) (Nat.le_of_ble_eq_true rfl) rfl (fun p e R s m args below meth c hk hK hsz => ?_) hf
  have hk : jk p R s m args meth c (gn G) cX6_falls 4 RX6 3 67 (some .int) := hk
  unfold m_falls
  refine jj_aload_n hk (pc := 0) dX6_falls_0 0 rfl rfl ?_
  refine jj_iload_n hk (pc := 1) dX6_falls_1 1 rfl rfl ?_
  refine kc_m_isDeed hk hK (pc := 2) (a0 := a0) (fun r h => cc_m_isDeed l G μ a0 r h) dX6_falls_2 ⟨Nat.le_of_ble_eq_true rfl, Nat.le_of_ble_eq_true rfl⟩ (Nat.le_of_ble_eq_true rfl) (fun r1 => ?_)
  refine jj_if_ne_b hk (pc := 5) 10 dX6_falls_5 (by decide) ?_ ?_
  · refine jj_aload_n hk (pc := 10) dX6_falls_10 0 rfl rfl ?_
    refine jj_iload_n hk (pc := 11) dX6_falls_11 1 rfl rfl ?_
    refine jj_iconst hk (pc := 12) (v := (4 : Int32)) dX6_falls_12 (by decide) ?_
    refine kc_m_deedIs hk hK (pc := 13) (a0 := a0) (a1 := (4 : Int32)) (fun r h => cc_m_deedIs l G μ a0 (4 : Int32) r h) dX6_falls_13 ⟨Nat.le_of_ble_eq_true rfl, Nat.le_of_ble_eq_true rfl⟩ (Nat.le_of_ble_eq_true rfl) (fun r2 => ?_)
    refine jj_iconst hk (pc := 16) (v := (1 : Int32)) dX6_falls_16 (by decide) ?_
    refine jj_icmp_eq hk (pc := 17) 23 dX6_falls_17 (by decide) ?_ ?_
    · refine jj_aload_n hk (pc := 23) dX6_falls_23 0 rfl rfl ?_
      refine kc_m_puts hk hK (pc := 24)  (fun r h => cc_m_puts l G N μ r h) dX6_falls_24 ⟨Nat.le_of_ble_eq_true rfl, Nat.le_of_ble_eq_true rfl⟩ (Nat.le_of_ble_eq_true rfl) (fun r3 => ?_)
      refine jj_aload_n hk (pc := 27) dX6_falls_27 0 rfl rfl ?_
      refine jj_iconst hk (pc := 28) (v := (3 : Int32)) dX6_falls_28 (by decide) ?_
      refine kc_m_those hk hK (pc := 29) (a0 := (3 : Int32)) (fun r h => cc_m_those l G N r3 (3 : Int32) r h) dX6_falls_29 ⟨Nat.le_of_ble_eq_true rfl, Nat.le_of_ble_eq_true rfl⟩ (Nat.le_of_ble_eq_true rfl) (fun r4 => ?_)
      refine jj_istore_n hk (pc := 32) [(2, .int r4), (0, .ref (gh G)), (1, .int a0)] dX6_falls_32 rfl (Nat.le_of_ble_eq_true rfl) rfl ?_
      refine jj_aload_n hk (pc := 33) dX6_falls_33 1 rfl rfl ?_
      refine jj_iload_n hk (pc := 34) dX6_falls_34 2 rfl rfl ?_
      refine kc_m_undo hk hK (pc := 35) (a0 := a0) (fun r h => cc_m_undo l G N r3 a0 r h) dX6_falls_35 ⟨Nat.le_of_ble_eq_true rfl, Nat.le_of_ble_eq_true rfl⟩ (Nat.le_of_ble_eq_true rfl) (fun r5 => ?_)
      refine jj_aload_n hk (pc := 38) dX6_falls_38 1 rfl rfl ?_
      refine jj_iconst hk (pc := 39) (v := (3 : Int32)) dX6_falls_39 (by decide) ?_
      refine kc_m_those hk hK (pc := 40) (a0 := (3 : Int32)) (fun r h => cc_m_those l G N r5 (3 : Int32) r h) dX6_falls_40 ⟨Nat.le_of_ble_eq_true rfl, Nat.le_of_ble_eq_true rfl⟩ (Nat.le_of_ble_eq_true rfl) (fun r6 => ?_)
      refine jj_iload_n hk (pc := 43) dX6_falls_43 0 rfl rfl ?_
      refine jj_iconst hk (pc := 44) (v := (-1 : Int32)) dX6_falls_44 (by decide) ?_
      refine jj_ixor hk (pc := 45) dX6_falls_45 ?_
      refine jj_iand hk (pc := 46) dX6_falls_46 ?_
      refine jj_istore_n hk (pc := 47) [(3, .int (r6 &&& (r4 ^^^ (-1 : Int32)))), (2, .int r4), (0, .ref (gh G)), (1, .int a0)] dX6_falls_47 rfl (Nat.le_of_ble_eq_true rfl) rfl ?_
      refine jj_aload_n hk (pc := 48) dX6_falls_48 2 rfl rfl ?_
      refine kc_m_putsBack hk hK (pc := 49)  (fun r h => cc_m_putsBack l G N r5 r h) dX6_falls_49 ⟨Nat.le_of_ble_eq_true rfl, Nat.le_of_ble_eq_true rfl⟩ (Nat.le_of_ble_eq_true rfl) (fun r7 => ?_)
      refine jj_iload_n hk (pc := 52) dX6_falls_52 0 rfl rfl ?_
      exact jm_retUi hk (pc := 53) dX6_falls_53
    · refine jj_bipush hk (pc := 20) (v := (-4 : Int32)) dX6_falls_20 (by decide) ?_
      exact jm_retUi hk (pc := 22) dX6_falls_22
  · refine jj_iconst hk (pc := 8) (v := (-1 : Int32)) dX6_falls_8 (by decide) ?_
    exact jm_retUi hk (pc := 9) dX6_falls_9
end
section
variable {p : Program} {l : Launch} {e : Env} {R : Room} {s : State} {m : MethodId} {args : Array Value} {below : List Frame} {meth : Method} {c : Code}
variable {G : jG}
set_option maxHeartbeats 4000000 in
theorem wb_m_graceFor_L17 {res : (Int32 × MS)} (hk : jk p R s m args meth c (gn G) cX6_graceFor 6 RX6 8 191 (some .int)) (hK : mK G s) (N : Nat) : ∀ (n : Nat) (μ : MS) (x1 : Int32) (x2 : Int32) (x3 : Int32) (x4 : Int32), jj p l e R s m args below meth c (gA G) (gn G) (jZ below args s (gA G) (gn G) (jU res) (mWo G) (mnx G)) (mWo G) (mnx G) 6 μ 17 [(0, .ref (gh G)), (1, .int x1), (2, .int x2), (3, .int x3), (4, .int x4)] [] (m_graceFor_L17 N n μ x1 x2 x3 x4 = some res) := by
  intro n
  induction n with
  | zero => intro μ x1 x2 x3 x4; exact jj_eq (fun hz => by rw [m_graceFor_L17] at hz; exact hz) jj_no
  | succ n ih =>
    intro μ x1 x2 x3 x4
    rw [m_graceFor_L17]
    refine jj_iload hk (pc := 17) dX6_graceFor_17 4 rfl ?_
    refine jj_bipush hk (pc := 19) (v := (10 : Int32)) dX6_graceFor_19 (by decide) ?_
    refine jj_icmp_ge hk (pc := 21) 84 dX6_graceFor_21 (by decide) ?_ ?_
    · refine jj_iload_n hk (pc := 84) dX6_graceFor_84 2 rfl rfl ?_
      exact jm_retUi hk (pc := 85) dX6_graceFor_85
    · refine jj_aload_n hk (pc := 24) dX6_graceFor_24 0 rfl rfl ?_
      refine kc_m_puts hk hK (pc := 25)  (fun r h => cc_m_puts l G N μ r h) dX6_graceFor_25 ⟨Nat.le_of_ble_eq_true rfl, Nat.le_of_ble_eq_true rfl⟩ (Nat.le_of_ble_eq_true rfl) (fun r1 => ?_)
      refine jj_aload_n hk (pc := 28) dX6_graceFor_28 0 rfl rfl ?_
      refine jm_g_s hk hK (pc := 29) dX6_graceFor_29 ?_
      refine jj_iload_n hk (pc := 32) dX6_graceFor_32 1 rfl rfl ?_
      refine jj_iconst hk (pc := 33) (v := (1 : Int32)) dX6_graceFor_33 (by decide) ?_
      refine kc_m_at hk hK (pc := 34) (a0 := x1) (a1 := (1 : Int32)) (fun r h => cc_m_at l G r1 x1 (1 : Int32) r h) dX6_graceFor_34 ⟨Nat.le_of_ble_eq_true rfl, Nat.le_of_ble_eq_true rfl⟩ (Nat.le_of_ble_eq_true rfl) (fun r2 => ?_)
      refine jj_iload hk (pc := 37) dX6_graceFor_37 4 rfl ?_
      refine jm_st hk hK (pc := 39) (by decide) dX6_graceFor_39 (fun μ3 => ?_)
      refine jj_aload_n hk (pc := 40) dX6_graceFor_40 0 rfl rfl ?_
      refine jj_bipush hk (pc := 41) (v := (16 : Int32)) dX6_graceFor_41 (by decide) ?_
      refine kc_m_rest hk hK (pc := 43) (a0 := (16 : Int32)) (fun r h => cc_m_rest l G N μ3 (16 : Int32) r h) dX6_graceFor_43 ⟨Nat.le_of_ble_eq_true rfl, Nat.le_of_ble_eq_true rfl⟩ (Nat.le_of_ble_eq_true rfl) (fun r4 => ?_)
      refine jj_istore hk (pc := 46) [(5, .int r4.1), (0, .ref (gh G)), (1, .int x1), (2, .int x2), (3, .int x3), (4, .int x4)] dX6_graceFor_46 (Nat.le_of_ble_eq_true rfl) rfl ?_
      refine jj_iload hk (pc := 48) dX6_graceFor_48 0 rfl ?_
      refine jj_iload_n hk (pc := 50) dX6_graceFor_50 4 rfl rfl ?_
      refine jj_icmp_le hk (pc := 51) 59 dX6_graceFor_51 (by decide) ?_ ?_
      · refine jj_iload_n hk (pc := 59) dX6_graceFor_59 3 rfl rfl ?_
        refine jj_istore_n hk (pc := 60) [(2, .int x2), (5, .int r4.1), (0, .ref (gh G)), (1, .int x1), (3, .int x3), (4, .int x4)] dX6_graceFor_60 rfl (Nat.le_of_ble_eq_true rfl) rfl ?_
        refine jj_iload hk (pc := 61) dX6_graceFor_61 1 rfl ?_
        refine jj_iload_n hk (pc := 63) dX6_graceFor_63 4 rfl rfl ?_
        refine jj_icmp_le hk (pc := 64) 72 dX6_graceFor_64 (by decide) ?_ ?_
        · refine jj_iload_n hk (pc := 72) dX6_graceFor_72 4 rfl rfl ?_
          refine jj_istore_n hk (pc := 73) [(3, .int x3), (2, .int x2), (5, .int r4.1), (0, .ref (gh G)), (1, .int x1), (4, .int x4)] dX6_graceFor_73 rfl (Nat.le_of_ble_eq_true rfl) rfl ?_
          refine jj_aload_n hk (pc := 74) dX6_graceFor_74 3 rfl rfl ?_
          refine kc_m_putsBack hk hK (pc := 75)  (fun r h => cc_m_putsBack l G N r4.2 r h) dX6_graceFor_75 ⟨Nat.le_of_ble_eq_true rfl, Nat.le_of_ble_eq_true rfl⟩ (Nat.le_of_ble_eq_true rfl) (fun r5 => ?_)
          refine jj_iinc hk (pc := 78) [(4, .int (x4 + 1)), (3, .int x3), (2, .int x2), (5, .int r4.1), (0, .ref (gh G)), (1, .int x1)] dX6_graceFor_78 5 rfl rfl (Nat.le_of_ble_eq_true rfl) rfl ?_
          refine jj_goto hk (pc := 81) 17 dX6_graceFor_81 (by decide) ?_
          refine jj_loc [(0, .ref (gh G)), (1, .int x1), (2, .int x2), (3, .int x3), (4, .int (x4 + 1))] [4, 5, 2, 1, 0] rfl ?_
          exact ih r5 x1 x2 x3 (x4 + 1)
        · refine jj_iload hk (pc := 67) dX6_graceFor_67 1 rfl ?_
          refine jj_goto hk (pc := 69) 73 dX6_graceFor_69 (by decide) ?_
          refine jj_istore_n hk (pc := 73) [(3, .int r4.1), (2, .int x2), (5, .int r4.1), (0, .ref (gh G)), (1, .int x1), (4, .int x4)] dX6_graceFor_73 rfl (Nat.le_of_ble_eq_true rfl) rfl ?_
          refine jj_aload_n hk (pc := 74) dX6_graceFor_74 3 rfl rfl ?_
          refine kc_m_putsBack hk hK (pc := 75)  (fun r h => cc_m_putsBack l G N r4.2 r h) dX6_graceFor_75 ⟨Nat.le_of_ble_eq_true rfl, Nat.le_of_ble_eq_true rfl⟩ (Nat.le_of_ble_eq_true rfl) (fun r6 => ?_)
          refine jj_iinc hk (pc := 78) [(4, .int (x4 + 1)), (3, .int r4.1), (2, .int x2), (5, .int r4.1), (0, .ref (gh G)), (1, .int x1)] dX6_graceFor_78 5 rfl rfl (Nat.le_of_ble_eq_true rfl) rfl ?_
          refine jj_goto hk (pc := 81) 17 dX6_graceFor_81 (by decide) ?_
          refine jj_loc [(0, .ref (gh G)), (1, .int x1), (2, .int x2), (3, .int r4.1), (4, .int (x4 + 1))] [4, 5, 2, 1, 0] rfl ?_
          exact ih r6 x1 x2 r4.1 (x4 + 1)
      · refine jj_iload hk (pc := 54) dX6_graceFor_54 5 rfl ?_
        refine jj_goto hk (pc := 56) 60 dX6_graceFor_56 (by decide) ?_
        refine jj_istore_n hk (pc := 60) [(2, .int x4), (5, .int r4.1), (0, .ref (gh G)), (1, .int x1), (3, .int x3), (4, .int x4)] dX6_graceFor_60 rfl (Nat.le_of_ble_eq_true rfl) rfl ?_
        refine jj_iload hk (pc := 61) dX6_graceFor_61 1 rfl ?_
        refine jj_iload_n hk (pc := 63) dX6_graceFor_63 4 rfl rfl ?_
        refine jj_icmp_le hk (pc := 64) 72 dX6_graceFor_64 (by decide) ?_ ?_
        · refine jj_iload_n hk (pc := 72) dX6_graceFor_72 4 rfl rfl ?_
          refine jj_istore_n hk (pc := 73) [(3, .int x3), (2, .int x4), (5, .int r4.1), (0, .ref (gh G)), (1, .int x1), (4, .int x4)] dX6_graceFor_73 rfl (Nat.le_of_ble_eq_true rfl) rfl ?_
          refine jj_aload_n hk (pc := 74) dX6_graceFor_74 3 rfl rfl ?_
          refine kc_m_putsBack hk hK (pc := 75)  (fun r h => cc_m_putsBack l G N r4.2 r h) dX6_graceFor_75 ⟨Nat.le_of_ble_eq_true rfl, Nat.le_of_ble_eq_true rfl⟩ (Nat.le_of_ble_eq_true rfl) (fun r7 => ?_)
          refine jj_iinc hk (pc := 78) [(4, .int (x4 + 1)), (3, .int x3), (2, .int x4), (5, .int r4.1), (0, .ref (gh G)), (1, .int x1)] dX6_graceFor_78 5 rfl rfl (Nat.le_of_ble_eq_true rfl) rfl ?_
          refine jj_goto hk (pc := 81) 17 dX6_graceFor_81 (by decide) ?_
          refine jj_loc [(0, .ref (gh G)), (1, .int x1), (2, .int x4), (3, .int x3), (4, .int (x4 + 1))] [4, 5, 2, 1, 0] rfl ?_
          exact ih r7 x1 x4 x3 (x4 + 1)
        · refine jj_iload hk (pc := 67) dX6_graceFor_67 1 rfl ?_
          refine jj_goto hk (pc := 69) 73 dX6_graceFor_69 (by decide) ?_
          refine jj_istore_n hk (pc := 73) [(3, .int r4.1), (2, .int x4), (5, .int r4.1), (0, .ref (gh G)), (1, .int x1), (4, .int x4)] dX6_graceFor_73 rfl (Nat.le_of_ble_eq_true rfl) rfl ?_
          refine jj_aload_n hk (pc := 74) dX6_graceFor_74 3 rfl rfl ?_
          refine kc_m_putsBack hk hK (pc := 75)  (fun r h => cc_m_putsBack l G N r4.2 r h) dX6_graceFor_75 ⟨Nat.le_of_ble_eq_true rfl, Nat.le_of_ble_eq_true rfl⟩ (Nat.le_of_ble_eq_true rfl) (fun r8 => ?_)
          refine jj_iinc hk (pc := 78) [(4, .int (x4 + 1)), (3, .int r4.1), (2, .int x4), (5, .int r4.1), (0, .ref (gh G)), (1, .int x1)] dX6_graceFor_78 5 rfl rfl (Nat.le_of_ble_eq_true rfl) rfl ?_
          refine jj_goto hk (pc := 81) 17 dX6_graceFor_81 (by decide) ?_
          refine jj_loc [(0, .ref (gh G)), (1, .int x1), (2, .int x4), (3, .int r4.1), (4, .int (x4 + 1))] [4, 5, 2, 1, 0] rfl ?_
          exact ih r8 x1 x4 r4.1 (x4 + 1)
set_option maxHeartbeats 4000000 in
theorem cc_m_graceFor (l : Launch) (G : jG) (N : Nat) (μ : MS) (a0 : Int32) (res : (Int32 × MS)) (hf : m_graceFor N μ a0 = some res) : jM l yX6_graceFor (ws_ yX6_graceFor cX6_graceFor 6 (some .int)) 8 191 [.ref (gh G), .int a0] (mWo G) (mnx G) (mK G) μ (jU res) (gA G) (gn G) := by
  refine jj_start [(0, .ref (gh G)), (1, .int a0)] (by decide) (Nat.le_of_ble_eq_true rfl) rfl (fun p e R s m args below meth c hk hK hsz => ?_) hf
  have hk : jk p R s m args meth c (gn G) cX6_graceFor 6 RX6 8 191 (some .int) := hk
  unfold m_graceFor
  refine jj_aload_n hk (pc := 0) dX6_graceFor_0 0 rfl rfl ?_
  refine jj_iload_n hk (pc := 1) dX6_graceFor_1 1 rfl rfl ?_
  refine kc_m_isPerson hk hK (pc := 2) (a0 := a0) (fun r h => cc_m_isPerson l G μ a0 r h) dX6_graceFor_2 ⟨Nat.le_of_ble_eq_true rfl, Nat.le_of_ble_eq_true rfl⟩ (Nat.le_of_ble_eq_true rfl) (fun r1 => ?_)
  refine jj_if_ne_b hk (pc := 5) 10 dX6_graceFor_5 (by decide) ?_ ?_
  · refine jj_iconst hk (pc := 10) (v := (0 : Int32)) dX6_graceFor_10 (by decide) ?_
    refine jj_istore_n hk (pc := 11) [(2, .int (0 : Int32)), (0, .ref (gh G)), (1, .int a0)] dX6_graceFor_11 rfl (Nat.le_of_ble_eq_true rfl) rfl ?_
    refine jj_iconst hk (pc := 12) (v := (-1 : Int32)) dX6_graceFor_12 (by decide) ?_
    refine jj_istore_n hk (pc := 13) [(3, .int (-1 : Int32)), (2, .int (0 : Int32)), (0, .ref (gh G)), (1, .int a0)] dX6_graceFor_13 rfl (Nat.le_of_ble_eq_true rfl) rfl ?_
    refine jj_iconst hk (pc := 14) (v := (1 : Int32)) dX6_graceFor_14 (by decide) ?_
    refine jj_istore hk (pc := 15) [(4, .int (1 : Int32)), (3, .int (-1 : Int32)), (2, .int (0 : Int32)), (0, .ref (gh G)), (1, .int a0)] dX6_graceFor_15 (Nat.le_of_ble_eq_true rfl) rfl ?_
    refine jj_loc [(0, .ref (gh G)), (1, .int a0), (2, .int (0 : Int32)), (3, .int (-1 : Int32)), (4, .int (1 : Int32))] [3, 4, 2, 1, 0] rfl ?_
    exact wb_m_graceFor_L17 hk hK N N μ a0 (0 : Int32) (-1 : Int32) (1 : Int32)
  · refine jj_iconst hk (pc := 8) (v := (-1 : Int32)) dX6_graceFor_8 (by decide) ?_
    exact jm_retUi hk (pc := 9) dX6_graceFor_9
end
section
variable {p : Program} {l : Launch} {e : Env} {R : Room} {s : State} {m : MethodId} {args : Array Value} {below : List Frame} {meth : Method} {c : Code}
variable {G : jG}
set_option maxHeartbeats 4000000 in
theorem wb_m_strengthFor_L12 {res : (Int32 × MS)} (hk : jk p R s m args meth c (gn G) cX6_strengthFor 5 RX6 8 191 (some .int)) (hK : mK G s) (N : Nat) : ∀ (n : Nat) (μ : MS) (x1 : Int32) (x2 : Int32), jj p l e R s m args below meth c (gA G) (gn G) (jZ below args s (gA G) (gn G) (jU res) (mWo G) (mnx G)) (mWo G) (mnx G) 5 μ 12 [(0, .ref (gh G)), (1, .int x1), (2, .int x2)] [] (m_strengthFor_L12 N n μ x1 x2 = some res) := by
  intro n
  induction n with
  | zero => intro μ x1 x2; exact jj_eq (fun hz => by rw [m_strengthFor_L12] at hz; exact hz) jj_no
  | succ n ih =>
    intro μ x1 x2
    rw [m_strengthFor_L12]
    refine jj_iload_n hk (pc := 12) dX6_strengthFor_12 2 rfl rfl ?_
    refine jj_bipush hk (pc := 13) (v := (10 : Int32)) dX6_strengthFor_13 (by decide) ?_
    refine jj_icmp_ge hk (pc := 15) 75 dX6_strengthFor_15 (by decide) ?_ ?_
    · refine jj_bipush hk (pc := 75) (v := (-3 : Int32)) dX6_strengthFor_75 (by decide) ?_
      exact jm_retUi hk (pc := 77) dX6_strengthFor_77
    · refine jj_aload_n hk (pc := 18) dX6_strengthFor_18 0 rfl rfl ?_
      refine kc_m_puts hk hK (pc := 19)  (fun r h => cc_m_puts l G N μ r h) dX6_strengthFor_19 ⟨Nat.le_of_ble_eq_true rfl, Nat.le_of_ble_eq_true rfl⟩ (Nat.le_of_ble_eq_true rfl) (fun r1 => ?_)
      refine jj_aload_n hk (pc := 22) dX6_strengthFor_22 0 rfl rfl ?_
      refine jm_g_s hk hK (pc := 23) dX6_strengthFor_23 ?_
      refine jj_iload_n hk (pc := 26) dX6_strengthFor_26 1 rfl rfl ?_
      refine jj_iconst hk (pc := 27) (v := (2 : Int32)) dX6_strengthFor_27 (by decide) ?_
      refine kc_m_at hk hK (pc := 28) (a0 := x1) (a1 := (2 : Int32)) (fun r h => cc_m_at l G r1 x1 (2 : Int32) r h) dX6_strengthFor_28 ⟨Nat.le_of_ble_eq_true rfl, Nat.le_of_ble_eq_true rfl⟩ (Nat.le_of_ble_eq_true rfl) (fun r2 => ?_)
      refine jj_iload_n hk (pc := 31) dX6_strengthFor_31 2 rfl rfl ?_
      refine jm_st hk hK (pc := 32) (by decide) dX6_strengthFor_32 (fun μ3 => ?_)
      refine jj_aload_n hk (pc := 33) dX6_strengthFor_33 0 rfl rfl ?_
      refine jj_bipush hk (pc := 34) (v := (16 : Int32)) dX6_strengthFor_34 (by decide) ?_
      refine kc_m_rest hk hK (pc := 36) (a0 := (16 : Int32)) (fun r h => cc_m_rest l G N μ3 (16 : Int32) r h) dX6_strengthFor_36 ⟨Nat.le_of_ble_eq_true rfl, Nat.le_of_ble_eq_true rfl⟩ (Nat.le_of_ble_eq_true rfl) (fun r4 => ?_)
      refine jj_istore_n hk (pc := 39) [(3, .int r4.1), (0, .ref (gh G)), (1, .int x1), (2, .int x2)] dX6_strengthFor_39 rfl (Nat.le_of_ble_eq_true rfl) rfl ?_
      refine jj_aload_n hk (pc := 40) dX6_strengthFor_40 1 rfl rfl ?_
      refine kc_m_late hk hK (pc := 41)  (fun r h => cc_m_late l G N r4.2 r h) dX6_strengthFor_41 ⟨Nat.le_of_ble_eq_true rfl, Nat.le_of_ble_eq_true rfl⟩ (Nat.le_of_ble_eq_true rfl) (fun r5 => ?_)
      refine jj_iload_n hk (pc := 44) dX6_strengthFor_44 2 rfl rfl ?_
      refine jj_ishr hk (pc := 45) dX6_strengthFor_45 ?_
      refine jj_iconst hk (pc := 46) (v := (1 : Int32)) dX6_strengthFor_46 (by decide) ?_
      refine jj_iand hk (pc := 47) dX6_strengthFor_47 ?_
      refine jj_if_ne hk (pc := 48) 55 dX6_strengthFor_48 (by decide) ?_ ?_
      · refine jj_iconst hk (pc := 55) (v := (0 : Int32)) dX6_strengthFor_55 (by decide) ?_
        refine jj_istore hk (pc := 56) [(4, .int (0 : Int32)), (3, .int r4.1), (0, .ref (gh G)), (1, .int x1), (2, .int x2)] dX6_strengthFor_56 (Nat.le_of_ble_eq_true rfl) rfl ?_
        refine jj_aload_n hk (pc := 58) dX6_strengthFor_58 2 rfl rfl ?_
        refine kc_m_putsBack hk hK (pc := 59)  (fun r h => cc_m_putsBack l G N r4.2 r h) dX6_strengthFor_59 ⟨Nat.le_of_ble_eq_true rfl, Nat.le_of_ble_eq_true rfl⟩ (Nat.le_of_ble_eq_true rfl) (fun r6 => ?_)
        refine jj_iload hk (pc := 62) dX6_strengthFor_62 0 rfl ?_
        refine jj_if_eq_T hk (pc := 64) 69 dX6_strengthFor_64 (by decide) (by decide) ?_
        refine jj_iinc hk (pc := 69) [(2, .int (x2 + 1)), (4, .int (0 : Int32)), (3, .int r4.1), (0, .ref (gh G)), (1, .int x1)] dX6_strengthFor_69 4 rfl rfl (Nat.le_of_ble_eq_true rfl) rfl ?_
        refine jj_goto hk (pc := 72) 12 dX6_strengthFor_72 (by decide) ?_
        refine jj_loc [(0, .ref (gh G)), (1, .int x1), (2, .int (x2 + 1))] [3, 4, 0] rfl ?_
        exact ih r6 x1 (x2 + 1)
      · refine jj_iconst hk (pc := 51) (v := (1 : Int32)) dX6_strengthFor_51 (by decide) ?_
        refine jj_goto hk (pc := 52) 56 dX6_strengthFor_52 (by decide) ?_
        refine jj_istore hk (pc := 56) [(4, .int (1 : Int32)), (3, .int r4.1), (0, .ref (gh G)), (1, .int x1), (2, .int x2)] dX6_strengthFor_56 (Nat.le_of_ble_eq_true rfl) rfl ?_
        refine jj_aload_n hk (pc := 58) dX6_strengthFor_58 2 rfl rfl ?_
        refine kc_m_putsBack hk hK (pc := 59)  (fun r h => cc_m_putsBack l G N r4.2 r h) dX6_strengthFor_59 ⟨Nat.le_of_ble_eq_true rfl, Nat.le_of_ble_eq_true rfl⟩ (Nat.le_of_ble_eq_true rfl) (fun r7 => ?_)
        refine jj_iload hk (pc := 62) dX6_strengthFor_62 0 rfl ?_
        refine jj_if_eq_F hk (pc := 64) dX6_strengthFor_64 69 (by decide) (by decide) ?_
        refine jj_iload_n hk (pc := 67) dX6_strengthFor_67 4 rfl rfl ?_
        exact jm_retUi hk (pc := 68) dX6_strengthFor_68
set_option maxHeartbeats 4000000 in
theorem cc_m_strengthFor (l : Launch) (G : jG) (N : Nat) (μ : MS) (a0 : Int32) (res : (Int32 × MS)) (hf : m_strengthFor N μ a0 = some res) : jM l yX6_strengthFor (ws_ yX6_strengthFor cX6_strengthFor 5 (some .int)) 8 191 [.ref (gh G), .int a0] (mWo G) (mnx G) (mK G) μ (jU res) (gA G) (gn G) := by
  refine jj_start [(0, .ref (gh G)), (1, .int a0)] (by decide) (Nat.le_of_ble_eq_true rfl) rfl (fun p e R s m args below meth c hk hK hsz => ?_) hf
  have hk : jk p R s m args meth c (gn G) cX6_strengthFor 5 RX6 8 191 (some .int) := hk
  unfold m_strengthFor
  refine jj_aload_n hk (pc := 0) dX6_strengthFor_0 0 rfl rfl ?_
  refine jj_iload_n hk (pc := 1) dX6_strengthFor_1 1 rfl rfl ?_
  refine kc_m_isPerson hk hK (pc := 2) (a0 := a0) (fun r h => cc_m_isPerson l G μ a0 r h) dX6_strengthFor_2 ⟨Nat.le_of_ble_eq_true rfl, Nat.le_of_ble_eq_true rfl⟩ (Nat.le_of_ble_eq_true rfl) (fun r1 => ?_)
  refine jj_if_ne_b hk (pc := 5) 10 dX6_strengthFor_5 (by decide) ?_ ?_
  · refine jj_iconst hk (pc := 10) (v := (1 : Int32)) dX6_strengthFor_10 (by decide) ?_
    refine jj_istore_n hk (pc := 11) [(2, .int (1 : Int32)), (0, .ref (gh G)), (1, .int a0)] dX6_strengthFor_11 rfl (Nat.le_of_ble_eq_true rfl) rfl ?_
    refine jj_loc [(0, .ref (gh G)), (1, .int a0), (2, .int (1 : Int32))] [1, 2, 0] rfl ?_
    exact wb_m_strengthFor_L12 hk hK N N μ a0 (1 : Int32)
  · refine jj_iconst hk (pc := 8) (v := (-1 : Int32)) dX6_strengthFor_8 (by decide) ?_
    exact jm_retUi hk (pc := 9) dX6_strengthFor_9
end
section
variable {p : Program} {l : Launch} {e : Env} {R : Room} {s : State} {m : MethodId} {args : Array Value} {below : List Frame} {meth : Method} {c : Code}
variable {G : jG}
set_option maxHeartbeats 4000000 in
theorem cc_m_areTwo (l : Launch) (G : jG)  (μ : MS) (a0 : Int32) (a1 : Int32) (res : Bool) (hf : m_areTwo μ a0 a1 = some res) : jM l yX6_areTwo (ws_ yX6_areTwo cX6_areTwo 3 (some .boolean)) 2 46 [.ref (gh G), .int a0, .int a1] (mWo G) (mnx G) (mK G) μ (jRz μ res) (gA G) (gn G) := by
  refine jj_start [(0, .ref (gh G)), (1, .int a0), (2, .int a1)] (by decide) (Nat.le_of_ble_eq_true rfl) rfl (fun p e R s m args below meth c hk hK hsz => ?_) hf
  have hk : jk p R s m args meth c (gn G) cX6_areTwo 3 RX6 2 46 (some .boolean) := hk
  unfold m_areTwo
  refine jj_aload_n hk (pc := 0) dX6_areTwo_0 0 rfl rfl ?_
  refine jj_iload_n hk (pc := 1) dX6_areTwo_1 1 rfl rfl ?_
  refine kc_m_isPerson hk hK (pc := 2) (a0 := a0) (fun r h => cc_m_isPerson l G μ a0 r h) dX6_areTwo_2 ⟨Nat.le_of_ble_eq_true rfl, Nat.le_of_ble_eq_true rfl⟩ (Nat.le_of_ble_eq_true rfl) (fun r1 => ?_)
  refine jj_if_eq_b hk (pc := 5) 25 dX6_areTwo_5 (by decide) ?_ ?_
  · refine jj_iconst hk (pc := 25) (v := (0 : Int32)) dX6_areTwo_25 (by decide) ?_
    exact jm_retRz hk (pc := 26) (b := false) dX6_areTwo_26
  · refine jj_aload_n hk (pc := 8) dX6_areTwo_8 0 rfl rfl ?_
    refine jj_iload_n hk (pc := 9) dX6_areTwo_9 2 rfl rfl ?_
    refine kc_m_isPerson hk hK (pc := 10) (a0 := a1) (fun r h => cc_m_isPerson l G μ a1 r h) dX6_areTwo_10 ⟨Nat.le_of_ble_eq_true rfl, Nat.le_of_ble_eq_true rfl⟩ (Nat.le_of_ble_eq_true rfl) (fun r2 => ?_)
    refine jj_if_eq_b hk (pc := 13) 25 dX6_areTwo_13 (by decide) ?_ ?_
    · refine jj_iconst hk (pc := 25) (v := (0 : Int32)) dX6_areTwo_25 (by decide) ?_
      exact jm_retRz hk (pc := 26) (b := false) dX6_areTwo_26
    · refine jj_iload_n hk (pc := 16) dX6_areTwo_16 1 rfl rfl ?_
      refine jj_iload_n hk (pc := 17) dX6_areTwo_17 2 rfl rfl ?_
      refine jj_icmp_eq hk (pc := 18) 25 dX6_areTwo_18 (by decide) ?_ ?_
      · refine jj_iconst hk (pc := 25) (v := (0 : Int32)) dX6_areTwo_25 (by decide) ?_
        exact jm_retRz hk (pc := 26) (b := false) dX6_areTwo_26
      · refine jj_iconst hk (pc := 21) (v := (1 : Int32)) dX6_areTwo_21 (by decide) ?_
        refine jj_goto hk (pc := 22) 26 dX6_areTwo_22 (by decide) ?_
        exact jm_retRz hk (pc := 26) (b := true) dX6_areTwo_26
end
section
variable {p : Program} {l : Launch} {e : Env} {R : Room} {s : State} {m : MethodId} {args : Array Value} {below : List Frame} {meth : Method} {c : Code}
variable {G : jG}
variable {NX : Nat} {Q : State → Prop} {nL : Nat} {cc : ByteArray} {fr lo frc loc : Nat} {ret : Option FieldType}
variable {pc : Nat} {μ : MS} {lv : List (Nat × Value)} {st : List Value} {ρ : Type} {res : ρ}
theorem kc_m_areTwo (hk : jk p R s m args meth c NX cc nL RX6 fr lo ret) (hK : mK G s) {a0 : Int32} {a1 : Int32} {F : Option Bool} {K : Bool → Option ρ} (hM : ∀ r, F = some r → jM l yX6_areTwo (ws_ yX6_areTwo cX6_areTwo 3 (some .boolean)) frc loc [.ref (gh G), .int a0, .int a1] (mWo G) (mnx G) (mK G) μ (jRz μ r) (gA G) (gn G)) (hd : decode cc pc = .ok (.invokevirtual 170, 3)) (hr : frc + 1 ≤ fr ∧ 8 + (3 + 11) + loc ≤ lo) (hw : (st.map fun v => v.category).sum ≤ 8) (kk : ∀ r, jj p l e R s m args below meth c (gA G) NX Q (mWo G) (mnx G) nL μ (pc + 3) lv (.int (bI r) :: st) (K r = some res)) : jj p l e R s m args below meth c (gA G) NX Q (mWo G) (mnx G) nL μ pc lv (.int a1 :: .int a0 :: .ref (gh G) :: st) (F.bind K = some res) :=
  jm_VRz (n := 2) hk hK [.int a0, .int a1] hM (lw_V q1860 q1862 qs74 q127 q1863) (by decide +kernel) rfl rfl hd hr hw kk
end
section
variable {p : Program} {l : Launch} {e : Env} {R : Room} {s : State} {m : MethodId} {args : Array Value} {below : List Frame} {meth : Method} {c : Code}
variable {G : jG}
set_option maxHeartbeats 4000000 in
theorem cc_m_owe (l : Launch) (G : jG)  (μ : MS) (a0 : Int32) (a1 : Int32) (a2 : Int32) (res : (Int32 × MS)) (hf : m_owe μ a0 a1 a2 = some res) : jM l yX6_owe (ws_ yX6_owe cX6_owe 4 (some .int)) 3 68 [.ref (gh G), .int a0, .int a1, .int a2] (mWo G) (mnx G) (mK G) μ (jU res) (gA G) (gn G) := by
  refine jj_start [(0, .ref (gh G)), (1, .int a0), (2, .int a1), (3, .int a2)] (by decide) (Nat.le_of_ble_eq_true rfl) rfl (fun p e R s m args below meth c hk hK hsz => ?_) hf
  have hk : jk p R s m args meth c (gn G) cX6_owe 4 RX6 3 68 (some .int) := hk
  unfold m_owe
  refine jj_aload_n hk (pc := 0) dX6_owe_0 0 rfl rfl ?_
  refine jj_iload_n hk (pc := 1) dX6_owe_1 1 rfl rfl ?_
  refine jj_iload_n hk (pc := 2) dX6_owe_2 2 rfl rfl ?_
  refine kc_m_areTwo hk hK (pc := 3) (a0 := a0) (a1 := a1) (fun r h => cc_m_areTwo l G μ a0 a1 r h) dX6_owe_3 ⟨Nat.le_of_ble_eq_true rfl, Nat.le_of_ble_eq_true rfl⟩ (Nat.le_of_ble_eq_true rfl) (fun r1 => ?_)
  refine jj_if_eq_b hk (pc := 6) 38 dX6_owe_6 (by decide) ?_ ?_
  · refine jj_iconst hk (pc := 38) (v := (-1 : Int32)) dX6_owe_38 (by decide) ?_
    exact jm_retUi hk (pc := 39) dX6_owe_39
  · refine jj_iload_n hk (pc := 9) dX6_owe_9 3 rfl rfl ?_
    refine jj_i2l hk (pc := 10) dX6_owe_10 ?_
    refine jj_lconst hk (pc := 11) (v := (0 : Int64)) dX6_owe_11 (by decide) ?_
    refine jj_ldc2_w hk (pc := 12) q1864 dX6_owe_12 ?_
    refine kc_m_in hk hK (pc := 15) (a0 := a2.toInt64) (a1 := (0 : Int64)) (a2 := (99 : Int64)) (fun r h => cc_m_in l G μ a2.toInt64 (0 : Int64) (99 : Int64) r h) dX6_owe_15 ⟨Nat.le_of_ble_eq_true rfl, Nat.le_of_ble_eq_true rfl⟩ (Nat.le_of_ble_eq_true rfl) (fun r2 => ?_)
    refine jj_if_eq_b hk (pc := 18) 38 dX6_owe_18 (by decide) ?_ ?_
    · refine jj_iconst hk (pc := 38) (v := (-1 : Int32)) dX6_owe_38 (by decide) ?_
      exact jm_retUi hk (pc := 39) dX6_owe_39
    · refine jj_aload_n hk (pc := 21) dX6_owe_21 0 rfl rfl ?_
      refine jj_bipush hk (pc := 22) (v := (76 : Int32)) dX6_owe_22 (by decide) ?_
      refine jj_bipush hk (pc := 24) (v := (6 : Int32)) dX6_owe_24 (by decide) ?_
      refine jj_iload_n hk (pc := 26) dX6_owe_26 1 rfl rfl ?_
      refine jj_imul hk (pc := 27) dX6_owe_27 ?_
      refine jj_iadd hk (pc := 28) dX6_owe_28 ?_
      refine jj_iload_n hk (pc := 29) dX6_owe_29 2 rfl rfl ?_
      refine jj_iadd hk (pc := 30) dX6_owe_30 ?_
      refine jj_iload_n hk (pc := 31) dX6_owe_31 3 rfl rfl ?_
      refine kc_m_becomes hk hK (pc := 32) (a0 := (((76 : Int32) + ((6 : Int32) * a0)) + a1)) (a1 := a2) (fun r h => cc_m_becomes l G μ (((76 : Int32) + ((6 : Int32) * a0)) + a1) a2 r h) dX6_owe_32 ⟨Nat.le_of_ble_eq_true rfl, Nat.le_of_ble_eq_true rfl⟩ (Nat.le_of_ble_eq_true rfl) (fun r3 => ?_)
      refine jj_goto hk (pc := 35) 39 dX6_owe_35 (by decide) ?_
      exact jm_retUi hk (pc := 39) dX6_owe_39
end
section
variable {p : Program} {l : Launch} {e : Env} {R : Room} {s : State} {m : MethodId} {args : Array Value} {below : List Frame} {meth : Method} {c : Code}
variable {G : jG}
set_option maxHeartbeats 4000000 in
theorem cc_m_owes (l : Launch) (G : jG)  (μ : MS) (a0 : Int32) (a1 : Int32) (res : Int32) (hf : m_owes μ a0 a1 = some res) : jM l yX6_owes (ws_ yX6_owes cX6_owes 3 (some .int)) 3 68 [.ref (gh G), .int a0, .int a1] (mWo G) (mnx G) (mK G) μ (jR μ res) (gA G) (gn G) := by
  refine jj_start [(0, .ref (gh G)), (1, .int a0), (2, .int a1)] (by decide) (Nat.le_of_ble_eq_true rfl) rfl (fun p e R s m args below meth c hk hK hsz => ?_) hf
  have hk : jk p R s m args meth c (gn G) cX6_owes 3 RX6 3 68 (some .int) := hk
  unfold m_owes
  refine jj_aload_n hk (pc := 0) dX6_owes_0 0 rfl rfl ?_
  refine jj_iload_n hk (pc := 1) dX6_owes_1 1 rfl rfl ?_
  refine jj_iload_n hk (pc := 2) dX6_owes_2 2 rfl rfl ?_
  refine kc_m_areTwo hk hK (pc := 3) (a0 := a0) (a1 := a1) (fun r h => cc_m_areTwo l G μ a0 a1 r h) dX6_owes_3 ⟨Nat.le_of_ble_eq_true rfl, Nat.le_of_ble_eq_true rfl⟩ (Nat.le_of_ble_eq_true rfl) (fun r1 => ?_)
  refine jj_if_eq_b hk (pc := 6) 26 dX6_owes_6 (by decide) ?_ ?_
  · refine jj_iconst hk (pc := 26) (v := (-1 : Int32)) dX6_owes_26 (by decide) ?_
    exact jm_retRi hk (pc := 27) dX6_owes_27
  · refine jj_aload_n hk (pc := 9) dX6_owes_9 0 rfl rfl ?_
    refine jm_g_s hk hK (pc := 10) dX6_owes_10 ?_
    refine jj_bipush hk (pc := 13) (v := (76 : Int32)) dX6_owes_13 (by decide) ?_
    refine jj_bipush hk (pc := 15) (v := (6 : Int32)) dX6_owes_15 (by decide) ?_
    refine jj_iload_n hk (pc := 17) dX6_owes_17 1 rfl rfl ?_
    refine jj_imul hk (pc := 18) dX6_owes_18 ?_
    refine jj_iadd hk (pc := 19) dX6_owes_19 ?_
    refine jj_iload_n hk (pc := 20) dX6_owes_20 2 rfl rfl ?_
    refine jj_iadd hk (pc := 21) dX6_owes_21 ?_
    refine jm_ld hk hK (pc := 22) (by decide) dX6_owes_22 (fun v2 => ?_)
    refine jj_goto hk (pc := 23) 27 dX6_owes_23 (by decide) ?_
    exact jm_retRi hk (pc := 27) dX6_owes_27
end
section
variable {p : Program} {l : Launch} {e : Env} {R : Room} {s : State} {m : MethodId} {args : Array Value} {below : List Frame} {meth : Method} {c : Code}
variable {G : jG}
set_option maxHeartbeats 4000000 in
theorem wb_m_netOf_L4 {res : Int32} (hk : jk p R s m args meth c (gn G) cX6_netOf 4 RX6 0 0 (some .int)) (hK : mK G s) (N : Nat) (μ : MS) : ∀ (n : Nat) (x1 : Int32) (x2 : Int32) (x3 : Int32), jj p l e R s m args below meth c (gA G) (gn G) (jZ below args s (gA G) (gn G) (jR μ res) (mWo G) (mnx G)) (mWo G) (mnx G) 4 μ 4 [(0, .ref (gh G)), (1, .int x1), (2, .int x2), (3, .int x3)] [] (m_netOf_L4 N μ n x1 x2 x3 = some res) := by
  intro n
  induction n with
  | zero => intro x1 x2 x3; exact jj_eq (fun hz => by rw [m_netOf_L4] at hz; exact hz) jj_no
  | succ n ih =>
    intro x1 x2 x3
    rw [m_netOf_L4]
    refine jj_iload_n hk (pc := 4) dX6_netOf_4 3 rfl rfl ?_
    refine jj_bipush hk (pc := 5) (v := (6 : Int32)) dX6_netOf_5 (by decide) ?_
    refine jj_icmp_ge hk (pc := 7) 48 dX6_netOf_7 (by decide) ?_ ?_
    · refine jj_iload_n hk (pc := 48) dX6_netOf_48 2 rfl rfl ?_
      exact jm_retRi hk (pc := 49) dX6_netOf_49
    · refine jj_iload_n hk (pc := 10) dX6_netOf_10 2 rfl rfl ?_
      refine jj_aload_n hk (pc := 11) dX6_netOf_11 0 rfl rfl ?_
      refine jm_g_s hk hK (pc := 12) dX6_netOf_12 ?_
      refine jj_bipush hk (pc := 15) (v := (76 : Int32)) dX6_netOf_15 (by decide) ?_
      refine jj_bipush hk (pc := 17) (v := (6 : Int32)) dX6_netOf_17 (by decide) ?_
      refine jj_iload_n hk (pc := 19) dX6_netOf_19 3 rfl rfl ?_
      refine jj_imul hk (pc := 20) dX6_netOf_20 ?_
      refine jj_iadd hk (pc := 21) dX6_netOf_21 ?_
      refine jj_iload_n hk (pc := 22) dX6_netOf_22 1 rfl rfl ?_
      refine jj_iadd hk (pc := 23) dX6_netOf_23 ?_
      refine jm_ld hk hK (pc := 24) (by decide) dX6_netOf_24 (fun v1 => ?_)
      refine jj_aload_n hk (pc := 25) dX6_netOf_25 0 rfl rfl ?_
      refine jm_g_s hk hK (pc := 26) dX6_netOf_26 ?_
      refine jj_bipush hk (pc := 29) (v := (76 : Int32)) dX6_netOf_29 (by decide) ?_
      refine jj_bipush hk (pc := 31) (v := (6 : Int32)) dX6_netOf_31 (by decide) ?_
      refine jj_iload_n hk (pc := 33) dX6_netOf_33 1 rfl rfl ?_
      refine jj_imul hk (pc := 34) dX6_netOf_34 ?_
      refine jj_iadd hk (pc := 35) dX6_netOf_35 ?_
      refine jj_iload_n hk (pc := 36) dX6_netOf_36 3 rfl rfl ?_
      refine jj_iadd hk (pc := 37) dX6_netOf_37 ?_
      refine jm_ld hk hK (pc := 38) (by decide) dX6_netOf_38 (fun v2 => ?_)
      refine jj_isub hk (pc := 39) dX6_netOf_39 ?_
      refine jj_iadd hk (pc := 40) dX6_netOf_40 ?_
      refine jj_istore_n hk (pc := 41) [(2, .int (x2 + (v1 - v2))), (0, .ref (gh G)), (1, .int x1), (3, .int x3)] dX6_netOf_41 rfl (Nat.le_of_ble_eq_true rfl) rfl ?_
      refine jj_iinc hk (pc := 42) [(3, .int (x3 + 1)), (2, .int (x2 + (v1 - v2))), (0, .ref (gh G)), (1, .int x1)] dX6_netOf_42 3 rfl rfl (Nat.le_of_ble_eq_true rfl) rfl ?_
      refine jj_goto hk (pc := 45) 4 dX6_netOf_45 (by decide) ?_
      refine jj_loc [(0, .ref (gh G)), (1, .int x1), (2, .int (x2 + (v1 - v2))), (3, .int (x3 + 1))] [2, 3, 1, 0] rfl ?_
      exact ih x1 (x2 + (v1 - v2)) (x3 + 1)
set_option maxHeartbeats 4000000 in
theorem cc_m_netOf (l : Launch) (G : jG) (N : Nat) (μ : MS) (a0 : Int32) (res : Int32) (hf : m_netOf N μ a0 = some res) : jM l yX6_netOf (ws_ yX6_netOf cX6_netOf 4 (some .int)) 0 0 [.ref (gh G), .int a0] (mWo G) (mnx G) (mK G) μ (jR μ res) (gA G) (gn G) := by
  refine jj_start [(0, .ref (gh G)), (1, .int a0)] (by decide) (Nat.le_of_ble_eq_true rfl) rfl (fun p e R s m args below meth c hk hK hsz => ?_) hf
  have hk : jk p R s m args meth c (gn G) cX6_netOf 4 RX6 0 0 (some .int) := hk
  unfold m_netOf
  refine jj_iconst hk (pc := 0) (v := (0 : Int32)) dX6_netOf_0 (by decide) ?_
  refine jj_istore_n hk (pc := 1) [(2, .int (0 : Int32)), (0, .ref (gh G)), (1, .int a0)] dX6_netOf_1 rfl (Nat.le_of_ble_eq_true rfl) rfl ?_
  refine jj_iconst hk (pc := 2) (v := (0 : Int32)) dX6_netOf_2 (by decide) ?_
  refine jj_istore_n hk (pc := 3) [(3, .int (0 : Int32)), (2, .int (0 : Int32)), (0, .ref (gh G)), (1, .int a0)] dX6_netOf_3 rfl (Nat.le_of_ble_eq_true rfl) rfl ?_
  refine jj_loc [(0, .ref (gh G)), (1, .int a0), (2, .int (0 : Int32)), (3, .int (0 : Int32))] [2, 3, 1, 0] rfl ?_
  exact wb_m_netOf_L4 hk hK N μ N a0 (0 : Int32) (0 : Int32)
end
section
variable {p : Program} {l : Launch} {e : Env} {R : Room} {s : State} {m : MethodId} {args : Array Value} {below : List Frame} {meth : Method} {c : Code}
variable {G : jG}
variable {NX : Nat} {Q : State → Prop} {nL : Nat} {cc : ByteArray} {fr lo frc loc : Nat} {ret : Option FieldType}
variable {pc : Nat} {μ : MS} {lv : List (Nat × Value)} {st : List Value} {ρ : Type} {res : ρ}
theorem kc_m_netOf (hk : jk p R s m args meth c NX cc nL RX6 fr lo ret) (hK : mK G s) {a0 : Int32} {F : Option Int32} {K : Int32 → Option ρ} (hM : ∀ r, F = some r → jM l yX6_netOf (ws_ yX6_netOf cX6_netOf 4 (some .int)) frc loc [.ref (gh G), .int a0] (mWo G) (mnx G) (mK G) μ (jR μ r) (gA G) (gn G)) (hd : decode cc pc = .ok (.invokevirtual 175, 3)) (hr : frc + 1 ≤ fr ∧ 8 + (4 + 11) + loc ≤ lo) (hw : (st.map fun v => v.category).sum ≤ 8) (kk : ∀ r, jj p l e R s m args below meth c (gA G) NX Q (mWo G) (mnx G) nL μ (pc + 3) lv (.int r :: st) (K r = some res)) : jj p l e R s m args below meth c (gA G) NX Q (mWo G) (mnx G) nL μ pc lv (.int a0 :: .ref (gh G) :: st) (F.bind K = some res) :=
  jm_VRi (n := 1) hk hK [.int a0] hM (lw_V q1873 q1875 qs75 q127 q1876) (by decide +kernel) rfl rfl hd hr hw kk
end
section
variable {p : Program} {l : Launch} {e : Env} {R : Room} {s : State} {m : MethodId} {args : Array Value} {below : List Frame} {meth : Method} {c : Code}
variable {G : jG}
set_option maxHeartbeats 4000000 in
theorem cc_m_net (l : Launch) (G : jG) (N : Nat) (μ : MS) (a0 : Int32) (res : Int32) (hf : m_net N μ a0 = some res) : jM l yX6_net (ws_ yX6_net cX6_net 2 (some .int)) 2 46 [.ref (gh G), .int a0] (mWo G) (mnx G) (mK G) μ (jR μ res) (gA G) (gn G) := by
  refine jj_start [(0, .ref (gh G)), (1, .int a0)] (by decide) (Nat.le_of_ble_eq_true rfl) rfl (fun p e R s m args below meth c hk hK hsz => ?_) hf
  have hk : jk p R s m args meth c (gn G) cX6_net 2 RX6 2 46 (some .int) := hk
  unfold m_net
  refine jj_aload_n hk (pc := 0) dX6_net_0 0 rfl rfl ?_
  refine jj_iload_n hk (pc := 1) dX6_net_1 1 rfl rfl ?_
  refine kc_m_isPerson hk hK (pc := 2) (a0 := a0) (fun r h => cc_m_isPerson l G μ a0 r h) dX6_net_2 ⟨Nat.le_of_ble_eq_true rfl, Nat.le_of_ble_eq_true rfl⟩ (Nat.le_of_ble_eq_true rfl) (fun r1 => ?_)
  refine jj_if_eq_b hk (pc := 5) 20 dX6_net_5 (by decide) ?_ ?_
  · refine jj_iconst hk (pc := 20) (v := (-1 : Int32)) dX6_net_20 (by decide) ?_
    exact jm_retRi hk (pc := 21) dX6_net_21
  · refine jj_sipush hk (pc := 8) (v := (10000 : Int32)) dX6_net_8 (by decide) ?_
    refine jj_aload_n hk (pc := 11) dX6_net_11 0 rfl rfl ?_
    refine jj_iload_n hk (pc := 12) dX6_net_12 1 rfl rfl ?_
    refine kc_m_netOf hk hK (pc := 13) (a0 := a0) (fun r h => cc_m_netOf l G N μ a0 r h) dX6_net_13 ⟨Nat.le_of_ble_eq_true rfl, Nat.le_of_ble_eq_true rfl⟩ (Nat.le_of_ble_eq_true rfl) (fun r2 => ?_)
    refine jj_iadd hk (pc := 16) dX6_net_16 ?_
    refine jj_goto hk (pc := 17) 21 dX6_net_17 (by decide) ?_
    exact jm_retRi hk (pc := 21) dX6_net_21
end
section
variable {p : Program} {l : Launch} {e : Env} {R : Room} {s : State} {m : MethodId} {args : Array Value} {below : List Frame} {meth : Method} {c : Code}
variable {G : jG}
set_option maxHeartbeats 4000000 in
theorem wb_m_owedBy_L4 {res : Int32} (hk : jk p R s m args meth c (gn G) cX6_owedBy 4 RX6 0 0 (some .int)) (hK : mK G s) (N : Nat) (μ : MS) : ∀ (n : Nat) (x1 : Int32) (x2 : Int32) (x3 : Int32), jj p l e R s m args below meth c (gA G) (gn G) (jZ below args s (gA G) (gn G) (jR μ res) (mWo G) (mnx G)) (mWo G) (mnx G) 4 μ 4 [(0, .ref (gh G)), (1, .int x1), (2, .int x2), (3, .int x3)] [] (m_owedBy_L4 N μ n x1 x2 x3 = some res) := by
  intro n
  induction n with
  | zero => intro x1 x2 x3; exact jj_eq (fun hz => by rw [m_owedBy_L4] at hz; exact hz) jj_no
  | succ n ih =>
    intro x1 x2 x3
    rw [m_owedBy_L4]
    refine jj_iload_n hk (pc := 4) dX6_owedBy_4 3 rfl rfl ?_
    refine jj_bipush hk (pc := 5) (v := (36 : Int32)) dX6_owedBy_5 (by decide) ?_
    refine jj_icmp_ge hk (pc := 7) 53 dX6_owedBy_7 (by decide) ?_ ?_
    · refine jj_iload_n hk (pc := 53) dX6_owedBy_53 2 rfl rfl ?_
      exact jm_retRi hk (pc := 54) dX6_owedBy_54
    · refine jj_iload_n hk (pc := 10) dX6_owedBy_10 2 rfl rfl ?_
      refine jj_iload_n hk (pc := 11) dX6_owedBy_11 1 rfl rfl ?_
      refine jj_iload_n hk (pc := 12) dX6_owedBy_12 3 rfl rfl ?_
      refine jj_bipush hk (pc := 13) (v := (6 : Int32)) dX6_owedBy_13 (by decide) ?_
      refine jj_idiv hk (pc := 15) dX6_owedBy_15 (by decide) ?_
      refine jj_ishr hk (pc := 16) dX6_owedBy_16 ?_
      refine jj_iconst hk (pc := 17) (v := (1 : Int32)) dX6_owedBy_17 (by decide) ?_
      refine jj_iand hk (pc := 18) dX6_owedBy_18 ?_
      refine jj_iconst hk (pc := 19) (v := (1 : Int32)) dX6_owedBy_19 (by decide) ?_
      refine jj_icmp_ne hk (pc := 20) 44 dX6_owedBy_20 (by decide) ?_ ?_
      · refine jj_iconst hk (pc := 44) (v := (0 : Int32)) dX6_owedBy_44 (by decide) ?_
        refine jj_ior hk (pc := 45) dX6_owedBy_45 ?_
        refine jj_istore_n hk (pc := 46) [(2, .int (x2 ||| (0 : Int32))), (0, .ref (gh G)), (1, .int x1), (3, .int x3)] dX6_owedBy_46 rfl (Nat.le_of_ble_eq_true rfl) rfl ?_
        refine jj_iinc hk (pc := 47) [(3, .int (x3 + 1)), (2, .int (x2 ||| (0 : Int32))), (0, .ref (gh G)), (1, .int x1)] dX6_owedBy_47 3 rfl rfl (Nat.le_of_ble_eq_true rfl) rfl ?_
        refine jj_goto hk (pc := 50) 4 dX6_owedBy_50 (by decide) ?_
        refine jj_loc [(0, .ref (gh G)), (1, .int x1), (2, .int (x2 ||| (0 : Int32))), (3, .int (x3 + 1))] [2, 3, 1, 0] rfl ?_
        exact ih x1 (x2 ||| (0 : Int32)) (x3 + 1)
      · refine jj_aload_n hk (pc := 23) dX6_owedBy_23 0 rfl rfl ?_
        refine jm_g_s hk hK (pc := 24) dX6_owedBy_24 ?_
        refine jj_bipush hk (pc := 27) (v := (76 : Int32)) dX6_owedBy_27 (by decide) ?_
        refine jj_iload_n hk (pc := 29) dX6_owedBy_29 3 rfl rfl ?_
        refine jj_iadd hk (pc := 30) dX6_owedBy_30 ?_
        refine jm_ld hk hK (pc := 31) (by decide) dX6_owedBy_31 (fun v1 => ?_)
        refine jj_if_le hk (pc := 32) 44 dX6_owedBy_32 (by decide) ?_ ?_
        · refine jj_iconst hk (pc := 44) (v := (0 : Int32)) dX6_owedBy_44 (by decide) ?_
          refine jj_ior hk (pc := 45) dX6_owedBy_45 ?_
          refine jj_istore_n hk (pc := 46) [(2, .int (x2 ||| (0 : Int32))), (0, .ref (gh G)), (1, .int x1), (3, .int x3)] dX6_owedBy_46 rfl (Nat.le_of_ble_eq_true rfl) rfl ?_
          refine jj_iinc hk (pc := 47) [(3, .int (x3 + 1)), (2, .int (x2 ||| (0 : Int32))), (0, .ref (gh G)), (1, .int x1)] dX6_owedBy_47 3 rfl rfl (Nat.le_of_ble_eq_true rfl) rfl ?_
          refine jj_goto hk (pc := 50) 4 dX6_owedBy_50 (by decide) ?_
          refine jj_loc [(0, .ref (gh G)), (1, .int x1), (2, .int (x2 ||| (0 : Int32))), (3, .int (x3 + 1))] [2, 3, 1, 0] rfl ?_
          exact ih x1 (x2 ||| (0 : Int32)) (x3 + 1)
        · refine jj_iconst hk (pc := 35) (v := (1 : Int32)) dX6_owedBy_35 (by decide) ?_
          refine jj_iload_n hk (pc := 36) dX6_owedBy_36 3 rfl rfl ?_
          refine jj_bipush hk (pc := 37) (v := (6 : Int32)) dX6_owedBy_37 (by decide) ?_
          refine jj_irem hk (pc := 39) dX6_owedBy_39 (by decide) ?_
          refine jj_ishl hk (pc := 40) dX6_owedBy_40 ?_
          refine jj_goto hk (pc := 41) 45 dX6_owedBy_41 (by decide) ?_
          refine jj_ior hk (pc := 45) dX6_owedBy_45 ?_
          refine jj_istore_n hk (pc := 46) [(2, .int (x2 ||| ((1 : Int32) <<< ((x3 - x3 / (6 : Int32) * (6 : Int32)) &&& 31)))), (0, .ref (gh G)), (1, .int x1), (3, .int x3)] dX6_owedBy_46 rfl (Nat.le_of_ble_eq_true rfl) rfl ?_
          refine jj_iinc hk (pc := 47) [(3, .int (x3 + 1)), (2, .int (x2 ||| ((1 : Int32) <<< ((x3 - x3 / (6 : Int32) * (6 : Int32)) &&& 31)))), (0, .ref (gh G)), (1, .int x1)] dX6_owedBy_47 3 rfl rfl (Nat.le_of_ble_eq_true rfl) rfl ?_
          refine jj_goto hk (pc := 50) 4 dX6_owedBy_50 (by decide) ?_
          refine jj_loc [(0, .ref (gh G)), (1, .int x1), (2, .int (x2 ||| ((1 : Int32) <<< ((x3 - x3 / (6 : Int32) * (6 : Int32)) &&& 31)))), (3, .int (x3 + 1))] [2, 3, 1, 0] rfl ?_
          exact ih x1 (x2 ||| ((1 : Int32) <<< ((x3 - x3 / (6 : Int32) * (6 : Int32)) &&& 31))) (x3 + 1)
set_option maxHeartbeats 4000000 in
theorem cc_m_owedBy (l : Launch) (G : jG) (N : Nat) (μ : MS) (a0 : Int32) (res : Int32) (hf : m_owedBy N μ a0 = some res) : jM l yX6_owedBy (ws_ yX6_owedBy cX6_owedBy 4 (some .int)) 0 0 [.ref (gh G), .int a0] (mWo G) (mnx G) (mK G) μ (jR μ res) (gA G) (gn G) := by
  refine jj_start [(0, .ref (gh G)), (1, .int a0)] (by decide) (Nat.le_of_ble_eq_true rfl) rfl (fun p e R s m args below meth c hk hK hsz => ?_) hf
  have hk : jk p R s m args meth c (gn G) cX6_owedBy 4 RX6 0 0 (some .int) := hk
  unfold m_owedBy
  refine jj_iconst hk (pc := 0) (v := (0 : Int32)) dX6_owedBy_0 (by decide) ?_
  refine jj_istore_n hk (pc := 1) [(2, .int (0 : Int32)), (0, .ref (gh G)), (1, .int a0)] dX6_owedBy_1 rfl (Nat.le_of_ble_eq_true rfl) rfl ?_
  refine jj_iconst hk (pc := 2) (v := (0 : Int32)) dX6_owedBy_2 (by decide) ?_
  refine jj_istore_n hk (pc := 3) [(3, .int (0 : Int32)), (2, .int (0 : Int32)), (0, .ref (gh G)), (1, .int a0)] dX6_owedBy_3 rfl (Nat.le_of_ble_eq_true rfl) rfl ?_
  refine jj_loc [(0, .ref (gh G)), (1, .int a0), (2, .int (0 : Int32)), (3, .int (0 : Int32))] [2, 3, 1, 0] rfl ?_
  exact wb_m_owedBy_L4 hk hK N μ N a0 (0 : Int32) (0 : Int32)
end
section
variable {p : Program} {l : Launch} {e : Env} {R : Room} {s : State} {m : MethodId} {args : Array Value} {below : List Frame} {meth : Method} {c : Code}
variable {G : jG}
variable {NX : Nat} {Q : State → Prop} {nL : Nat} {cc : ByteArray} {fr lo frc loc : Nat} {ret : Option FieldType}
variable {pc : Nat} {μ : MS} {lv : List (Nat × Value)} {st : List Value} {ρ : Type} {res : ρ}
theorem kc_m_owedBy (hk : jk p R s m args meth c NX cc nL RX6 fr lo ret) (hK : mK G s) {a0 : Int32} {F : Option Int32} {K : Int32 → Option ρ} (hM : ∀ r, F = some r → jM l yX6_owedBy (ws_ yX6_owedBy cX6_owedBy 4 (some .int)) frc loc [.ref (gh G), .int a0] (mWo G) (mnx G) (mK G) μ (jR μ r) (gA G) (gn G)) (hd : decode cc pc = .ok (.invokevirtual 178, 3)) (hr : frc + 1 ≤ fr ∧ 8 + (4 + 11) + loc ≤ lo) (hw : (st.map fun v => v.category).sum ≤ 8) (kk : ∀ r, jj p l e R s m args below meth c (gA G) NX Q (mWo G) (mnx G) nL μ (pc + 3) lv (.int r :: st) (K r = some res)) : jj p l e R s m args below meth c (gA G) NX Q (mWo G) (mnx G) nL μ pc lv (.int a0 :: .ref (gh G) :: st) (F.bind K = some res) :=
  jm_VRi (n := 1) hk hK [.int a0] hM (lw_V q1881 q1883 qs76 q127 q1884) (by decide +kernel) rfl rfl hd hr hw kk
end
section
variable {p : Program} {l : Launch} {e : Env} {R : Room} {s : State} {m : MethodId} {args : Array Value} {below : List Frame} {meth : Method} {c : Code}
variable {G : jG}
set_option maxHeartbeats 4000000 in
theorem wb_m_ring_L16 {res : Int32} (hk : jk p R s m args meth c (gn G) cX6_ring 4 RX6 2 46 (some .int)) (hK : mK G s) (N : Nat) (μ : MS) : ∀ (n : Nat) (x1 : Int32) (x2 : Int32) (x3 : Int32), jj p l e R s m args below meth c (gA G) (gn G) (jZ below args s (gA G) (gn G) (jR μ res) (mWo G) (mnx G)) (mWo G) (mnx G) 4 μ 16 [(0, .ref (gh G)), (1, .int x1), (2, .int x2), (3, .int x3)] [] (m_ring_L16 N μ n x1 x2 x3 = some res) := by
  intro n
  induction n with
  | zero => intro x1 x2 x3; exact jj_eq (fun hz => by rw [m_ring_L16] at hz; exact hz) jj_no
  | succ n ih =>
    intro x1 x2 x3
    rw [m_ring_L16]
    refine jj_iload_n hk (pc := 16) dX6_ring_16 3 rfl rfl ?_
    refine jj_bipush hk (pc := 17) (v := (6 : Int32)) dX6_ring_17 (by decide) ?_
    refine jj_icmp_gt hk (pc := 19) 45 dX6_ring_19 (by decide) ?_ ?_
    · refine jj_bipush hk (pc := 45) (v := (-3 : Int32)) dX6_ring_45 (by decide) ?_
      exact jm_retRi hk (pc := 47) dX6_ring_47
    · refine jj_aload_n hk (pc := 22) dX6_ring_22 0 rfl rfl ?_
      refine jj_iload_n hk (pc := 23) dX6_ring_23 2 rfl rfl ?_
      refine kc_m_owedBy hk hK (pc := 24) (a0 := x2) (fun r h => cc_m_owedBy l G N μ x2 r h) dX6_ring_24 ⟨Nat.le_of_ble_eq_true rfl, Nat.le_of_ble_eq_true rfl⟩ (Nat.le_of_ble_eq_true rfl) (fun r1 => ?_)
      refine jj_istore_n hk (pc := 27) [(2, .int r1), (0, .ref (gh G)), (1, .int x1), (3, .int x3)] dX6_ring_27 rfl (Nat.le_of_ble_eq_true rfl) rfl ?_
      refine jj_iload_n hk (pc := 28) dX6_ring_28 0 rfl rfl ?_
      refine jj_iload_n hk (pc := 29) dX6_ring_29 2 rfl rfl ?_
      refine jj_ishr hk (pc := 30) dX6_ring_30 ?_
      refine jj_iconst hk (pc := 31) (v := (1 : Int32)) dX6_ring_31 (by decide) ?_
      refine jj_iand hk (pc := 32) dX6_ring_32 ?_
      refine jj_iconst hk (pc := 33) (v := (1 : Int32)) dX6_ring_33 (by decide) ?_
      refine jj_icmp_ne hk (pc := 34) 39 dX6_ring_34 (by decide) ?_ ?_
      · refine jj_iinc hk (pc := 39) [(3, .int (x3 + 1)), (2, .int r1), (0, .ref (gh G)), (1, .int x1)] dX6_ring_39 3 rfl rfl (Nat.le_of_ble_eq_true rfl) rfl ?_
        refine jj_goto hk (pc := 42) 16 dX6_ring_42 (by decide) ?_
        refine jj_loc [(0, .ref (gh G)), (1, .int x1), (2, .int r1), (3, .int (x3 + 1))] [2, 3, 1, 0] rfl ?_
        exact ih x1 r1 (x3 + 1)
      · refine jj_iload_n hk (pc := 37) dX6_ring_37 3 rfl rfl ?_
        exact jm_retRi hk (pc := 38) dX6_ring_38
set_option maxHeartbeats 4000000 in
theorem cc_m_ring (l : Launch) (G : jG) (N : Nat) (μ : MS) (a0 : Int32) (res : Int32) (hf : m_ring N μ a0 = some res) : jM l yX6_ring (ws_ yX6_ring cX6_ring 4 (some .int)) 2 46 [.ref (gh G), .int a0] (mWo G) (mnx G) (mK G) μ (jR μ res) (gA G) (gn G) := by
  refine jj_start [(0, .ref (gh G)), (1, .int a0)] (by decide) (Nat.le_of_ble_eq_true rfl) rfl (fun p e R s m args below meth c hk hK hsz => ?_) hf
  have hk : jk p R s m args meth c (gn G) cX6_ring 4 RX6 2 46 (some .int) := hk
  unfold m_ring
  refine jj_aload_n hk (pc := 0) dX6_ring_0 0 rfl rfl ?_
  refine jj_iload_n hk (pc := 1) dX6_ring_1 1 rfl rfl ?_
  refine kc_m_isPerson hk hK (pc := 2) (a0 := a0) (fun r h => cc_m_isPerson l G μ a0 r h) dX6_ring_2 ⟨Nat.le_of_ble_eq_true rfl, Nat.le_of_ble_eq_true rfl⟩ (Nat.le_of_ble_eq_true rfl) (fun r1 => ?_)
  refine jj_if_ne_b hk (pc := 5) 10 dX6_ring_5 (by decide) ?_ ?_
  · refine jj_iconst hk (pc := 10) (v := (1 : Int32)) dX6_ring_10 (by decide) ?_
    refine jj_iload_n hk (pc := 11) dX6_ring_11 1 rfl rfl ?_
    refine jj_ishl hk (pc := 12) dX6_ring_12 ?_
    refine jj_istore_n hk (pc := 13) [(2, .int ((1 : Int32) <<< (a0 &&& 31))), (0, .ref (gh G)), (1, .int a0)] dX6_ring_13 rfl (Nat.le_of_ble_eq_true rfl) rfl ?_
    refine jj_iconst hk (pc := 14) (v := (1 : Int32)) dX6_ring_14 (by decide) ?_
    refine jj_istore_n hk (pc := 15) [(3, .int (1 : Int32)), (2, .int ((1 : Int32) <<< (a0 &&& 31))), (0, .ref (gh G)), (1, .int a0)] dX6_ring_15 rfl (Nat.le_of_ble_eq_true rfl) rfl ?_
    refine jj_loc [(0, .ref (gh G)), (1, .int a0), (2, .int ((1 : Int32) <<< (a0 &&& 31))), (3, .int (1 : Int32))] [2, 3, 1, 0] rfl ?_
    exact wb_m_ring_L16 hk hK N μ N a0 ((1 : Int32) <<< (a0 &&& 31)) (1 : Int32)
  · refine jj_iconst hk (pc := 8) (v := (-1 : Int32)) dX6_ring_8 (by decide) ?_
    exact jm_retRi hk (pc := 9) dX6_ring_9
end
section
variable {p : Program} {l : Launch} {e : Env} {R : Room} {s : State} {m : MethodId} {args : Array Value} {below : List Frame} {meth : Method} {c : Code}
variable {G : jG}
set_option maxHeartbeats 4000000 in
theorem wb_m_payments_L184 {res : (Int32 × MS)} (hk : jk p R s m args meth c (gn G) cX6_payments 5 RX6 1 23 (some .int)) (hK : mK G s) (N : Nat) : ∀ (n : Nat) (μ : MS) (x1 : Int32) (x2 : Int32) (x3 : Int32), jj p l e R s m args below meth c (gA G) (gn G) (jZ below args s (gA G) (gn G) (jU res) (mWo G) (mnx G)) (mWo G) (mnx G) 5 μ 184 [(0, .ref (gh G)), (1, .int x1), (2, .int x2), (3, .int x3)] [] (m_payments_L184 N n μ x1 x2 x3 = some res) := by
  intro n
  induction n with
  | zero => intro μ x1 x2 x3; exact jj_eq (fun hz => by rw [m_payments_L184] at hz; exact hz) jj_no
  | succ n ih =>
    intro μ x1 x2 x3
    rw [m_payments_L184]
    refine jj_iload_n hk (pc := 184) dX6_payments_184 3 rfl rfl ?_
    refine jj_if_eq hk (pc := 185) 200 dX6_payments_185 (by decide) ?_ ?_
    · refine jj_iload_n hk (pc := 200) dX6_payments_200 2 rfl rfl ?_
      refine jj_aload_n hk (pc := 201) dX6_payments_201 0 rfl rfl ?_
      refine jm_g_partsOf hk hK (pc := 202) dX6_payments_202 ?_
      refine jj_iload_n hk (pc := 205) dX6_payments_205 1 rfl rfl ?_
      refine jm_ld hk hK (pc := 206) (by decide) dX6_payments_206 (fun v1 => ?_)
      refine jj_isub hk (pc := 207) dX6_payments_207 ?_
      exact jm_retUi hk (pc := 208) dX6_payments_208
    · refine jj_iinc hk (pc := 188) [(2, .int (x2 + 1)), (0, .ref (gh G)), (1, .int x1), (3, .int x3)] dX6_payments_188 2 rfl rfl (Nat.le_of_ble_eq_true rfl) rfl ?_
      refine jj_iload_n hk (pc := 191) dX6_payments_191 3 rfl rfl ?_
      refine jj_iload_n hk (pc := 192) dX6_payments_192 3 rfl rfl ?_
      refine jj_iconst hk (pc := 193) (v := (1 : Int32)) dX6_payments_193 (by decide) ?_
      refine jj_isub hk (pc := 194) dX6_payments_194 ?_
      refine jj_iand hk (pc := 195) dX6_payments_195 ?_
      refine jj_istore_n hk (pc := 196) [(3, .int (x3 &&& (x3 - (1 : Int32)))), (2, .int (x2 + 1)), (0, .ref (gh G)), (1, .int x1)] dX6_payments_196 rfl (Nat.le_of_ble_eq_true rfl) rfl ?_
      refine jj_goto hk (pc := 197) 184 dX6_payments_197 (by decide) ?_
      refine jj_loc [(0, .ref (gh G)), (1, .int x1), (2, .int (x2 + 1)), (3, .int (x3 &&& (x3 - (1 : Int32))))] [2, 3, 1, 0] rfl ?_
      exact ih μ x1 (x2 + 1) (x3 &&& (x3 - (1 : Int32)))
set_option maxHeartbeats 4000000 in
theorem wb_m_payments_L150 {res : (Int32 × MS)} (hk : jk p R s m args meth c (gn G) cX6_payments 5 RX6 1 23 (some .int)) (hK : mK G s) (N : Nat) : ∀ (n : Nat) (μ : MS) (x1 : Int32) (x2 : Int32), jj p l e R s m args below meth c (gA G) (gn G) (jZ below args s (gA G) (gn G) (jU res) (mWo G) (mnx G)) (mWo G) (mnx G) 5 μ 150 [(0, .ref (gh G)), (1, .int x1), (2, .int x2)] [] (m_payments_L150 N n μ x1 x2 = some res) := by
  intro n
  induction n with
  | zero => intro μ x1 x2; exact jj_eq (fun hz => by rw [m_payments_L150] at hz; exact hz) jj_no
  | succ n ih =>
    intro μ x1 x2
    rw [m_payments_L150]
    refine jj_iload_n hk (pc := 150) dX6_payments_150 2 rfl rfl ?_
    refine jj_bipush hk (pc := 151) (v := (6 : Int32)) dX6_payments_151 (by decide) ?_
    refine jj_icmp_ge hk (pc := 153) 180 dX6_payments_153 (by decide) ?_ ?_
    · refine jj_iconst hk (pc := 180) (v := (0 : Int32)) dX6_payments_180 (by decide) ?_
      refine jj_istore_n hk (pc := 181) [(2, .int (0 : Int32)), (0, .ref (gh G)), (1, .int x1)] dX6_payments_181 rfl (Nat.le_of_ble_eq_true rfl) rfl ?_
      refine jj_iload_n hk (pc := 182) dX6_payments_182 2 rfl rfl ?_
      refine jj_istore_n hk (pc := 183) [(3, .int x1), (2, .int (0 : Int32)), (0, .ref (gh G)), (1, .int x1)] dX6_payments_183 rfl (Nat.le_of_ble_eq_true rfl) rfl ?_
      refine jj_loc [(0, .ref (gh G)), (1, .int x1), (2, .int (0 : Int32)), (3, .int x1)] [2, 3, 1, 0] rfl ?_
      exact wb_m_payments_L184 hk hK N N μ x1 (0 : Int32) x1
    · refine jj_iload_n hk (pc := 156) dX6_payments_156 1 rfl rfl ?_
      refine jj_aload_n hk (pc := 157) dX6_payments_157 0 rfl rfl ?_
      refine jj_iload_n hk (pc := 158) dX6_payments_158 2 rfl rfl ?_
      refine kc_m_netOf hk hK (pc := 159) (a0 := x2) (fun r h => cc_m_netOf l G N μ x2 r h) dX6_payments_159 ⟨Nat.le_of_ble_eq_true rfl, Nat.le_of_ble_eq_true rfl⟩ (Nat.le_of_ble_eq_true rfl) (fun r1 => ?_)
      refine jj_if_eq hk (pc := 162) 171 dX6_payments_162 (by decide) ?_ ?_
      · refine jj_iconst hk (pc := 171) (v := (0 : Int32)) dX6_payments_171 (by decide) ?_
        refine jj_ior hk (pc := 172) dX6_payments_172 ?_
        refine jj_istore_n hk (pc := 173) [(1, .int (x1 ||| (0 : Int32))), (0, .ref (gh G)), (2, .int x2)] dX6_payments_173 rfl (Nat.le_of_ble_eq_true rfl) rfl ?_
        refine jj_iinc hk (pc := 174) [(2, .int (x2 + 1)), (1, .int (x1 ||| (0 : Int32))), (0, .ref (gh G))] dX6_payments_174 2 rfl rfl (Nat.le_of_ble_eq_true rfl) rfl ?_
        refine jj_goto hk (pc := 177) 150 dX6_payments_177 (by decide) ?_
        refine jj_loc [(0, .ref (gh G)), (1, .int (x1 ||| (0 : Int32))), (2, .int (x2 + 1))] [2, 1, 0] rfl ?_
        exact ih μ (x1 ||| (0 : Int32)) (x2 + 1)
      · refine jj_iconst hk (pc := 165) (v := (1 : Int32)) dX6_payments_165 (by decide) ?_
        refine jj_iload_n hk (pc := 166) dX6_payments_166 2 rfl rfl ?_
        refine jj_ishl hk (pc := 167) dX6_payments_167 ?_
        refine jj_goto hk (pc := 168) 172 dX6_payments_168 (by decide) ?_
        refine jj_ior hk (pc := 172) dX6_payments_172 ?_
        refine jj_istore_n hk (pc := 173) [(1, .int (x1 ||| ((1 : Int32) <<< (x2 &&& 31)))), (0, .ref (gh G)), (2, .int x2)] dX6_payments_173 rfl (Nat.le_of_ble_eq_true rfl) rfl ?_
        refine jj_iinc hk (pc := 174) [(2, .int (x2 + 1)), (1, .int (x1 ||| ((1 : Int32) <<< (x2 &&& 31)))), (0, .ref (gh G))] dX6_payments_174 2 rfl rfl (Nat.le_of_ble_eq_true rfl) rfl ?_
        refine jj_goto hk (pc := 177) 150 dX6_payments_177 (by decide) ?_
        refine jj_loc [(0, .ref (gh G)), (1, .int (x1 ||| ((1 : Int32) <<< (x2 &&& 31)))), (2, .int (x2 + 1))] [2, 1, 0] rfl ?_
        exact ih μ (x1 ||| ((1 : Int32) <<< (x2 &&& 31))) (x2 + 1)
set_option maxHeartbeats 4000000 in
theorem wb_m_payments_B63 {res : (Int32 × MS)} (hk : jk p R s m args meth c (gn G) cX6_payments 5 RX6 1 23 (some .int)) (hK : mK G s) (N : Nat) {k4 : MS → Bool → Int32 → Option (Int32 × MS)} (hk4 : ∀ (μ : MS) (x1 : Bool) (x2 : Int32), jj p l e R s m args below meth c (gA G) (gn G) (jZ below args s (gA G) (gn G) (jU res) (mWo G) (mnx G)) (mWo G) (mnx G) 5 μ 4 [(0, .ref (gh G)), (1, .int (bI x1)), (2, .int x2)] [] (k4 μ x1 x2 = some res)) {k26 : MS → Bool → Int32 → Int32 → Option (Int32 × MS)} (hk26 : ∀ (μ : MS) (x1 : Bool) (x2 : Int32) (x3 : Int32), jj p l e R s m args below meth c (gA G) (gn G) (jZ below args s (gA G) (gn G) (jU res) (mWo G) (mnx G)) (mWo G) (mnx G) 5 μ 26 [(0, .ref (gh G)), (1, .int (bI x1)), (2, .int x2), (3, .int x3)] [] (k26 μ x1 x2 x3 = some res)) (μ : MS) (x1 : Bool) (x2 : Int32) (x3 : Int32) (x4 : Int32) (y0 : Int32) (y1 : Int32) (y2 : Int32) : jj p l e R s m args below meth c (gA G) (gn G) (jZ below args s (gA G) (gn G) (jU res) (mWo G) (mnx G)) (mWo G) (mnx G) 5 μ 63 [(0, .ref (gh G)), (1, .int (bI x1)), (2, .int x2), (3, .int x3), (4, .int x4)] [.int y0, .int y1, .int y2, .ref (ga G 4)] (m_payments_B63 N k4 k26 μ x1 x2 x3 x4 y0 y1 y2 = some res) := by
  unfold m_payments_B63
  refine jj_iadd hk (pc := 63) dX6_payments_63 ?_
  refine jm_st hk hK (pc := 64) (by decide) dX6_payments_64 (fun μ1 => ?_)
  refine jj_aload_n hk (pc := 65) dX6_payments_65 0 rfl rfl ?_
  refine jm_g_partsOf hk hK (pc := 66) dX6_payments_66 ?_
  refine jj_iload_n hk (pc := 69) dX6_payments_69 2 rfl rfl ?_
  refine jj_iload hk (pc := 70) dX6_payments_70 4 rfl ?_
  refine jj_iload_n hk (pc := 72) dX6_payments_72 2 rfl rfl ?_
  refine jj_icmp_eq hk (pc := 73) 102 dX6_payments_73 (by decide) ?_ ?_
  · refine jj_aload_n hk (pc := 102) dX6_payments_102 0 rfl rfl ?_
    refine jm_g_partsOf hk hK (pc := 103) dX6_payments_103 ?_
    refine jj_iload_n hk (pc := 106) dX6_payments_106 2 rfl rfl ?_
    refine jm_ld hk hK (pc := 107) (by decide) dX6_payments_107 (fun v2 => ?_)
    refine jm_st hk hK (pc := 108) (by decide) dX6_payments_108 (fun μ3 => ?_)
    refine jj_iinc hk (pc := 109) [(3, .int (x3 + 1)), (0, .ref (gh G)), (1, .int (bI x1)), (2, .int x2), (4, .int x4)] dX6_payments_109 3 rfl rfl (Nat.le_of_ble_eq_true rfl) rfl ?_
    refine jj_goto hk (pc := 112) 26 dX6_payments_112 (by decide) ?_
    refine jj_loc [(0, .ref (gh G)), (1, .int (bI x1)), (2, .int x2), (3, .int (x3 + 1))] [1, 2, 3, 0] rfl ?_
    exact hk26 μ3 x1 x2 (x3 + 1)
  · refine jj_aload_n hk (pc := 76) dX6_payments_76 0 rfl rfl ?_
    refine jm_g_partsOf hk hK (pc := 77) dX6_payments_77 ?_
    refine jj_iload hk (pc := 80) dX6_payments_80 4 rfl ?_
    refine jm_ld hk hK (pc := 82) (by decide) dX6_payments_82 (fun v4 => ?_)
    refine jj_aload_n hk (pc := 83) dX6_payments_83 0 rfl rfl ?_
    refine jm_g_partsOf hk hK (pc := 84) dX6_payments_84 ?_
    refine jj_iload_n hk (pc := 87) dX6_payments_87 2 rfl rfl ?_
    refine jm_ld hk hK (pc := 88) (by decide) dX6_payments_88 (fun v5 => ?_)
    refine jj_icmp_le hk (pc := 89) 102 dX6_payments_89 (by decide) ?_ ?_
    · refine jj_aload_n hk (pc := 102) dX6_payments_102 0 rfl rfl ?_
      refine jm_g_partsOf hk hK (pc := 103) dX6_payments_103 ?_
      refine jj_iload_n hk (pc := 106) dX6_payments_106 2 rfl rfl ?_
      refine jm_ld hk hK (pc := 107) (by decide) dX6_payments_107 (fun v6 => ?_)
      refine jm_st hk hK (pc := 108) (by decide) dX6_payments_108 (fun μ7 => ?_)
      refine jj_iinc hk (pc := 109) [(3, .int (x3 + 1)), (0, .ref (gh G)), (1, .int (bI x1)), (2, .int x2), (4, .int x4)] dX6_payments_109 3 rfl rfl (Nat.le_of_ble_eq_true rfl) rfl ?_
      refine jj_goto hk (pc := 112) 26 dX6_payments_112 (by decide) ?_
      refine jj_loc [(0, .ref (gh G)), (1, .int (bI x1)), (2, .int x2), (3, .int (x3 + 1))] [1, 2, 3, 0] rfl ?_
      exact hk26 μ7 x1 x2 (x3 + 1)
    · refine jj_aload_n hk (pc := 92) dX6_payments_92 0 rfl rfl ?_
      refine jm_g_partsOf hk hK (pc := 93) dX6_payments_93 ?_
      refine jj_iload hk (pc := 96) dX6_payments_96 4 rfl ?_
      refine jm_ld hk hK (pc := 98) (by decide) dX6_payments_98 (fun v8 => ?_)
      refine jj_goto hk (pc := 99) 108 dX6_payments_99 (by decide) ?_
      refine jm_st hk hK (pc := 108) (by decide) dX6_payments_108 (fun μ9 => ?_)
      refine jj_iinc hk (pc := 109) [(3, .int (x3 + 1)), (0, .ref (gh G)), (1, .int (bI x1)), (2, .int x2), (4, .int x4)] dX6_payments_109 3 rfl rfl (Nat.le_of_ble_eq_true rfl) rfl ?_
      refine jj_goto hk (pc := 112) 26 dX6_payments_112 (by decide) ?_
      refine jj_loc [(0, .ref (gh G)), (1, .int (bI x1)), (2, .int x2), (3, .int (x3 + 1))] [1, 2, 3, 0] rfl ?_
      exact hk26 μ9 x1 x2 (x3 + 1)
set_option maxHeartbeats 4000000 in
theorem wb_m_payments_L26 {res : (Int32 × MS)} (hk : jk p R s m args meth c (gn G) cX6_payments 5 RX6 1 23 (some .int)) (hK : mK G s) (N : Nat) {k4 : MS → Bool → Int32 → Option (Int32 × MS)} (hk4 : ∀ (μ : MS) (x1 : Bool) (x2 : Int32), jj p l e R s m args below meth c (gA G) (gn G) (jZ below args s (gA G) (gn G) (jU res) (mWo G) (mnx G)) (mWo G) (mnx G) 5 μ 4 [(0, .ref (gh G)), (1, .int (bI x1)), (2, .int x2)] [] (k4 μ x1 x2 = some res)) : ∀ (n : Nat) (μ : MS) (x1 : Bool) (x2 : Int32) (x3 : Int32), jj p l e R s m args below meth c (gA G) (gn G) (jZ below args s (gA G) (gn G) (jU res) (mWo G) (mnx G)) (mWo G) (mnx G) 5 μ 26 [(0, .ref (gh G)), (1, .int (bI x1)), (2, .int x2), (3, .int x3)] [] (m_payments_L26 N k4 n μ x1 x2 x3 = some res) := by
  intro n
  induction n with
  | zero => intro μ x1 x2 x3; exact jj_eq (fun hz => by rw [m_payments_L26] at hz; exact hz) jj_no
  | succ n ih =>
    intro μ x1 x2 x3
    rw [m_payments_L26]
    refine jj_iload_n hk (pc := 26) dX6_payments_26 3 rfl rfl ?_
    refine jj_bipush hk (pc := 27) (v := (6 : Int32)) dX6_payments_27 (by decide) ?_
    refine jj_icmp_ge hk (pc := 29) 115 dX6_payments_29 (by decide) ?_ ?_
    · refine jj_aload_n hk (pc := 115) dX6_payments_115 0 rfl rfl ?_
      refine jm_g_partsOf hk hK (pc := 116) dX6_payments_116 ?_
      refine jj_iload_n hk (pc := 119) dX6_payments_119 2 rfl rfl ?_
      refine jj_dup2 hk (pc := 120) dX6_payments_120 rfl rfl ?_
      refine jm_ld hk hK (pc := 121) (by decide) dX6_payments_121 (fun v1 => ?_)
      refine jj_iload_n hk (pc := 122) dX6_payments_122 2 rfl rfl ?_
      refine jj_if_eq hk (pc := 123) 139 dX6_payments_123 (by decide) ?_ ?_
      · refine jj_iconst hk (pc := 139) (v := (0 : Int32)) dX6_payments_139 (by decide) ?_
        refine jj_iadd hk (pc := 140) dX6_payments_140 ?_
        refine jm_st hk hK (pc := 141) (by decide) dX6_payments_141 (fun μ2 => ?_)
        refine jj_iinc hk (pc := 142) [(2, .int (x2 + 1)), (0, .ref (gh G)), (1, .int (bI x1)), (3, .int x3)] dX6_payments_142 2 rfl rfl (Nat.le_of_ble_eq_true rfl) rfl ?_
        refine jj_goto hk (pc := 145) 4 dX6_payments_145 (by decide) ?_
        refine jj_loc [(0, .ref (gh G)), (1, .int (bI x1)), (2, .int (x2 + 1))] [1, 2, 0] rfl ?_
        exact hk4 μ2 x1 (x2 + 1)
      · refine jj_aload_n hk (pc := 126) dX6_payments_126 0 rfl rfl ?_
        refine jm_g_nets hk hK (pc := 127) dX6_payments_127 ?_
        refine jj_iload_n hk (pc := 130) dX6_payments_130 2 rfl rfl ?_
        refine jm_ld hk hK (pc := 131) (by decide) dX6_payments_131 (fun v3 => ?_)
        refine jj_if_ne hk (pc := 132) 139 dX6_payments_132 (by decide) ?_ ?_
        · refine jj_iconst hk (pc := 139) (v := (0 : Int32)) dX6_payments_139 (by decide) ?_
          refine jj_iadd hk (pc := 140) dX6_payments_140 ?_
          refine jm_st hk hK (pc := 141) (by decide) dX6_payments_141 (fun μ4 => ?_)
          refine jj_iinc hk (pc := 142) [(2, .int (x2 + 1)), (0, .ref (gh G)), (1, .int (bI x1)), (3, .int x3)] dX6_payments_142 2 rfl rfl (Nat.le_of_ble_eq_true rfl) rfl ?_
          refine jj_goto hk (pc := 145) 4 dX6_payments_145 (by decide) ?_
          refine jj_loc [(0, .ref (gh G)), (1, .int (bI x1)), (2, .int (x2 + 1))] [1, 2, 0] rfl ?_
          exact hk4 μ4 x1 (x2 + 1)
        · refine jj_iconst hk (pc := 135) (v := (1 : Int32)) dX6_payments_135 (by decide) ?_
          refine jj_goto hk (pc := 136) 140 dX6_payments_136 (by decide) ?_
          refine jj_iadd hk (pc := 140) dX6_payments_140 ?_
          refine jm_st hk hK (pc := 141) (by decide) dX6_payments_141 (fun μ5 => ?_)
          refine jj_iinc hk (pc := 142) [(2, .int (x2 + 1)), (0, .ref (gh G)), (1, .int (bI x1)), (3, .int x3)] dX6_payments_142 2 rfl rfl (Nat.le_of_ble_eq_true rfl) rfl ?_
          refine jj_goto hk (pc := 145) 4 dX6_payments_145 (by decide) ?_
          refine jj_loc [(0, .ref (gh G)), (1, .int (bI x1)), (2, .int (x2 + 1))] [1, 2, 0] rfl ?_
          exact hk4 μ5 x1 (x2 + 1)
    · refine jj_iload_n hk (pc := 32) dX6_payments_32 2 rfl rfl ?_
      refine jj_iconst hk (pc := 33) (v := (1 : Int32)) dX6_payments_33 (by decide) ?_
      refine jj_iload_n hk (pc := 34) dX6_payments_34 3 rfl rfl ?_
      refine jj_ishl hk (pc := 35) dX6_payments_35 ?_
      refine jj_iconst hk (pc := 36) (v := (-1 : Int32)) dX6_payments_36 (by decide) ?_
      refine jj_ixor hk (pc := 37) dX6_payments_37 ?_
      refine jj_iand hk (pc := 38) dX6_payments_38 ?_
      refine jj_istore hk (pc := 39) [(4, .int (x2 &&& (((1 : Int32) <<< (x3 &&& 31)) ^^^ (-1 : Int32)))), (0, .ref (gh G)), (1, .int (bI x1)), (2, .int x2), (3, .int x3)] dX6_payments_39 (Nat.le_of_ble_eq_true rfl) rfl ?_
      refine jj_aload_n hk (pc := 41) dX6_payments_41 1 rfl rfl ?_
      refine jm_g_nets hk hK (pc := 42) dX6_payments_42 ?_
      refine jj_iload_n hk (pc := 45) dX6_payments_45 3 rfl rfl ?_
      refine jj_dup2 hk (pc := 46) dX6_payments_46 rfl rfl ?_
      refine jm_ld hk hK (pc := 47) (by decide) dX6_payments_47 (fun v6 => ?_)
      refine jj_iload hk (pc := 48) dX6_payments_48 0 rfl ?_
      refine jj_iload_n hk (pc := 50) dX6_payments_50 3 rfl rfl ?_
      refine jj_icmp_eq hk (pc := 51) 62 dX6_payments_51 (by decide) ?_ ?_
      · refine jj_iconst hk (pc := 62) (v := (0 : Int32)) dX6_payments_62 (by decide) ?_
        refine jj_loc [(0, .ref (gh G)), (1, .int (bI x1)), (2, .int x2), (3, .int x3), (4, .int (x2 &&& (((1 : Int32) <<< (x3 &&& 31)) ^^^ (-1 : Int32))))] [1, 2, 3, 4, 0] rfl ?_
        exact wb_m_payments_B63 hk hK N hk4 ih μ x1 x2 x3 (x2 &&& (((1 : Int32) <<< (x3 &&& 31)) ^^^ (-1 : Int32))) (0 : Int32) v6 x2
      · refine jj_aload_n hk (pc := 54) dX6_payments_54 1 rfl rfl ?_
        refine jj_iload_n hk (pc := 55) dX6_payments_55 4 rfl rfl ?_
        refine kc_m_netOf hk hK (pc := 56) (a0 := x3) (fun r h => cc_m_netOf l G N μ x3 r h) dX6_payments_56 ⟨Nat.le_of_ble_eq_true rfl, Nat.le_of_ble_eq_true rfl⟩ (Nat.le_of_ble_eq_true rfl) (fun r7 => ?_)
        refine jj_goto hk (pc := 59) 63 dX6_payments_59 (by decide) ?_
        refine jj_loc [(0, .ref (gh G)), (1, .int (bI x1)), (2, .int x2), (3, .int x3), (4, .int (x2 &&& (((1 : Int32) <<< (x3 &&& 31)) ^^^ (-1 : Int32))))] [1, 2, 3, 4, 0] rfl ?_
        exact wb_m_payments_B63 hk hK N hk4 ih μ x1 x2 x3 (x2 &&& (((1 : Int32) <<< (x3 &&& 31)) ^^^ (-1 : Int32))) r7 v6 x2
set_option maxHeartbeats 4000000 in
theorem wb_m_payments_L4 {res : (Int32 × MS)} (hk : jk p R s m args meth c (gn G) cX6_payments 5 RX6 1 23 (some .int)) (hK : mK G s) (N : Nat) : ∀ (n : Nat) (μ : MS) (x1 : Bool) (x2 : Int32), jj p l e R s m args below meth c (gA G) (gn G) (jZ below args s (gA G) (gn G) (jU res) (mWo G) (mnx G)) (mWo G) (mnx G) 5 μ 4 [(0, .ref (gh G)), (1, .int (bI x1)), (2, .int x2)] [] (m_payments_L4 N n μ x1 x2 = some res) := by
  intro n
  induction n with
  | zero => intro μ x1 x2; exact jj_eq (fun hz => by rw [m_payments_L4] at hz; exact hz) jj_no
  | succ n ih =>
    intro μ x1 x2
    rw [m_payments_L4]
    refine jj_iload_n hk (pc := 4) dX6_payments_4 2 rfl rfl ?_
    refine jj_bipush hk (pc := 5) (v := (64 : Int32)) dX6_payments_5 (by decide) ?_
    refine jj_icmp_ge hk (pc := 7) 148 dX6_payments_7 (by decide) ?_ ?_
    · refine jj_iconst hk (pc := 148) (v := (0 : Int32)) dX6_payments_148 (by decide) ?_
      refine jj_istore_n hk (pc := 149) [(2, .int (0 : Int32)), (0, .ref (gh G)), (1, .int (bI x1))] dX6_payments_149 rfl (Nat.le_of_ble_eq_true rfl) rfl ?_
      refine jj_loc [(0, .ref (gh G)), (1, .int (bI x1)), (2, .int (0 : Int32))] [1, 2, 0] rfl ?_
      exact wb_m_payments_L150 hk hK N N μ (bI x1) (0 : Int32)
    · refine jj_aload_n hk (pc := 10) dX6_payments_10 0 rfl rfl ?_
      refine jm_g_nets hk hK (pc := 11) dX6_payments_11 ?_
      refine jj_iload_n hk (pc := 14) dX6_payments_14 2 rfl rfl ?_
      refine jj_iconst hk (pc := 15) (v := (0 : Int32)) dX6_payments_15 (by decide) ?_
      refine jm_st hk hK (pc := 16) (by decide) dX6_payments_16 (fun μ1 => ?_)
      refine jj_aload_n hk (pc := 17) dX6_payments_17 0 rfl rfl ?_
      refine jm_g_partsOf hk hK (pc := 18) dX6_payments_18 ?_
      refine jj_iload_n hk (pc := 21) dX6_payments_21 2 rfl rfl ?_
      refine jj_iconst hk (pc := 22) (v := (0 : Int32)) dX6_payments_22 (by decide) ?_
      refine jm_st hk hK (pc := 23) (by decide) dX6_payments_23 (fun μ2 => ?_)
      refine jj_iconst hk (pc := 24) (v := (0 : Int32)) dX6_payments_24 (by decide) ?_
      refine jj_istore_n hk (pc := 25) [(3, .int (0 : Int32)), (0, .ref (gh G)), (1, .int (bI x1)), (2, .int x2)] dX6_payments_25 rfl (Nat.le_of_ble_eq_true rfl) rfl ?_
      refine jj_loc [(0, .ref (gh G)), (1, .int (bI x1)), (2, .int x2), (3, .int (0 : Int32))] [1, 2, 3, 0] rfl ?_
      exact wb_m_payments_L26 hk hK N ih N μ2 x1 x2 (0 : Int32)
set_option maxHeartbeats 4000000 in
theorem cc_m_payments (l : Launch) (G : jG) (N : Nat) (μ : MS)  (res : (Int32 × MS)) (hf : m_payments N μ = some res) : jM l yX6_payments (ws_ yX6_payments cX6_payments 5 (some .int)) 1 23 [.ref (gh G)] (mWo G) (mnx G) (mK G) μ (jU res) (gA G) (gn G) := by
  refine jj_start [(0, .ref (gh G))] (by decide) (Nat.le_of_ble_eq_true rfl) rfl (fun p e R s m args below meth c hk hK hsz => ?_) hf
  have hk : jk p R s m args meth c (gn G) cX6_payments 5 RX6 1 23 (some .int) := hk
  unfold m_payments
  refine jj_iconst hk (pc := 0) (v := (0 : Int32)) dX6_payments_0 (by decide) ?_
  refine jj_istore_n hk (pc := 1) [(1, .int (0 : Int32)), (0, .ref (gh G))] dX6_payments_1 rfl (Nat.le_of_ble_eq_true rfl) rfl ?_
  refine jj_iconst hk (pc := 2) (v := (0 : Int32)) dX6_payments_2 (by decide) ?_
  refine jj_istore_n hk (pc := 3) [(2, .int (0 : Int32)), (1, .int (0 : Int32)), (0, .ref (gh G))] dX6_payments_3 rfl (Nat.le_of_ble_eq_true rfl) rfl ?_
  refine jj_loc [(0, .ref (gh G)), (1, .int (bI false)), (2, .int (0 : Int32))] [2, 1, 0] rfl ?_
  exact wb_m_payments_L4 hk hK N N μ false (0 : Int32)
end
