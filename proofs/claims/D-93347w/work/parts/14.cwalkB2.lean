/-! THE COMPONENT's METHODS, printed by gen/gen2.py out of the byte code -/
set_option maxRecDepth 100000
section
variable {p : Program} {l : Launch} {e : Env} {R : Room} {s : State} {m : MethodId} {args : Array Value} {below : List Frame} {meth : Method} {c : Code}
variable {G : cG} {d : DS} {KK : State → Prop}
set_option maxHeartbeats 4000000 in
theorem wb_f0_lateSet_L22 {res : (Int32 × SS)} (hk : jk p R s m args meth c d.2 cX0_lateSet 4 RX0 486 12156 (some .int)) (hH : cH G KK) (hK : KK s) (N : Nat) : ∀ (n : Nat) (σ : SS) (x1 : Int32) (x2 : Int32) (x3 : Int32), jj p l e R s m args below meth c (hA G) d.2 (jZ below args s (hA G) d.2 (jU res) (cWo G d) (cnx d)) (cWo G d) (cnx d) 4 σ 22 [(0, .ref (ha G 0)), (1, .int x1), (2, .int x2), (3, .int x3)] [] (f0_lateSet_L22 N d n σ x1 x2 x3 = some res) := by
  intro n
  induction n with
  | zero => intro σ x1 x2 x3; exact jj_eq (fun hz => by rw [f0_lateSet_L22] at hz; exact hz) jj_no
  | succ n ih =>
    intro σ x1 x2 x3
    rw [f0_lateSet_L22]
    refine jj_iload_n hk (pc := 22) dX0_lateSet_22 3 rfl rfl ?_
    refine jj_aload_n hk (pc := 23) dX0_lateSet_23 0 rfl rfl ?_
    refine jc_g_now hk hH hK (pc := 24) dX0_lateSet_24 ?_
    refine jc_t_deeds hk hH hK (pc := 27) dX0_lateSet_27 ?_
    refine jj_icmp_ge hk (pc := 30) 78 dX0_lateSet_30 (by decide) ?_ ?_
    · refine jj_aload_n hk (pc := 78) dX0_lateSet_78 0 rfl rfl ?_
      refine jc_g_now hk hH hK (pc := 79) dX0_lateSet_79 ?_
      refine jj_aload_n hk (pc := 82) dX0_lateSet_82 0 rfl rfl ?_
      refine jc_g_tried hk hH hK (pc := 83) dX0_lateSet_83 ?_
      refine kc_X0_3_become hk hH hK (pc := 86) (t0 := 0) (t1 := 2) (fun r h => cc_f3_become l hH d σ 0 2 (by decide) (by decide) r h) (by decide) (by decide) dX0_lateSet_86 ⟨Nat.le_of_ble_eq_true rfl, Nat.le_of_ble_eq_true rfl⟩ (Nat.le_of_ble_eq_true rfl) (fun r1 => ?_)
      refine jj_iload_n hk (pc := 89) dX0_lateSet_89 2 rfl rfl ?_
      exact jc_retUi hk (pc := 90) dX0_lateSet_90
    · refine jj_iload_n hk (pc := 33) dX0_lateSet_33 2 rfl rfl ?_
      refine jj_iload_n hk (pc := 34) dX0_lateSet_34 1 rfl rfl ?_
      refine jj_if_lt hk (pc := 35) 69 dX0_lateSet_35 (by decide) ?_ ?_
      · refine jj_iconst hk (pc := 69) (v := (0 : Int32)) dX0_lateSet_69 (by decide) ?_
        refine jj_ior hk (pc := 70) dX0_lateSet_70 ?_
        refine jj_istore_n hk (pc := 71) [(2, .int (x2 ||| (0 : Int32))), (0, .ref (ha G 0)), (1, .int x1), (3, .int x3)] dX0_lateSet_71 rfl (Nat.le_of_ble_eq_true rfl) rfl ?_
        refine jj_iinc hk (pc := 72) [(3, .int (x3 + 1)), (2, .int (x2 ||| (0 : Int32))), (0, .ref (ha G 0)), (1, .int x1)] dX0_lateSet_72 3 rfl rfl (Nat.le_of_ble_eq_true rfl) rfl ?_
        refine jj_goto hk (pc := 75) 22 dX0_lateSet_75 (by decide) ?_
        refine jj_loc [(0, .ref (ha G 0)), (1, .int x1), (2, .int (x2 ||| (0 : Int32))), (3, .int (x3 + 1))] [2, 3, 1, 0] rfl ?_
        exact ih σ x1 (x2 ||| (0 : Int32)) (x3 + 1)
      · refine jj_aload_n hk (pc := 38) dX0_lateSet_38 0 rfl rfl ?_
        refine jj_iload_n hk (pc := 39) dX0_lateSet_39 3 rfl rfl ?_
        refine jj_aload_n hk (pc := 40) dX0_lateSet_40 0 rfl rfl ?_
        refine jc_g_now hk hH hK (pc := 41) dX0_lateSet_41 ?_
        refine jc_t_end hk hH hK (pc := 44) dX0_lateSet_44 ?_
        refine jj_iconst hk (pc := 47) (v := (1 : Int32)) dX0_lateSet_47 (by decide) ?_
        refine jj_isub hk (pc := 48) dX0_lateSet_48 ?_
        refine kc_X0_0_isOverdue hk hH hK (pc := 49) (a0 := x3) (a1 := ((σ.1 2) - (1 : Int32))) (fun r h => cc_f0_isOverdue l hH d σ x3 ((σ.1 2) - (1 : Int32)) r h) dX0_lateSet_49 ⟨Nat.le_of_ble_eq_true rfl, Nat.le_of_ble_eq_true rfl⟩ (Nat.le_of_ble_eq_true rfl) (fun r2 => ?_)
        refine jj_if_eq_b hk (pc := 52) 69 dX0_lateSet_52 (by decide) ?_ ?_
        · refine jj_iconst hk (pc := 69) (v := (0 : Int32)) dX0_lateSet_69 (by decide) ?_
          refine jj_ior hk (pc := 70) dX0_lateSet_70 ?_
          refine jj_istore_n hk (pc := 71) [(2, .int (x2 ||| (0 : Int32))), (0, .ref (ha G 0)), (1, .int x1), (3, .int x3)] dX0_lateSet_71 rfl (Nat.le_of_ble_eq_true rfl) rfl ?_
          refine jj_iinc hk (pc := 72) [(3, .int (x3 + 1)), (2, .int (x2 ||| (0 : Int32))), (0, .ref (ha G 0)), (1, .int x1)] dX0_lateSet_72 3 rfl rfl (Nat.le_of_ble_eq_true rfl) rfl ?_
          refine jj_goto hk (pc := 75) 22 dX0_lateSet_75 (by decide) ?_
          refine jj_loc [(0, .ref (ha G 0)), (1, .int x1), (2, .int (x2 ||| (0 : Int32))), (3, .int (x3 + 1))] [2, 3, 1, 0] rfl ?_
          exact ih σ x1 (x2 ||| (0 : Int32)) (x3 + 1)
        · refine jj_iconst hk (pc := 55) (v := (1 : Int32)) dX0_lateSet_55 (by decide) ?_
          refine jj_aload_n hk (pc := 56) dX0_lateSet_56 0 rfl rfl ?_
          refine jc_g_now hk hH hK (pc := 57) dX0_lateSet_57 ?_
          refine jc_t_whose hk hH hK (pc := 60) dX0_lateSet_60 ?_
          refine jj_iload_n hk (pc := 63) dX0_lateSet_63 3 rfl rfl ?_
          refine jc_ld (j := 3) hk hH hK (pc := 64) (by decide) dX0_lateSet_64 (fun v3 => ?_)
          refine jj_ishl hk (pc := 65) dX0_lateSet_65 ?_
          refine jj_goto hk (pc := 66) 70 dX0_lateSet_66 (by decide) ?_
          refine jj_ior hk (pc := 70) dX0_lateSet_70 ?_
          refine jj_istore_n hk (pc := 71) [(2, .int (x2 ||| ((1 : Int32) <<< (v3 &&& 31)))), (0, .ref (ha G 0)), (1, .int x1), (3, .int x3)] dX0_lateSet_71 rfl (Nat.le_of_ble_eq_true rfl) rfl ?_
          refine jj_iinc hk (pc := 72) [(3, .int (x3 + 1)), (2, .int (x2 ||| ((1 : Int32) <<< (v3 &&& 31)))), (0, .ref (ha G 0)), (1, .int x1)] dX0_lateSet_72 3 rfl rfl (Nat.le_of_ble_eq_true rfl) rfl ?_
          refine jj_goto hk (pc := 75) 22 dX0_lateSet_75 (by decide) ?_
          refine jj_loc [(0, .ref (ha G 0)), (1, .int x1), (2, .int (x2 ||| ((1 : Int32) <<< (v3 &&& 31)))), (3, .int (x3 + 1))] [2, 3, 1, 0] rfl ?_
          exact ih σ x1 (x2 ||| ((1 : Int32) <<< (v3 &&& 31))) (x3 + 1)
set_option maxHeartbeats 4000000 in
theorem cc_f0_lateSet (l : Launch) {G : cG} {KK : State → Prop} (hH : cH G KK) (d : DS) (N : Nat) (σ : SS)  (res : (Int32 × SS)) (hf : f0_lateSet N d σ = some res) : jM l yX0_lateSet (ws_ yX0_lateSet cX0_lateSet 4 (some .int)) 486 12156 [.ref (ha G 0)] (cWo G d) (cnx d) KK σ (jU res) (hA G) d.2 := by
  refine jj_start [(0, .ref (ha G 0))] (by decide) (Nat.le_of_ble_eq_true rfl) rfl (fun p e R s m args below meth c hk hK hsz => ?_) hf
  have hk : jk p R s m args meth c d.2 cX0_lateSet 4 RX0 486 12156 (some .int) := hk
  unfold f0_lateSet
  refine jj_aload_n hk (pc := 0) dX0_lateSet_0 0 rfl rfl ?_
  refine jc_g_tried hk hH hK (pc := 1) dX0_lateSet_1 ?_
  refine jj_aload_n hk (pc := 4) dX0_lateSet_4 0 rfl rfl ?_
  refine jc_g_now hk hH hK (pc := 5) dX0_lateSet_5 ?_
  refine kc_X0_3_become hk hH hK (pc := 8) (t0 := 2) (t1 := 0) (fun r h => cc_f3_become l hH d σ 2 0 (by decide) (by decide) r h) (by decide) (by decide) dX0_lateSet_8 ⟨Nat.le_of_ble_eq_true rfl, Nat.le_of_ble_eq_true rfl⟩ (Nat.le_of_ble_eq_true rfl) (fun r1 => ?_)
  refine jj_aload_n hk (pc := 11) dX0_lateSet_11 0 rfl rfl ?_
  refine jj_bipush hk (pc := 12) (v := (16 : Int32)) dX0_lateSet_12 (by decide) ?_
  refine kc_X0_0_runs hk hH hK (pc := 14) (a0 := (16 : Int32)) (fun r h => cc_f0_runs l hH d N r1 (16 : Int32) r h) dX0_lateSet_14 ⟨Nat.le_of_ble_eq_true rfl, Nat.le_of_ble_eq_true rfl⟩ (Nat.le_of_ble_eq_true rfl) (fun r2 => ?_)
  refine jj_istore_n hk (pc := 17) [(1, .int r2.1), (0, .ref (ha G 0))] dX0_lateSet_17 rfl (Nat.le_of_ble_eq_true rfl) rfl ?_
  refine jj_iconst hk (pc := 18) (v := (0 : Int32)) dX0_lateSet_18 (by decide) ?_
  refine jj_istore_n hk (pc := 19) [(2, .int (0 : Int32)), (1, .int r2.1), (0, .ref (ha G 0))] dX0_lateSet_19 rfl (Nat.le_of_ble_eq_true rfl) rfl ?_
  refine jj_iconst hk (pc := 20) (v := (0 : Int32)) dX0_lateSet_20 (by decide) ?_
  refine jj_istore_n hk (pc := 21) [(3, .int (0 : Int32)), (2, .int (0 : Int32)), (1, .int r2.1), (0, .ref (ha G 0))] dX0_lateSet_21 rfl (Nat.le_of_ble_eq_true rfl) rfl ?_
  refine jj_loc [(0, .ref (ha G 0)), (1, .int r2.1), (2, .int (0 : Int32)), (3, .int (0 : Int32))] [3, 2, 1, 0] rfl ?_
  exact wb_f0_lateSet_L22 hk hH hK N N r2.2 r2.1 (0 : Int32) (0 : Int32)
set_option maxHeartbeats 4000000 in
theorem cc_f0_overdue (l : Launch) {G : cG} {KK : State → Prop} (hH : cH G KK) (d : DS) (N : Nat) (σ : SS)  (res : (Int32 × SS)) (hf : f0_overdue N d σ = some res) : jM l yX0_overdue (ws_ yX0_overdue cX0_overdue 1 (some .int)) 487 12179 [.ref (ha G 0)] (cWo G d) (cnx d) KK σ (jU res) (hA G) d.2 := by
  refine jj_start [(0, .ref (ha G 0))] (by decide) (Nat.le_of_ble_eq_true rfl) rfl (fun p e R s m args below meth c hk hK hsz => ?_) hf
  have hk : jk p R s m args meth c d.2 cX0_overdue 1 RX0 487 12179 (some .int) := hk
  unfold f0_overdue
  refine jj_aload_n hk (pc := 0) dX0_overdue_0 0 rfl rfl ?_
  refine kc_X0_0_lateSet hk hH hK (pc := 1)  (fun r h => cc_f0_lateSet l hH d N σ r h) dX0_overdue_1 ⟨Nat.le_of_ble_eq_true rfl, Nat.le_of_ble_eq_true rfl⟩ (Nat.le_of_ble_eq_true rfl) (fun r1 => ?_)
  exact jc_retUi hk (pc := 4) dX0_overdue_4
set_option maxHeartbeats 4000000 in
theorem cc_f0_falls (l : Launch) {G : cG} {KK : State → Prop} (hH : cH G KK) (d : DS) (N : Nat) (σ : SS) (a0 : Int32) (res : (Int32 × SS)) (hf : f0_falls N σ a0 = some res) : jM l yX0_falls (ws_ yX0_falls cX0_falls 4 (some .int)) 3 83 [.ref (ha G 0), .int a0] (cWo G d) (cnx d) KK σ (jU res) (hA G) d.2 := by
  refine jj_start [(0, .ref (ha G 0)), (1, .int a0)] (by decide) (Nat.le_of_ble_eq_true rfl) rfl (fun p e R s m args below meth c hk hK hsz => ?_) hf
  have hk : jk p R s m args meth c d.2 cX0_falls 4 RX0 3 83 (some .int) := hk
  unfold f0_falls
  refine jj_aload_n hk (pc := 0) dX0_falls_0 0 rfl rfl ?_
  refine jj_iload_n hk (pc := 1) dX0_falls_1 1 rfl rfl ?_
  refine kc_X0_0_isDeed hk hH hK (pc := 2) (a0 := a0) (fun r h => cc_f0_isDeed l hH d σ a0 r h) dX0_falls_2 ⟨Nat.le_of_ble_eq_true rfl, Nat.le_of_ble_eq_true rfl⟩ (Nat.le_of_ble_eq_true rfl) (fun r1 => ?_)
  refine jj_if_ne_b hk (pc := 5) 10 dX0_falls_5 (by decide) ?_ ?_
  · refine jj_aload_n hk (pc := 10) dX0_falls_10 0 rfl rfl ?_
    refine jc_g_now hk hH hK (pc := 11) dX0_falls_11 ?_
    refine jc_t_so hk hH hK (pc := 14) dX0_falls_14 ?_
    refine jj_iload_n hk (pc := 17) dX0_falls_17 1 rfl rfl ?_
    refine jc_ld (j := 7) hk hH hK (pc := 18) (by decide) dX0_falls_18 (fun v2 => ?_)
    refine jj_iconst hk (pc := 19) (v := (1 : Int32)) dX0_falls_19 (by decide) ?_
    refine jj_icmp_eq hk (pc := 20) 26 dX0_falls_20 (by decide) ?_ ?_
    · refine jj_aload_n hk (pc := 26) dX0_falls_26 0 rfl rfl ?_
      refine jj_iconst hk (pc := 27) (v := (0 : Int32)) dX0_falls_27 (by decide) ?_
      refine kc_X0_0_saves hk hH hK (pc := 28) (a0 := (0 : Int32)) (fun r h => cc_f0_saves l hH d σ (0 : Int32) r h) dX0_falls_28 ⟨Nat.le_of_ble_eq_true rfl, Nat.le_of_ble_eq_true rfl⟩ (Nat.le_of_ble_eq_true rfl) (fun r3 => ?_)
      refine jj_aload_n hk (pc := 31) dX0_falls_31 0 rfl rfl ?_
      refine jj_iconst hk (pc := 32) (v := (3 : Int32)) dX0_falls_32 (by decide) ?_
      refine kc_X0_0_setOf hk hH hK (pc := 33) (a0 := (3 : Int32)) (fun r h => cc_f0_setOf l hH d N r3 (3 : Int32) r h) dX0_falls_33 ⟨Nat.le_of_ble_eq_true rfl, Nat.le_of_ble_eq_true rfl⟩ (Nat.le_of_ble_eq_true rfl) (fun r4 => ?_)
      refine jj_istore_n hk (pc := 36) [(2, .int r4), (0, .ref (ha G 0)), (1, .int a0)] dX0_falls_36 rfl (Nat.le_of_ble_eq_true rfl) rfl ?_
      refine jj_aload_n hk (pc := 37) dX0_falls_37 1 rfl rfl ?_
      refine jj_iload_n hk (pc := 38) dX0_falls_38 2 rfl rfl ?_
      refine kc_X0_0_undo hk hH hK (pc := 39) (a0 := a0) (fun r h => cc_f0_undo l hH d N r3 a0 r h) dX0_falls_39 ⟨Nat.le_of_ble_eq_true rfl, Nat.le_of_ble_eq_true rfl⟩ (Nat.le_of_ble_eq_true rfl) (fun r5 => ?_)
      refine jj_aload_n hk (pc := 42) dX0_falls_42 1 rfl rfl ?_
      refine jj_iconst hk (pc := 43) (v := (3 : Int32)) dX0_falls_43 (by decide) ?_
      refine kc_X0_0_setOf hk hH hK (pc := 44) (a0 := (3 : Int32)) (fun r h => cc_f0_setOf l hH d N r5 (3 : Int32) r h) dX0_falls_44 ⟨Nat.le_of_ble_eq_true rfl, Nat.le_of_ble_eq_true rfl⟩ (Nat.le_of_ble_eq_true rfl) (fun r6 => ?_)
      refine jj_iload_n hk (pc := 47) dX0_falls_47 0 rfl rfl ?_
      refine jj_iconst hk (pc := 48) (v := (-1 : Int32)) dX0_falls_48 (by decide) ?_
      refine jj_ixor hk (pc := 49) dX0_falls_49 ?_
      refine jj_iand hk (pc := 50) dX0_falls_50 ?_
      refine jj_istore_n hk (pc := 51) [(3, .int (r6 &&& (r4 ^^^ (-1 : Int32)))), (2, .int r4), (0, .ref (ha G 0)), (1, .int a0)] dX0_falls_51 rfl (Nat.le_of_ble_eq_true rfl) rfl ?_
      refine jj_aload_n hk (pc := 52) dX0_falls_52 2 rfl rfl ?_
      refine jc_g_sos hk hH hK (pc := 53) dX0_falls_53 ?_
      refine jj_iconst hk (pc := 56) (v := (0 : Int32)) dX0_falls_56 (by decide) ?_
      refine jj_aload_n hk (pc := 57) dX0_falls_57 2 rfl rfl ?_
      refine jc_g_now hk hH hK (pc := 58) dX0_falls_58 ?_
      refine jc_t_so hk hH hK (pc := 61) dX0_falls_61 ?_
      refine jj_iconst hk (pc := 64) (v := (0 : Int32)) dX0_falls_64 (by decide) ?_
      refine jj_bipush hk (pc := 65) (v := (10 : Int32)) dX0_falls_65 (by decide) ?_
      refine jc_cp (j1 := 40) (j2 := 7) hk hH hK (pc := 67) q930 (by decide) (by decide) dX0_falls_67 ⟨Nat.le_of_ble_eq_true rfl, Nat.le_of_ble_eq_true rfl⟩ (Nat.le_of_ble_eq_true rfl) (fun σ7 => ?_)
      refine jj_iload_n hk (pc := 70) dX0_falls_70 0 rfl rfl ?_
      exact jc_retUi hk (pc := 71) dX0_falls_71
    · refine jj_bipush hk (pc := 23) (v := (-4 : Int32)) dX0_falls_23 (by decide) ?_
      exact jc_retUi hk (pc := 25) dX0_falls_25
  · refine jj_iconst hk (pc := 8) (v := (-1 : Int32)) dX0_falls_8 (by decide) ?_
    exact jc_retUi hk (pc := 9) dX0_falls_9
set_option maxHeartbeats 4000000 in
theorem cc_f0_areTwo (l : Launch) {G : cG} {KK : State → Prop} (hH : cH G KK) (d : DS)  (σ : SS) (a0 : Int32) (a1 : Int32) (res : Bool) (hf : f0_areTwo σ a0 a1 = some res) : jM l yX0_areTwo (ws_ yX0_areTwo cX0_areTwo 3 (some .boolean)) 3 83 [.ref (ha G 0), .int a0, .int a1] (cWo G d) (cnx d) KK σ (jRz σ res) (hA G) d.2 := by
  refine jj_start [(0, .ref (ha G 0)), (1, .int a0), (2, .int a1)] (by decide) (Nat.le_of_ble_eq_true rfl) rfl (fun p e R s m args below meth c hk hK hsz => ?_) hf
  have hk : jk p R s m args meth c d.2 cX0_areTwo 3 RX0 3 83 (some .boolean) := hk
  unfold f0_areTwo
  refine jj_aload_n hk (pc := 0) dX0_areTwo_0 0 rfl rfl ?_
  refine jj_iload_n hk (pc := 1) dX0_areTwo_1 1 rfl rfl ?_
  refine kc_X0_0_isPerson hk hH hK (pc := 2) (a0 := a0) (fun r h => cc_f0_isPerson l hH d σ a0 r h) dX0_areTwo_2 ⟨Nat.le_of_ble_eq_true rfl, Nat.le_of_ble_eq_true rfl⟩ (Nat.le_of_ble_eq_true rfl) (fun r1 => ?_)
  refine jj_if_eq_b hk (pc := 5) 25 dX0_areTwo_5 (by decide) ?_ ?_
  · refine jj_iconst hk (pc := 25) (v := (0 : Int32)) dX0_areTwo_25 (by decide) ?_
    exact jc_retRz hk (pc := 26) (b := false) dX0_areTwo_26
  · refine jj_aload_n hk (pc := 8) dX0_areTwo_8 0 rfl rfl ?_
    refine jj_iload_n hk (pc := 9) dX0_areTwo_9 2 rfl rfl ?_
    refine kc_X0_0_isPerson hk hH hK (pc := 10) (a0 := a1) (fun r h => cc_f0_isPerson l hH d σ a1 r h) dX0_areTwo_10 ⟨Nat.le_of_ble_eq_true rfl, Nat.le_of_ble_eq_true rfl⟩ (Nat.le_of_ble_eq_true rfl) (fun r2 => ?_)
    refine jj_if_eq_b hk (pc := 13) 25 dX0_areTwo_13 (by decide) ?_ ?_
    · refine jj_iconst hk (pc := 25) (v := (0 : Int32)) dX0_areTwo_25 (by decide) ?_
      exact jc_retRz hk (pc := 26) (b := false) dX0_areTwo_26
    · refine jj_iload_n hk (pc := 16) dX0_areTwo_16 1 rfl rfl ?_
      refine jj_iload_n hk (pc := 17) dX0_areTwo_17 2 rfl rfl ?_
      refine jj_icmp_eq hk (pc := 18) 25 dX0_areTwo_18 (by decide) ?_ ?_
      · refine jj_iconst hk (pc := 25) (v := (0 : Int32)) dX0_areTwo_25 (by decide) ?_
        exact jc_retRz hk (pc := 26) (b := false) dX0_areTwo_26
      · refine jj_iconst hk (pc := 21) (v := (1 : Int32)) dX0_areTwo_21 (by decide) ?_
        refine jj_goto hk (pc := 22) 26 dX0_areTwo_22 (by decide) ?_
        exact jc_retRz hk (pc := 26) (b := true) dX0_areTwo_26
set_option maxHeartbeats 4000000 in
theorem cc_f0_owe (l : Launch) {G : cG} {KK : State → Prop} (hH : cH G KK) (d : DS)  (σ : SS) (a0 : Int32) (a1 : Int32) (a2 : Int32) (res : (Int32 × SS)) (hf : f0_owe σ a0 a1 a2 = some res) : jM l yX0_owe (ws_ yX0_owe cX0_owe 5 (some .int)) 4 105 [.ref (ha G 0), .int a0, .int a1, .int a2] (cWo G d) (cnx d) KK σ (jU res) (hA G) d.2 := by
  refine jj_start [(0, .ref (ha G 0)), (1, .int a0), (2, .int a1), (3, .int a2)] (by decide) (Nat.le_of_ble_eq_true rfl) rfl (fun p e R s m args below meth c hk hK hsz => ?_) hf
  have hk : jk p R s m args meth c d.2 cX0_owe 5 RX0 4 105 (some .int) := hk
  unfold f0_owe
  refine jj_aload_n hk (pc := 0) dX0_owe_0 0 rfl rfl ?_
  refine jj_iload_n hk (pc := 1) dX0_owe_1 1 rfl rfl ?_
  refine jj_iload_n hk (pc := 2) dX0_owe_2 2 rfl rfl ?_
  refine kc_X0_0_areTwo hk hH hK (pc := 3) (a0 := a0) (a1 := a1) (fun r h => cc_f0_areTwo l hH d σ a0 a1 r h) dX0_owe_3 ⟨Nat.le_of_ble_eq_true rfl, Nat.le_of_ble_eq_true rfl⟩ (Nat.le_of_ble_eq_true rfl) (fun r1 => ?_)
  refine jj_if_eq_b hk (pc := 6) 19 dX0_owe_6 (by decide) ?_ ?_
  · refine jj_iconst hk (pc := 19) (v := (-1 : Int32)) dX0_owe_19 (by decide) ?_
    exact jc_retUi hk (pc := 20) dX0_owe_20
  · refine jj_iload_n hk (pc := 9) dX0_owe_9 3 rfl rfl ?_
    refine jj_iconst hk (pc := 10) (v := (0 : Int32)) dX0_owe_10 (by decide) ?_
    refine jj_bipush hk (pc := 11) (v := (99 : Int32)) dX0_owe_11 (by decide) ?_
    refine kc_X0_0_isIn hk hH hK (pc := 13) (a0 := a2) (a1 := (0 : Int32)) (a2 := (99 : Int32)) (fun r h => cc_f0_isIn l hH d σ a2 (0 : Int32) (99 : Int32) r h) dX0_owe_13 ⟨Nat.le_of_ble_eq_true rfl, Nat.le_of_ble_eq_true rfl⟩ (Nat.le_of_ble_eq_true rfl) (fun r2 => ?_)
    refine jj_if_ne_b hk (pc := 16) 21 dX0_owe_16 (by decide) ?_ ?_
    · refine jj_aload_n hk (pc := 21) dX0_owe_21 0 rfl rfl ?_
      refine jc_g_now hk hH hK (pc := 22) dX0_owe_22 ?_
      refine jc_t_owed hk hH hK (pc := 25) dX0_owe_25 ?_
      refine jj_bipush hk (pc := 28) (v := (6 : Int32)) dX0_owe_28 (by decide) ?_
      refine jj_iload_n hk (pc := 30) dX0_owe_30 1 rfl rfl ?_
      refine jj_imul hk (pc := 31) dX0_owe_31 ?_
      refine jj_iload_n hk (pc := 32) dX0_owe_32 2 rfl rfl ?_
      refine jj_iadd hk (pc := 33) dX0_owe_33 ?_
      refine jc_ld (j := 8) hk hH hK (pc := 34) (by decide) dX0_owe_34 (fun v3 => ?_)
      refine jj_istore hk (pc := 35) [(4, .int v3), (0, .ref (ha G 0)), (1, .int a0), (2, .int a1), (3, .int a2)] dX0_owe_35 (Nat.le_of_ble_eq_true rfl) rfl ?_
      refine jj_aload_n hk (pc := 37) dX0_owe_37 1 rfl rfl ?_
      refine jc_g_now hk hH hK (pc := 38) dX0_owe_38 ?_
      refine jc_t_owed hk hH hK (pc := 41) dX0_owe_41 ?_
      refine jj_bipush hk (pc := 44) (v := (6 : Int32)) dX0_owe_44 (by decide) ?_
      refine jj_iload_n hk (pc := 46) dX0_owe_46 2 rfl rfl ?_
      refine jj_imul hk (pc := 47) dX0_owe_47 ?_
      refine jj_iload_n hk (pc := 48) dX0_owe_48 3 rfl rfl ?_
      refine jj_iadd hk (pc := 49) dX0_owe_49 ?_
      refine jj_iload_n hk (pc := 50) dX0_owe_50 4 rfl rfl ?_
      refine jc_st (j := 8) hk hH hK (pc := 51) (by decide) dX0_owe_51 (fun σ4 => ?_)
      refine jj_iload hk (pc := 52) dX0_owe_52 0 rfl ?_
      exact jc_retUi hk (pc := 54) dX0_owe_54
    · refine jj_iconst hk (pc := 19) (v := (-1 : Int32)) dX0_owe_19 (by decide) ?_
      exact jc_retUi hk (pc := 20) dX0_owe_20
set_option maxHeartbeats 4000000 in
theorem cc_f0_owes (l : Launch) {G : cG} {KK : State → Prop} (hH : cH G KK) (d : DS)  (σ : SS) (a0 : Int32) (a1 : Int32) (res : Int32) (hf : f0_owes σ a0 a1 = some res) : jM l yX0_owes (ws_ yX0_owes cX0_owes 3 (some .int)) 4 105 [.ref (ha G 0), .int a0, .int a1] (cWo G d) (cnx d) KK σ (jR σ res) (hA G) d.2 := by
  refine jj_start [(0, .ref (ha G 0)), (1, .int a0), (2, .int a1)] (by decide) (Nat.le_of_ble_eq_true rfl) rfl (fun p e R s m args below meth c hk hK hsz => ?_) hf
  have hk : jk p R s m args meth c d.2 cX0_owes 3 RX0 4 105 (some .int) := hk
  unfold f0_owes
  refine jj_aload_n hk (pc := 0) dX0_owes_0 0 rfl rfl ?_
  refine jj_iload_n hk (pc := 1) dX0_owes_1 1 rfl rfl ?_
  refine jj_iload_n hk (pc := 2) dX0_owes_2 2 rfl rfl ?_
  refine kc_X0_0_areTwo hk hH hK (pc := 3) (a0 := a0) (a1 := a1) (fun r h => cc_f0_areTwo l hH d σ a0 a1 r h) dX0_owes_3 ⟨Nat.le_of_ble_eq_true rfl, Nat.le_of_ble_eq_true rfl⟩ (Nat.le_of_ble_eq_true rfl) (fun r1 => ?_)
  refine jj_if_eq_b hk (pc := 6) 26 dX0_owes_6 (by decide) ?_ ?_
  · refine jj_iconst hk (pc := 26) (v := (-1 : Int32)) dX0_owes_26 (by decide) ?_
    exact jc_retRi hk (pc := 27) dX0_owes_27
  · refine jj_aload_n hk (pc := 9) dX0_owes_9 0 rfl rfl ?_
    refine jc_g_now hk hH hK (pc := 10) dX0_owes_10 ?_
    refine jc_t_owed hk hH hK (pc := 13) dX0_owes_13 ?_
    refine jj_bipush hk (pc := 16) (v := (6 : Int32)) dX0_owes_16 (by decide) ?_
    refine jj_iload_n hk (pc := 18) dX0_owes_18 1 rfl rfl ?_
    refine jj_imul hk (pc := 19) dX0_owes_19 ?_
    refine jj_iload_n hk (pc := 20) dX0_owes_20 2 rfl rfl ?_
    refine jj_iadd hk (pc := 21) dX0_owes_21 ?_
    refine jc_ld (j := 8) hk hH hK (pc := 22) (by decide) dX0_owes_22 (fun v2 => ?_)
    refine jj_goto hk (pc := 23) 27 dX0_owes_23 (by decide) ?_
    exact jc_retRi hk (pc := 27) dX0_owes_27
set_option maxHeartbeats 4000000 in
theorem wb_f0_netOf_L4 {res : Int32} (hk : jk p R s m args meth c d.2 cX0_netOf 4 RX0 1 40 (some .int)) (hH : cH G KK) (hK : KK s) (N : Nat) (σ : SS) : ∀ (n : Nat) (x1 : Int32) (x2 : Int32) (x3 : Int32), jj p l e R s m args below meth c (hA G) d.2 (jZ below args s (hA G) d.2 (jR σ res) (cWo G d) (cnx d)) (cWo G d) (cnx d) 4 σ 4 [(0, .ref (ha G 0)), (1, .int x1), (2, .int x2), (3, .int x3)] [] (f0_netOf_L4 N σ n x1 x2 x3 = some res) := by
  intro n
  induction n with
  | zero => intro x1 x2 x3; exact jj_eq (fun hz => by rw [f0_netOf_L4] at hz; exact hz) jj_no
  | succ n ih =>
    intro x1 x2 x3
    rw [f0_netOf_L4]
    refine jj_iload_n hk (pc := 4) dX0_netOf_4 3 rfl rfl ?_
    refine jj_aload_n hk (pc := 5) dX0_netOf_5 0 rfl rfl ?_
    refine jc_g_now hk hH hK (pc := 6) dX0_netOf_6 ?_
    refine jc_t_people hk hH hK (pc := 9) dX0_netOf_9 ?_
    refine jj_icmp_ge hk (pc := 12) 53 dX0_netOf_12 (by decide) ?_ ?_
    · refine jj_iload_n hk (pc := 53) dX0_netOf_53 2 rfl rfl ?_
      exact jc_retRi hk (pc := 54) dX0_netOf_54
    · refine jj_iload_n hk (pc := 15) dX0_netOf_15 2 rfl rfl ?_
      refine jj_aload_n hk (pc := 16) dX0_netOf_16 0 rfl rfl ?_
      refine jc_g_now hk hH hK (pc := 17) dX0_netOf_17 ?_
      refine jc_t_owed hk hH hK (pc := 20) dX0_netOf_20 ?_
      refine jj_bipush hk (pc := 23) (v := (6 : Int32)) dX0_netOf_23 (by decide) ?_
      refine jj_iload_n hk (pc := 25) dX0_netOf_25 3 rfl rfl ?_
      refine jj_imul hk (pc := 26) dX0_netOf_26 ?_
      refine jj_iload_n hk (pc := 27) dX0_netOf_27 1 rfl rfl ?_
      refine jj_iadd hk (pc := 28) dX0_netOf_28 ?_
      refine jc_ld (j := 8) hk hH hK (pc := 29) (by decide) dX0_netOf_29 (fun v1 => ?_)
      refine jj_aload_n hk (pc := 30) dX0_netOf_30 0 rfl rfl ?_
      refine jc_g_now hk hH hK (pc := 31) dX0_netOf_31 ?_
      refine jc_t_owed hk hH hK (pc := 34) dX0_netOf_34 ?_
      refine jj_bipush hk (pc := 37) (v := (6 : Int32)) dX0_netOf_37 (by decide) ?_
      refine jj_iload_n hk (pc := 39) dX0_netOf_39 1 rfl rfl ?_
      refine jj_imul hk (pc := 40) dX0_netOf_40 ?_
      refine jj_iload_n hk (pc := 41) dX0_netOf_41 3 rfl rfl ?_
      refine jj_iadd hk (pc := 42) dX0_netOf_42 ?_
      refine jc_ld (j := 8) hk hH hK (pc := 43) (by decide) dX0_netOf_43 (fun v2 => ?_)
      refine jj_isub hk (pc := 44) dX0_netOf_44 ?_
      refine jj_iadd hk (pc := 45) dX0_netOf_45 ?_
      refine jj_istore_n hk (pc := 46) [(2, .int (x2 + (v1 - v2))), (0, .ref (ha G 0)), (1, .int x1), (3, .int x3)] dX0_netOf_46 rfl (Nat.le_of_ble_eq_true rfl) rfl ?_
      refine jj_iinc hk (pc := 47) [(3, .int (x3 + 1)), (2, .int (x2 + (v1 - v2))), (0, .ref (ha G 0)), (1, .int x1)] dX0_netOf_47 3 rfl rfl (Nat.le_of_ble_eq_true rfl) rfl ?_
      refine jj_goto hk (pc := 50) 4 dX0_netOf_50 (by decide) ?_
      refine jj_loc [(0, .ref (ha G 0)), (1, .int x1), (2, .int (x2 + (v1 - v2))), (3, .int (x3 + 1))] [2, 3, 1, 0] rfl ?_
      exact ih x1 (x2 + (v1 - v2)) (x3 + 1)
set_option maxHeartbeats 4000000 in
theorem cc_f0_netOf (l : Launch) {G : cG} {KK : State → Prop} (hH : cH G KK) (d : DS) (N : Nat) (σ : SS) (a0 : Int32) (res : Int32) (hf : f0_netOf N σ a0 = some res) : jM l yX0_netOf (ws_ yX0_netOf cX0_netOf 4 (some .int)) 1 40 [.ref (ha G 0), .int a0] (cWo G d) (cnx d) KK σ (jR σ res) (hA G) d.2 := by
  refine jj_start [(0, .ref (ha G 0)), (1, .int a0)] (by decide) (Nat.le_of_ble_eq_true rfl) rfl (fun p e R s m args below meth c hk hK hsz => ?_) hf
  have hk : jk p R s m args meth c d.2 cX0_netOf 4 RX0 1 40 (some .int) := hk
  unfold f0_netOf
  refine jj_iconst hk (pc := 0) (v := (0 : Int32)) dX0_netOf_0 (by decide) ?_
  refine jj_istore_n hk (pc := 1) [(2, .int (0 : Int32)), (0, .ref (ha G 0)), (1, .int a0)] dX0_netOf_1 rfl (Nat.le_of_ble_eq_true rfl) rfl ?_
  refine jj_iconst hk (pc := 2) (v := (0 : Int32)) dX0_netOf_2 (by decide) ?_
  refine jj_istore_n hk (pc := 3) [(3, .int (0 : Int32)), (2, .int (0 : Int32)), (0, .ref (ha G 0)), (1, .int a0)] dX0_netOf_3 rfl (Nat.le_of_ble_eq_true rfl) rfl ?_
  refine jj_loc [(0, .ref (ha G 0)), (1, .int a0), (2, .int (0 : Int32)), (3, .int (0 : Int32))] [2, 3, 1, 0] rfl ?_
  exact wb_f0_netOf_L4 hk hH hK N σ N a0 (0 : Int32) (0 : Int32)
set_option maxHeartbeats 4000000 in
theorem cc_f0_net (l : Launch) {G : cG} {KK : State → Prop} (hH : cH G KK) (d : DS) (N : Nat) (σ : SS) (a0 : Int32) (res : Int32) (hf : f0_net N σ a0 = some res) : jM l yX0_net (ws_ yX0_net cX0_net 2 (some .int)) 3 83 [.ref (ha G 0), .int a0] (cWo G d) (cnx d) KK σ (jR σ res) (hA G) d.2 := by
  refine jj_start [(0, .ref (ha G 0)), (1, .int a0)] (by decide) (Nat.le_of_ble_eq_true rfl) rfl (fun p e R s m args below meth c hk hK hsz => ?_) hf
  have hk : jk p R s m args meth c d.2 cX0_net 2 RX0 3 83 (some .int) := hk
  unfold f0_net
  refine jj_aload_n hk (pc := 0) dX0_net_0 0 rfl rfl ?_
  refine jj_iload_n hk (pc := 1) dX0_net_1 1 rfl rfl ?_
  refine kc_X0_0_isPerson hk hH hK (pc := 2) (a0 := a0) (fun r h => cc_f0_isPerson l hH d σ a0 r h) dX0_net_2 ⟨Nat.le_of_ble_eq_true rfl, Nat.le_of_ble_eq_true rfl⟩ (Nat.le_of_ble_eq_true rfl) (fun r1 => ?_)
  refine jj_if_eq_b hk (pc := 5) 20 dX0_net_5 (by decide) ?_ ?_
  · refine jj_iconst hk (pc := 20) (v := (-1 : Int32)) dX0_net_20 (by decide) ?_
    exact jc_retRi hk (pc := 21) dX0_net_21
  · refine jj_sipush hk (pc := 8) (v := (10000 : Int32)) dX0_net_8 (by decide) ?_
    refine jj_aload_n hk (pc := 11) dX0_net_11 0 rfl rfl ?_
    refine jj_iload_n hk (pc := 12) dX0_net_12 1 rfl rfl ?_
    refine kc_X0_0_netOf hk hH hK (pc := 13) (a0 := a0) (fun r h => cc_f0_netOf l hH d N σ a0 r h) dX0_net_13 ⟨Nat.le_of_ble_eq_true rfl, Nat.le_of_ble_eq_true rfl⟩ (Nat.le_of_ble_eq_true rfl) (fun r2 => ?_)
    refine jj_iadd hk (pc := 16) dX0_net_16 ?_
    refine jj_goto hk (pc := 17) 21 dX0_net_17 (by decide) ?_
    exact jc_retRi hk (pc := 21) dX0_net_21
set_option maxHeartbeats 4000000 in
theorem wb_f0_reached_L4 {res : Int32} (hk : jk p R s m args meth c d.2 cX0_reached 4 RX0 1 40 (some .int)) (hH : cH G KK) (hK : KK s) (N : Nat) (σ : SS) : ∀ (n : Nat) (x1 : Int32) (x2 : Int32) (x3 : Int32), jj p l e R s m args below meth c (hA G) d.2 (jZ below args s (hA G) d.2 (jR σ res) (cWo G d) (cnx d)) (cWo G d) (cnx d) 4 σ 4 [(0, .ref (ha G 0)), (1, .int x1), (2, .int x2), (3, .int x3)] [] (f0_reached_L4 N σ n x1 x2 x3 = some res) := by
  intro n
  induction n with
  | zero => intro x1 x2 x3; exact jj_eq (fun hz => by rw [f0_reached_L4] at hz; exact hz) jj_no
  | succ n ih =>
    intro x1 x2 x3
    rw [f0_reached_L4]
    refine jj_iload_n hk (pc := 4) dX0_reached_4 3 rfl rfl ?_
    refine jj_bipush hk (pc := 5) (v := (36 : Int32)) dX0_reached_5 (by decide) ?_
    refine jj_icmp_ge hk (pc := 7) 53 dX0_reached_7 (by decide) ?_ ?_
    · refine jj_iload_n hk (pc := 53) dX0_reached_53 2 rfl rfl ?_
      exact jc_retRi hk (pc := 54) dX0_reached_54
    · refine jj_iload_n hk (pc := 10) dX0_reached_10 2 rfl rfl ?_
      refine jj_iload_n hk (pc := 11) dX0_reached_11 1 rfl rfl ?_
      refine jj_iload_n hk (pc := 12) dX0_reached_12 3 rfl rfl ?_
      refine jj_bipush hk (pc := 13) (v := (6 : Int32)) dX0_reached_13 (by decide) ?_
      refine jj_idiv hk (pc := 15) dX0_reached_15 (by decide) ?_
      refine jj_ishr hk (pc := 16) dX0_reached_16 ?_
      refine jj_iconst hk (pc := 17) (v := (1 : Int32)) dX0_reached_17 (by decide) ?_
      refine jj_iand hk (pc := 18) dX0_reached_18 ?_
      refine jj_iconst hk (pc := 19) (v := (1 : Int32)) dX0_reached_19 (by decide) ?_
      refine jj_icmp_ne hk (pc := 20) 44 dX0_reached_20 (by decide) ?_ ?_
      · refine jj_iconst hk (pc := 44) (v := (0 : Int32)) dX0_reached_44 (by decide) ?_
        refine jj_ior hk (pc := 45) dX0_reached_45 ?_
        refine jj_istore_n hk (pc := 46) [(2, .int (x2 ||| (0 : Int32))), (0, .ref (ha G 0)), (1, .int x1), (3, .int x3)] dX0_reached_46 rfl (Nat.le_of_ble_eq_true rfl) rfl ?_
        refine jj_iinc hk (pc := 47) [(3, .int (x3 + 1)), (2, .int (x2 ||| (0 : Int32))), (0, .ref (ha G 0)), (1, .int x1)] dX0_reached_47 3 rfl rfl (Nat.le_of_ble_eq_true rfl) rfl ?_
        refine jj_goto hk (pc := 50) 4 dX0_reached_50 (by decide) ?_
        refine jj_loc [(0, .ref (ha G 0)), (1, .int x1), (2, .int (x2 ||| (0 : Int32))), (3, .int (x3 + 1))] [2, 3, 1, 0] rfl ?_
        exact ih x1 (x2 ||| (0 : Int32)) (x3 + 1)
      · refine jj_aload_n hk (pc := 23) dX0_reached_23 0 rfl rfl ?_
        refine jc_g_now hk hH hK (pc := 24) dX0_reached_24 ?_
        refine jc_t_owed hk hH hK (pc := 27) dX0_reached_27 ?_
        refine jj_iload_n hk (pc := 30) dX0_reached_30 3 rfl rfl ?_
        refine jc_ld (j := 8) hk hH hK (pc := 31) (by decide) dX0_reached_31 (fun v1 => ?_)
        refine jj_if_le hk (pc := 32) 44 dX0_reached_32 (by decide) ?_ ?_
        · refine jj_iconst hk (pc := 44) (v := (0 : Int32)) dX0_reached_44 (by decide) ?_
          refine jj_ior hk (pc := 45) dX0_reached_45 ?_
          refine jj_istore_n hk (pc := 46) [(2, .int (x2 ||| (0 : Int32))), (0, .ref (ha G 0)), (1, .int x1), (3, .int x3)] dX0_reached_46 rfl (Nat.le_of_ble_eq_true rfl) rfl ?_
          refine jj_iinc hk (pc := 47) [(3, .int (x3 + 1)), (2, .int (x2 ||| (0 : Int32))), (0, .ref (ha G 0)), (1, .int x1)] dX0_reached_47 3 rfl rfl (Nat.le_of_ble_eq_true rfl) rfl ?_
          refine jj_goto hk (pc := 50) 4 dX0_reached_50 (by decide) ?_
          refine jj_loc [(0, .ref (ha G 0)), (1, .int x1), (2, .int (x2 ||| (0 : Int32))), (3, .int (x3 + 1))] [2, 3, 1, 0] rfl ?_
          exact ih x1 (x2 ||| (0 : Int32)) (x3 + 1)
        · refine jj_iconst hk (pc := 35) (v := (1 : Int32)) dX0_reached_35 (by decide) ?_
          refine jj_iload_n hk (pc := 36) dX0_reached_36 3 rfl rfl ?_
          refine jj_bipush hk (pc := 37) (v := (6 : Int32)) dX0_reached_37 (by decide) ?_
          refine jj_irem hk (pc := 39) dX0_reached_39 (by decide) ?_
          refine jj_ishl hk (pc := 40) dX0_reached_40 ?_
          refine jj_goto hk (pc := 41) 45 dX0_reached_41 (by decide) ?_
          refine jj_ior hk (pc := 45) dX0_reached_45 ?_
          refine jj_istore_n hk (pc := 46) [(2, .int (x2 ||| ((1 : Int32) <<< ((x3 - x3 / (6 : Int32) * (6 : Int32)) &&& 31)))), (0, .ref (ha G 0)), (1, .int x1), (3, .int x3)] dX0_reached_46 rfl (Nat.le_of_ble_eq_true rfl) rfl ?_
          refine jj_iinc hk (pc := 47) [(3, .int (x3 + 1)), (2, .int (x2 ||| ((1 : Int32) <<< ((x3 - x3 / (6 : Int32) * (6 : Int32)) &&& 31)))), (0, .ref (ha G 0)), (1, .int x1)] dX0_reached_47 3 rfl rfl (Nat.le_of_ble_eq_true rfl) rfl ?_
          refine jj_goto hk (pc := 50) 4 dX0_reached_50 (by decide) ?_
          refine jj_loc [(0, .ref (ha G 0)), (1, .int x1), (2, .int (x2 ||| ((1 : Int32) <<< ((x3 - x3 / (6 : Int32) * (6 : Int32)) &&& 31)))), (3, .int (x3 + 1))] [2, 3, 1, 0] rfl ?_
          exact ih x1 (x2 ||| ((1 : Int32) <<< ((x3 - x3 / (6 : Int32) * (6 : Int32)) &&& 31))) (x3 + 1)
set_option maxHeartbeats 4000000 in
theorem cc_f0_reached (l : Launch) {G : cG} {KK : State → Prop} (hH : cH G KK) (d : DS) (N : Nat) (σ : SS) (a0 : Int32) (res : Int32) (hf : f0_reached N σ a0 = some res) : jM l yX0_reached (ws_ yX0_reached cX0_reached 4 (some .int)) 1 40 [.ref (ha G 0), .int a0] (cWo G d) (cnx d) KK σ (jR σ res) (hA G) d.2 := by
  refine jj_start [(0, .ref (ha G 0)), (1, .int a0)] (by decide) (Nat.le_of_ble_eq_true rfl) rfl (fun p e R s m args below meth c hk hK hsz => ?_) hf
  have hk : jk p R s m args meth c d.2 cX0_reached 4 RX0 1 40 (some .int) := hk
  unfold f0_reached
  refine jj_iconst hk (pc := 0) (v := (0 : Int32)) dX0_reached_0 (by decide) ?_
  refine jj_istore_n hk (pc := 1) [(2, .int (0 : Int32)), (0, .ref (ha G 0)), (1, .int a0)] dX0_reached_1 rfl (Nat.le_of_ble_eq_true rfl) rfl ?_
  refine jj_iconst hk (pc := 2) (v := (0 : Int32)) dX0_reached_2 (by decide) ?_
  refine jj_istore_n hk (pc := 3) [(3, .int (0 : Int32)), (2, .int (0 : Int32)), (0, .ref (ha G 0)), (1, .int a0)] dX0_reached_3 rfl (Nat.le_of_ble_eq_true rfl) rfl ?_
  refine jj_loc [(0, .ref (ha G 0)), (1, .int a0), (2, .int (0 : Int32)), (3, .int (0 : Int32))] [2, 3, 1, 0] rfl ?_
  exact wb_f0_reached_L4 hk hH hK N σ N a0 (0 : Int32) (0 : Int32)
set_option maxHeartbeats 4000000 in
theorem wb_f0_ring_L16 {res : Int32} (hk : jk p R s m args meth c d.2 cX0_ring 4 RX0 3 83 (some .int)) (hH : cH G KK) (hK : KK s) (N : Nat) (σ : SS) : ∀ (n : Nat) (x1 : Int32) (x2 : Int32) (x3 : Int32), jj p l e R s m args below meth c (hA G) d.2 (jZ below args s (hA G) d.2 (jR σ res) (cWo G d) (cnx d)) (cWo G d) (cnx d) 4 σ 16 [(0, .ref (ha G 0)), (1, .int x1), (2, .int x2), (3, .int x3)] [] (f0_ring_L16 N σ n x1 x2 x3 = some res) := by
  intro n
  induction n with
  | zero => intro x1 x2 x3; exact jj_eq (fun hz => by rw [f0_ring_L16] at hz; exact hz) jj_no
  | succ n ih =>
    intro x1 x2 x3
    rw [f0_ring_L16]
    refine jj_aload_n hk (pc := 16) dX0_ring_16 0 rfl rfl ?_
    refine jj_iload_n hk (pc := 17) dX0_ring_17 2 rfl rfl ?_
    refine kc_X0_0_reached hk hH hK (pc := 18) (a0 := x2) (fun r h => cc_f0_reached l hH d N σ x2 r h) dX0_ring_18 ⟨Nat.le_of_ble_eq_true rfl, Nat.le_of_ble_eq_true rfl⟩ (Nat.le_of_ble_eq_true rfl) (fun r1 => ?_)
    refine jj_istore_n hk (pc := 21) [(2, .int r1), (0, .ref (ha G 0)), (1, .int x1), (3, .int x3)] dX0_ring_21 rfl (Nat.le_of_ble_eq_true rfl) rfl ?_
    refine jj_iinc hk (pc := 22) [(3, .int (x3 + 1)), (2, .int r1), (0, .ref (ha G 0)), (1, .int x1)] dX0_ring_22 3 rfl rfl (Nat.le_of_ble_eq_true rfl) rfl ?_
    refine jj_iload_n hk (pc := 25) dX0_ring_25 1 rfl rfl ?_
    refine jj_iload_n hk (pc := 26) dX0_ring_26 3 rfl rfl ?_
    refine jj_ishr hk (pc := 27) dX0_ring_27 ?_
    refine jj_iconst hk (pc := 28) (v := (1 : Int32)) dX0_ring_28 (by decide) ?_
    refine jj_iand hk (pc := 29) dX0_ring_29 ?_
    refine jj_if_ne hk (pc := 30) 39 dX0_ring_30 (by decide) ?_ ?_
    · refine jj_iload_n hk (pc := 39) dX0_ring_39 0 rfl rfl ?_
      refine jj_bipush hk (pc := 40) (v := (6 : Int32)) dX0_ring_40 (by decide) ?_
      refine jj_icmp_gt hk (pc := 42) 49 dX0_ring_42 (by decide) ?_ ?_
      · refine jj_bipush hk (pc := 49) (v := (-3 : Int32)) dX0_ring_49 (by decide) ?_
        exact jc_retRi hk (pc := 51) dX0_ring_51
      · refine jj_iload_n hk (pc := 45) dX0_ring_45 0 rfl rfl ?_
        refine jj_goto hk (pc := 46) 51 dX0_ring_46 (by decide) ?_
        exact jc_retRi hk (pc := 51) dX0_ring_51
    · refine jj_iload_n hk (pc := 33) dX0_ring_33 0 rfl rfl ?_
      refine jj_bipush hk (pc := 34) (v := (6 : Int32)) dX0_ring_34 (by decide) ?_
      refine jj_icmp_le hk (pc := 36) 16 dX0_ring_36 (by decide) ?_ ?_
      · refine jj_loc [(0, .ref (ha G 0)), (1, .int x1), (2, .int r1), (3, .int (x3 + 1))] [2, 3, 1, 0] rfl ?_
        exact ih x1 r1 (x3 + 1)
      · refine jj_iload_n hk (pc := 39) dX0_ring_39 0 rfl rfl ?_
        refine jj_bipush hk (pc := 40) (v := (6 : Int32)) dX0_ring_40 (by decide) ?_
        refine jj_icmp_gt hk (pc := 42) 49 dX0_ring_42 (by decide) ?_ ?_
        · refine jj_bipush hk (pc := 49) (v := (-3 : Int32)) dX0_ring_49 (by decide) ?_
          exact jc_retRi hk (pc := 51) dX0_ring_51
        · refine jj_iload_n hk (pc := 45) dX0_ring_45 0 rfl rfl ?_
          refine jj_goto hk (pc := 46) 51 dX0_ring_46 (by decide) ?_
          exact jc_retRi hk (pc := 51) dX0_ring_51
set_option maxHeartbeats 4000000 in
theorem cc_f0_ring (l : Launch) {G : cG} {KK : State → Prop} (hH : cH G KK) (d : DS) (N : Nat) (σ : SS) (a0 : Int32) (res : Int32) (hf : f0_ring N σ a0 = some res) : jM l yX0_ring (ws_ yX0_ring cX0_ring 4 (some .int)) 3 83 [.ref (ha G 0), .int a0] (cWo G d) (cnx d) KK σ (jR σ res) (hA G) d.2 := by
  refine jj_start [(0, .ref (ha G 0)), (1, .int a0)] (by decide) (Nat.le_of_ble_eq_true rfl) rfl (fun p e R s m args below meth c hk hK hsz => ?_) hf
  have hk : jk p R s m args meth c d.2 cX0_ring 4 RX0 3 83 (some .int) := hk
  unfold f0_ring
  refine jj_aload_n hk (pc := 0) dX0_ring_0 0 rfl rfl ?_
  refine jj_iload_n hk (pc := 1) dX0_ring_1 1 rfl rfl ?_
  refine kc_X0_0_isPerson hk hH hK (pc := 2) (a0 := a0) (fun r h => cc_f0_isPerson l hH d σ a0 r h) dX0_ring_2 ⟨Nat.le_of_ble_eq_true rfl, Nat.le_of_ble_eq_true rfl⟩ (Nat.le_of_ble_eq_true rfl) (fun r1 => ?_)
  refine jj_if_ne_b hk (pc := 5) 10 dX0_ring_5 (by decide) ?_ ?_
  · refine jj_iconst hk (pc := 10) (v := (1 : Int32)) dX0_ring_10 (by decide) ?_
    refine jj_iload_n hk (pc := 11) dX0_ring_11 1 rfl rfl ?_
    refine jj_ishl hk (pc := 12) dX0_ring_12 ?_
    refine jj_istore_n hk (pc := 13) [(2, .int ((1 : Int32) <<< (a0 &&& 31))), (0, .ref (ha G 0)), (1, .int a0)] dX0_ring_13 rfl (Nat.le_of_ble_eq_true rfl) rfl ?_
    refine jj_iconst hk (pc := 14) (v := (0 : Int32)) dX0_ring_14 (by decide) ?_
    refine jj_istore_n hk (pc := 15) [(3, .int (0 : Int32)), (2, .int ((1 : Int32) <<< (a0 &&& 31))), (0, .ref (ha G 0)), (1, .int a0)] dX0_ring_15 rfl (Nat.le_of_ble_eq_true rfl) rfl ?_
    refine jj_loc [(0, .ref (ha G 0)), (1, .int a0), (2, .int ((1 : Int32) <<< (a0 &&& 31))), (3, .int (0 : Int32))] [2, 3, 1, 0] rfl ?_
    exact wb_f0_ring_L16 hk hH hK N σ N a0 ((1 : Int32) <<< (a0 &&& 31)) (0 : Int32)
  · refine jj_iconst hk (pc := 8) (v := (-1 : Int32)) dX0_ring_8 (by decide) ?_
    exact jc_retRi hk (pc := 9) dX0_ring_9
set_option maxHeartbeats 4000000 in
theorem cc_f0_isAct (l : Launch) {G : cG} {KK : State → Prop} (hH : cH G KK) (d : DS)  (σ : SS) (a0 : Int32) (res : Bool) (hf : f0_isAct σ a0 = some res) : jM l yX0_isAct (ws_ yX0_isAct cX0_isAct 2 (some .boolean)) 2 62 [.ref (ha G 0), .int a0] (cWo G d) (cnx d) KK σ (jRz σ res) (hA G) d.2 := by
  refine jj_start [(0, .ref (ha G 0)), (1, .int a0)] (by decide) (Nat.le_of_ble_eq_true rfl) rfl (fun p e R s m args below meth c hk hK hsz => ?_) hf
  have hk : jk p R s m args meth c d.2 cX0_isAct 2 RX0 2 62 (some .boolean) := hk
  unfold f0_isAct
  refine jj_iload_n hk (pc := 0) dX0_isAct_0 1 rfl rfl ?_
  refine jj_iconst hk (pc := 1) (v := (0 : Int32)) dX0_isAct_1 (by decide) ?_
  refine jj_aload_n hk (pc := 2) dX0_isAct_2 0 rfl rfl ?_
  refine jc_g_now hk hH hK (pc := 3) dX0_isAct_3 ?_
  refine jc_t_people hk hH hK (pc := 6) dX0_isAct_6 ?_
  refine kc_X0_0_isIn hk hH hK (pc := 9) (a0 := a0) (a1 := (0 : Int32)) (a2 := (σ.1 0)) (fun r h => cc_f0_isIn l hH d σ a0 (0 : Int32) (σ.1 0) r h) dX0_isAct_9 ⟨Nat.le_of_ble_eq_true rfl, Nat.le_of_ble_eq_true rfl⟩ (Nat.le_of_ble_eq_true rfl) (fun r1 => ?_)
  exact jc_retRz hk (pc := 12) (b := r1) dX0_isAct_12
set_option maxHeartbeats 4000000 in
theorem wb_f0_plansFrom_B14 {res : SS} {fr0 lo0 : Nat} (hk : jk p R s m args meth c d.2 cX0_plansFrom 6 RX0 (fr0 + 485) (lo0 + 12133) none) (hH : cH G KK) (hK : KK s) {k_plansFrom : SS → Int32 → Int32 → Int32 → Option SS} (hk_plansFrom : ∀ (σ : SS) (b0 : Int32) (b1 : Int32) (b2 : Int32) (r : SS), k_plansFrom σ b0 b1 b2 = some r → jM l yX0_plansFrom (ws_ yX0_plansFrom cX0_plansFrom 6 none) fr0 lo0 [.ref (ha G 0), .int b0, .int b1, .int b2] (cWo G d) (cnx d) KK σ (jV r) (hA G) d.2) (N : Nat) (σ : SS) (x2 : Int32) (x3 : Int32) : jj p l e R s m args below meth c (hA G) d.2 (jZ below args s (hA G) d.2 (jV res) (cWo G d) (cnx d)) (cWo G d) (cnx d) 6 σ 14 [(0, .ref (ha G 0)), (2, .int x2), (3, .int x3)] [] (f0_plansFrom_B14 N k_plansFrom d σ x2 x3 = some res) := by
  unfold f0_plansFrom_B14
  refine jj_aload_n hk (pc := 14) dX0_plansFrom_14 0 rfl rfl ?_
  refine jj_iload_n hk (pc := 15) dX0_plansFrom_15 2 rfl rfl ?_
  refine jj_aload_n hk (pc := 16) dX0_plansFrom_16 0 rfl rfl ?_
  refine jc_g_most hk hH hK (pc := 17) dX0_plansFrom_17 ?_
  refine jj_icmp_le hk (pc := 20) 27 dX0_plansFrom_20 (by decide) ?_ ?_
  · refine jj_iload_n hk (pc := 27) dX0_plansFrom_27 2 rfl rfl ?_
    refine jj_aload_n hk (pc := 28) dX0_plansFrom_28 0 rfl rfl ?_
    refine jc_g_most hk hH hK (pc := 29) dX0_plansFrom_29 ?_
    refine jj_icmp_ne hk (pc := 32) 44 dX0_plansFrom_32 (by decide) ?_ ?_
    · refine jj_aload_n hk (pc := 44) dX0_plansFrom_44 0 rfl rfl ?_
      refine jc_g_ways hk hH hK (pc := 45) dX0_plansFrom_45 ?_
      refine jc_p_ways hk hH hK (pc := 48) dX0_plansFrom_48 (fun σ1 => ?_)
      refine jj_iload_n hk (pc := 51) dX0_plansFrom_51 2 rfl rfl ?_
      refine jj_aload_n hk (pc := 52) dX0_plansFrom_52 0 rfl rfl ?_
      refine jc_g_most hk hH hK (pc := 53) dX0_plansFrom_53 ?_
      refine jj_icmp_gt hk (pc := 56) 60 dX0_plansFrom_56 (by decide) ?_ ?_
      · refine jj_aload_n hk (pc := 60) dX0_plansFrom_60 0 rfl rfl ?_
        refine jj_iload_n hk (pc := 61) dX0_plansFrom_61 2 rfl rfl ?_
        refine jc_p_most hk hH hK (pc := 62) dX0_plansFrom_62 (fun σ2 => ?_)
        refine jj_aload_n hk (pc := 65) dX0_plansFrom_65 0 rfl rfl ?_
        refine jj_iload_n hk (pc := 66) dX0_plansFrom_66 1 rfl rfl ?_
        refine jc_p_planLong hk hH hK (pc := 67) dX0_plansFrom_67 (fun σ3 => ?_)
        refine jj_aload_n hk (pc := 70) dX0_plansFrom_70 0 rfl rfl ?_
        refine jc_g_told hk hH hK (pc := 71) dX0_plansFrom_71 ?_
        refine jj_iconst hk (pc := 74) (v := (0 : Int32)) dX0_plansFrom_74 (by decide) ?_
        refine jj_aload_n hk (pc := 75) dX0_plansFrom_75 0 rfl rfl ?_
        refine jc_g_plan hk hH hK (pc := 76) dX0_plansFrom_76 ?_
        refine jj_iconst hk (pc := 79) (v := (0 : Int32)) dX0_plansFrom_79 (by decide) ?_
        refine jj_iload_n hk (pc := 80) dX0_plansFrom_80 1 rfl rfl ?_
        refine jc_cp (j1 := 42) (j2 := 43) hk hH hK (pc := 81) q930 (by decide) (by decide) dX0_plansFrom_81 ⟨by omega, by omega⟩ (Nat.le_of_ble_eq_true rfl) (fun σ4 => ?_)
        exact jc_retV hk (pc := 84) dX0_plansFrom_84
      · exact jc_retV hk (pc := 59) dX0_plansFrom_59
    · refine jj_aload_n hk (pc := 35) dX0_plansFrom_35 0 rfl rfl ?_
      refine jc_g_ways hk hH hK (pc := 36) dX0_plansFrom_36 ?_
      refine jj_iconst hk (pc := 39) (v := (1 : Int32)) dX0_plansFrom_39 (by decide) ?_
      refine jj_iadd hk (pc := 40) dX0_plansFrom_40 ?_
      refine jj_goto hk (pc := 41) 48 dX0_plansFrom_41 (by decide) ?_
      refine jc_p_ways hk hH hK (pc := 48) dX0_plansFrom_48 (fun σ5 => ?_)
      refine jj_iload_n hk (pc := 51) dX0_plansFrom_51 2 rfl rfl ?_
      refine jj_aload_n hk (pc := 52) dX0_plansFrom_52 0 rfl rfl ?_
      refine jc_g_most hk hH hK (pc := 53) dX0_plansFrom_53 ?_
      refine jj_icmp_gt hk (pc := 56) 60 dX0_plansFrom_56 (by decide) ?_ ?_
      · refine jj_aload_n hk (pc := 60) dX0_plansFrom_60 0 rfl rfl ?_
        refine jj_iload_n hk (pc := 61) dX0_plansFrom_61 2 rfl rfl ?_
        refine jc_p_most hk hH hK (pc := 62) dX0_plansFrom_62 (fun σ6 => ?_)
        refine jj_aload_n hk (pc := 65) dX0_plansFrom_65 0 rfl rfl ?_
        refine jj_iload_n hk (pc := 66) dX0_plansFrom_66 1 rfl rfl ?_
        refine jc_p_planLong hk hH hK (pc := 67) dX0_plansFrom_67 (fun σ7 => ?_)
        refine jj_aload_n hk (pc := 70) dX0_plansFrom_70 0 rfl rfl ?_
        refine jc_g_told hk hH hK (pc := 71) dX0_plansFrom_71 ?_
        refine jj_iconst hk (pc := 74) (v := (0 : Int32)) dX0_plansFrom_74 (by decide) ?_
        refine jj_aload_n hk (pc := 75) dX0_plansFrom_75 0 rfl rfl ?_
        refine jc_g_plan hk hH hK (pc := 76) dX0_plansFrom_76 ?_
        refine jj_iconst hk (pc := 79) (v := (0 : Int32)) dX0_plansFrom_79 (by decide) ?_
        refine jj_iload_n hk (pc := 80) dX0_plansFrom_80 1 rfl rfl ?_
        refine jc_cp (j1 := 42) (j2 := 43) hk hH hK (pc := 81) q930 (by decide) (by decide) dX0_plansFrom_81 ⟨by omega, by omega⟩ (Nat.le_of_ble_eq_true rfl) (fun σ8 => ?_)
        exact jc_retV hk (pc := 84) dX0_plansFrom_84
      · exact jc_retV hk (pc := 59) dX0_plansFrom_59
  · refine jj_iconst hk (pc := 23) (v := (1 : Int32)) dX0_plansFrom_23 (by decide) ?_
    refine jj_goto hk (pc := 24) 48 dX0_plansFrom_24 (by decide) ?_
    refine jc_p_ways hk hH hK (pc := 48) dX0_plansFrom_48 (fun σ9 => ?_)
    refine jj_iload_n hk (pc := 51) dX0_plansFrom_51 2 rfl rfl ?_
    refine jj_aload_n hk (pc := 52) dX0_plansFrom_52 0 rfl rfl ?_
    refine jc_g_most hk hH hK (pc := 53) dX0_plansFrom_53 ?_
    refine jj_icmp_gt hk (pc := 56) 60 dX0_plansFrom_56 (by decide) ?_ ?_
    · refine jj_aload_n hk (pc := 60) dX0_plansFrom_60 0 rfl rfl ?_
      refine jj_iload_n hk (pc := 61) dX0_plansFrom_61 2 rfl rfl ?_
      refine jc_p_most hk hH hK (pc := 62) dX0_plansFrom_62 (fun σ10 => ?_)
      refine jj_aload_n hk (pc := 65) dX0_plansFrom_65 0 rfl rfl ?_
      refine jj_iload_n hk (pc := 66) dX0_plansFrom_66 1 rfl rfl ?_
      refine jc_p_planLong hk hH hK (pc := 67) dX0_plansFrom_67 (fun σ11 => ?_)
      refine jj_aload_n hk (pc := 70) dX0_plansFrom_70 0 rfl rfl ?_
      refine jc_g_told hk hH hK (pc := 71) dX0_plansFrom_71 ?_
      refine jj_iconst hk (pc := 74) (v := (0 : Int32)) dX0_plansFrom_74 (by decide) ?_
      refine jj_aload_n hk (pc := 75) dX0_plansFrom_75 0 rfl rfl ?_
      refine jc_g_plan hk hH hK (pc := 76) dX0_plansFrom_76 ?_
      refine jj_iconst hk (pc := 79) (v := (0 : Int32)) dX0_plansFrom_79 (by decide) ?_
      refine jj_iload_n hk (pc := 80) dX0_plansFrom_80 1 rfl rfl ?_
      refine jc_cp (j1 := 42) (j2 := 43) hk hH hK (pc := 81) q930 (by decide) (by decide) dX0_plansFrom_81 ⟨by omega, by omega⟩ (Nat.le_of_ble_eq_true rfl) (fun σ12 => ?_)
      exact jc_retV hk (pc := 84) dX0_plansFrom_84
    · exact jc_retV hk (pc := 59) dX0_plansFrom_59
set_option maxHeartbeats 4000000 in
theorem wb_f0_plansFrom_L93 {res : SS} {fr0 lo0 : Nat} (hk : jk p R s m args meth c d.2 cX0_plansFrom 6 RX0 (fr0 + 485) (lo0 + 12133) none) (hH : cH G KK) (hK : KK s) {k_plansFrom : SS → Int32 → Int32 → Int32 → Option SS} (hk_plansFrom : ∀ (σ : SS) (b0 : Int32) (b1 : Int32) (b2 : Int32) (r : SS), k_plansFrom σ b0 b1 b2 = some r → jM l yX0_plansFrom (ws_ yX0_plansFrom cX0_plansFrom 6 none) fr0 lo0 [.ref (ha G 0), .int b0, .int b1, .int b2] (cWo G d) (cnx d) KK σ (jV r) (hA G) d.2) (N : Nat) : ∀ (n : Nat) (σ : SS) (x1 : Int32) (x2 : Int32) (x3 : Int32) (x4 : Int32), jj p l e R s m args below meth c (hA G) d.2 (jZ below args s (hA G) d.2 (jV res) (cWo G d) (cnx d)) (cWo G d) (cnx d) 6 σ 93 [(0, .ref (ha G 0)), (1, .int x1), (2, .int x2), (3, .int x3), (4, .int x4)] [] (f0_plansFrom_L93 N k_plansFrom d n σ x1 x2 x3 x4 = some res) := by
  intro n
  induction n with
  | zero => intro σ x1 x2 x3 x4; exact jj_eq (fun hz => by rw [f0_plansFrom_L93] at hz; exact hz) jj_no
  | succ n ih =>
    intro σ x1 x2 x3 x4
    rw [f0_plansFrom_L93]
    refine jj_iload hk (pc := 93) dX0_plansFrom_93 4 rfl ?_
    refine jj_aload_n hk (pc := 95) dX0_plansFrom_95 0 rfl rfl ?_
    refine jc_g_now hk hH hK (pc := 96) dX0_plansFrom_96 ?_
    refine jc_t_people hk hH hK (pc := 99) dX0_plansFrom_99 ?_
    refine jj_icmp_gt hk (pc := 102) 148 dX0_plansFrom_102 (by decide) ?_ ?_
    · exact jc_retV hk (pc := 148) dX0_plansFrom_148
    · refine jj_aload_n hk (pc := 105) dX0_plansFrom_105 0 rfl rfl ?_
      refine jc_g_told hk hH hK (pc := 106) dX0_plansFrom_106 ?_
      refine jj_iload_n hk (pc := 109) dX0_plansFrom_109 2 rfl rfl ?_
      refine jj_iload hk (pc := 110) dX0_plansFrom_110 4 rfl ?_
      refine jc_st (j := 42) hk hH hK (pc := 112) (by decide) dX0_plansFrom_112 (fun σ1 => ?_)
      refine jj_aload_n hk (pc := 113) dX0_plansFrom_113 0 rfl rfl ?_
      refine jj_iload hk (pc := 114) dX0_plansFrom_114 4 rfl ?_
      refine jj_iconst hk (pc := 116) (v := (1 : Int32)) dX0_plansFrom_116 (by decide) ?_
      refine jj_isub hk (pc := 117) dX0_plansFrom_117 ?_
      refine kc_X0_0_passes hk hH hK (pc := 118) (a0 := (x4 - (1 : Int32))) (fun r h => cc_f0_passes l hH d N σ1 (x4 - (1 : Int32)) r h) dX0_plansFrom_118 ⟨by omega, by omega⟩ (Nat.le_of_ble_eq_true rfl) (fun r2 => ?_)
      refine jj_istore hk (pc := 121) [(5, .int r2.1), (0, .ref (ha G 0)), (1, .int x1), (2, .int x2), (3, .int x3), (4, .int x4)] dX0_plansFrom_121 (Nat.le_of_ble_eq_true rfl) rfl ?_
      refine jj_aload_n hk (pc := 123) dX0_plansFrom_123 1 rfl rfl ?_
      refine jj_iload_n hk (pc := 124) dX0_plansFrom_124 2 rfl rfl ?_
      refine jj_iconst hk (pc := 125) (v := (1 : Int32)) dX0_plansFrom_125 (by decide) ?_
      refine jj_isub hk (pc := 126) dX0_plansFrom_126 ?_
      refine jj_iload_n hk (pc := 127) dX0_plansFrom_127 3 rfl rfl ?_
      refine jj_iconst hk (pc := 128) (v := (1 : Int32)) dX0_plansFrom_128 (by decide) ?_
      refine jj_iadd hk (pc := 129) dX0_plansFrom_129 ?_
      refine jj_iload_n hk (pc := 130) dX0_plansFrom_130 4 rfl rfl ?_
      refine jj_iload hk (pc := 131) dX0_plansFrom_131 0 rfl ?_
      refine jj_iadd hk (pc := 133) dX0_plansFrom_133 ?_
      refine kc_X0_0_plansFrom hk hH hK (pc := 134) (a0 := (x1 - (1 : Int32))) (a1 := (x2 + (1 : Int32))) (a2 := (x3 + r2.1)) (hk_plansFrom r2.2 (x1 - (1 : Int32)) (x2 + (1 : Int32)) (x3 + r2.1)) dX0_plansFrom_134 ⟨by omega, by omega⟩ (Nat.le_of_ble_eq_true rfl) (fun r3 => ?_)
      refine jj_aload_n hk (pc := 137) dX0_plansFrom_137 1 rfl rfl ?_
      refine jj_iload_n hk (pc := 138) dX0_plansFrom_138 3 rfl rfl ?_
      refine kc_X0_0_goesBack hk hH hK (pc := 139) (a0 := x2) (fun r h => cc_f0_goesBack l hH d r3 x2 r h) dX0_plansFrom_139 ⟨by omega, by omega⟩ (Nat.le_of_ble_eq_true rfl) (fun r4 => ?_)
      refine jj_iinc hk (pc := 142) [(4, .int (x4 + 1)), (5, .int r2.1), (0, .ref (ha G 0)), (1, .int x1), (2, .int x2), (3, .int x3)] dX0_plansFrom_142 5 rfl rfl (Nat.le_of_ble_eq_true rfl) rfl ?_
      refine jj_goto hk (pc := 145) 93 dX0_plansFrom_145 (by decide) ?_
      refine jj_loc [(0, .ref (ha G 0)), (1, .int x1), (2, .int x2), (3, .int x3), (4, .int (x4 + 1))] [2, 3, 4, 5, 0] rfl ?_
      exact ih r4 x1 x2 x3 (x4 + 1)
set_option maxHeartbeats 4000000 in
theorem cc_f0_plansFrom (l : Launch) {G : cG} {KK : State → Prop} (hH : cH G KK) (d : DS) (N : Nat) : ∀ (D : Nat) (σ : SS) (a0 : Int32) (a1 : Int32) (a2 : Int32) (res : SS) (hf : f0_plansFrom N d D σ a0 a1 a2 = some res), jM l yX0_plansFrom (ws_ yX0_plansFrom cX0_plansFrom 6 none) (485 * D) (12133 * D) [.ref (ha G 0), .int a0, .int a1, .int a2] (cWo G d) (cnx d) KK σ (jV res) (hA G) d.2 := by
  intro D
  induction D with
  | zero => intro σ a0 a1 a2 res hf; rw [f0_plansFrom] at hf; cases hf
  | succ D ih =>
    intro σ a0 a1 a2 res hf
    rw [f0_plansFrom] at hf
    have hk_plansFrom := ih
    refine jj_start [(0, .ref (ha G 0)), (1, .int a0), (2, .int a1), (3, .int a2)] (by decide) (Nat.le_of_ble_eq_true rfl) rfl (fun p e R s m args below meth c hk hK hsz => ?_) hf
    have hk : jk p R s m args meth c d.2 cX0_plansFrom 6 RX0 (485 * D + 485) (12133 * D + 12133) none := hk
    have hsz : True := trivial
    refine jj_iload_n hk (pc := 0) dX0_plansFrom_0 1 rfl rfl ?_
    refine jj_if_eq hk (pc := 1) 14 dX0_plansFrom_1 (by decide) ?_ ?_
    · refine jj_loc [(0, .ref (ha G 0)), (2, .int a1), (3, .int a2)] [0, 2, 3] rfl ?_
      exact wb_f0_plansFrom_B14 hk hH hK hk_plansFrom N σ a1 a2
    · refine jj_aload_n hk (pc := 4) dX0_plansFrom_4 0 rfl rfl ?_
      refine jc_g_now hk hH hK (pc := 5) dX0_plansFrom_5 ?_
      refine kc_X0_3_isOver hk hH hK (pc := 8) (t0 := 0) (fun r h => cc_f3_isOver l hH d σ 0 (by decide) r h) (by decide) dX0_plansFrom_8 ⟨by omega, by omega⟩ (Nat.le_of_ble_eq_true rfl) (fun r1 => ?_)
      refine jj_if_eq_b hk (pc := 11) 85 dX0_plansFrom_11 (by decide) ?_ ?_
      · refine jj_aload_n hk (pc := 85) dX0_plansFrom_85 0 rfl rfl ?_
        refine jj_iload_n hk (pc := 86) dX0_plansFrom_86 2 rfl rfl ?_
        refine kc_X0_0_saves hk hH hK (pc := 87) (a0 := a1) (fun r h => cc_f0_saves l hH d σ a1 r h) dX0_plansFrom_87 ⟨by omega, by omega⟩ (Nat.le_of_ble_eq_true rfl) (fun r2 => ?_)
        refine jj_iconst hk (pc := 90) (v := (0 : Int32)) dX0_plansFrom_90 (by decide) ?_
        refine jj_istore hk (pc := 91) [(4, .int (0 : Int32)), (0, .ref (ha G 0)), (1, .int a0), (2, .int a1), (3, .int a2)] dX0_plansFrom_91 (Nat.le_of_ble_eq_true rfl) rfl ?_
        refine jj_loc [(0, .ref (ha G 0)), (1, .int a0), (2, .int a1), (3, .int a2), (4, .int (0 : Int32))] [1, 2, 3, 4, 0] rfl ?_
        exact wb_f0_plansFrom_L93 hk hH hK hk_plansFrom N N r2 a0 a1 a2 (0 : Int32)
      · refine jj_loc [(0, .ref (ha G 0)), (2, .int a1), (3, .int a2)] [0, 2, 3] rfl ?_
        exact wb_f0_plansFrom_B14 hk hH hK hk_plansFrom N σ a1 a2
set_option maxHeartbeats 4000000 in
theorem cc_f0_findPlans (l : Launch) {G : cG} {KK : State → Prop} (hH : cH G KK) (d : DS) (N : Nat) (σ : SS) (a0 : Int32) (res : SS) (hf : f0_findPlans N d σ a0 = some res) : jM l yX0_findPlans (ws_ yX0_findPlans cX0_findPlans 2 none) 2911 72823 [.ref (ha G 0), .int a0] (cWo G d) (cnx d) KK σ (jV res) (hA G) d.2 := by
  refine jj_start [(0, .ref (ha G 0)), (1, .int a0)] (by decide) (Nat.le_of_ble_eq_true rfl) rfl (fun p e R s m args below meth c hk hK hsz => ?_) hf
  have hk : jk p R s m args meth c d.2 cX0_findPlans 2 RX0 2911 72823 none := hk
  unfold f0_findPlans
  refine jj_aload_n hk (pc := 0) dX0_findPlans_0 0 rfl rfl ?_
  refine jj_iconst hk (pc := 1) (v := (-1 : Int32)) dX0_findPlans_1 (by decide) ?_
  refine jc_p_most hk hH hK (pc := 2) dX0_findPlans_2 (fun σ1 => ?_)
  refine jj_aload_n hk (pc := 5) dX0_findPlans_5 0 rfl rfl ?_
  refine jj_iconst hk (pc := 6) (v := (0 : Int32)) dX0_findPlans_6 (by decide) ?_
  refine jc_p_ways hk hH hK (pc := 7) dX0_findPlans_7 (fun σ2 => ?_)
  refine jj_aload_n hk (pc := 10) dX0_findPlans_10 0 rfl rfl ?_
  refine jj_iconst hk (pc := 11) (v := (0 : Int32)) dX0_findPlans_11 (by decide) ?_
  refine jc_p_planLong hk hH hK (pc := 12) dX0_findPlans_12 (fun σ3 => ?_)
  refine jj_aload_n hk (pc := 15) dX0_findPlans_15 0 rfl rfl ?_
  refine jj_iload_n hk (pc := 16) dX0_findPlans_16 1 rfl rfl ?_
  refine jj_iconst hk (pc := 17) (v := (0 : Int32)) dX0_findPlans_17 (by decide) ?_
  refine jj_iconst hk (pc := 18) (v := (0 : Int32)) dX0_findPlans_18 (by decide) ?_
  refine kc_X0_0_plansFrom hk hH hK (pc := 19) (a0 := a0) (a1 := (0 : Int32)) (a2 := (0 : Int32)) (fun r h => cc_f0_plansFrom l hH d N 6 σ3 a0 (0 : Int32) (0 : Int32) r h) dX0_findPlans_19 ⟨Nat.le_of_ble_eq_true rfl, Nat.le_of_ble_eq_true rfl⟩ (Nat.le_of_ble_eq_true rfl) (fun r4 => ?_)
  exact jc_retV hk (pc := 22) dX0_findPlans_22
set_option maxHeartbeats 4000000 in
theorem cc_f0_best (l : Launch) {G : cG} {KK : State → Prop} (hH : cH G KK) (d : DS) (N : Nat) (σ : SS) (a0 : Int32) (res : (Int32 × SS)) (hf : f0_best N d σ a0 = some res) : jM l yX0_best (ws_ yX0_best cX0_best 2 (some .int)) 2912 72844 [.ref (ha G 0), .int a0] (cWo G d) (cnx d) KK σ (jU res) (hA G) d.2 := by
  refine jj_start [(0, .ref (ha G 0)), (1, .int a0)] (by decide) (Nat.le_of_ble_eq_true rfl) rfl (fun p e R s m args below meth c hk hK hsz => ?_) hf
  have hk : jk p R s m args meth c d.2 cX0_best 2 RX0 2912 72844 (some .int) := hk
  unfold f0_best
  refine jj_iload_n hk (pc := 0) dX0_best_0 1 rfl rfl ?_
  refine jj_iconst hk (pc := 1) (v := (0 : Int32)) dX0_best_1 (by decide) ?_
  refine jj_iconst hk (pc := 2) (v := (4 : Int32)) dX0_best_2 (by decide) ?_
  refine kc_X0_0_isIn hk hH hK (pc := 3) (a0 := a0) (a1 := (0 : Int32)) (a2 := (4 : Int32)) (fun r h => cc_f0_isIn l hH d σ a0 (0 : Int32) (4 : Int32) r h) dX0_best_3 ⟨Nat.le_of_ble_eq_true rfl, Nat.le_of_ble_eq_true rfl⟩ (Nat.le_of_ble_eq_true rfl) (fun r1 => ?_)
  refine jj_if_ne_b hk (pc := 6) 11 dX0_best_6 (by decide) ?_ ?_
  · refine jj_aload_n hk (pc := 11) dX0_best_11 0 rfl rfl ?_
    refine jj_iload_n hk (pc := 12) dX0_best_12 1 rfl rfl ?_
    refine kc_X0_0_findPlans hk hH hK (pc := 13) (a0 := a0) (fun r h => cc_f0_findPlans l hH d N σ a0 r h) dX0_best_13 ⟨Nat.le_of_ble_eq_true rfl, Nat.le_of_ble_eq_true rfl⟩ (Nat.le_of_ble_eq_true rfl) (fun r2 => ?_)
    refine jj_aload_n hk (pc := 16) dX0_best_16 0 rfl rfl ?_
    refine jc_g_most hk hH hK (pc := 17) dX0_best_17 ?_
    exact jc_retUi hk (pc := 20) dX0_best_20
  · refine jj_iconst hk (pc := 9) (v := (-1 : Int32)) dX0_best_9 (by decide) ?_
    exact jc_retUi hk (pc := 10) dX0_best_10
set_option maxHeartbeats 4000000 in
theorem cc_f0_ith (l : Launch) {G : cG} {KK : State → Prop} (hH : cH G KK) (d : DS) (N : Nat) (σ : SS) (a0 : Int32) (a1 : Int32) (res : (Int32 × SS)) (hf : f0_ith N d σ a0 a1 = some res) : jM l yX0_ith (ws_ yX0_ith cX0_ith 3 (some .int)) 2912 72844 [.ref (ha G 0), .int a0, .int a1] (cWo G d) (cnx d) KK σ (jU res) (hA G) d.2 := by
  refine jj_start [(0, .ref (ha G 0)), (1, .int a0), (2, .int a1)] (by decide) (Nat.le_of_ble_eq_true rfl) rfl (fun p e R s m args below meth c hk hK hsz => ?_) hf
  have hk : jk p R s m args meth c d.2 cX0_ith 3 RX0 2912 72844 (some .int) := hk
  unfold f0_ith
  refine jj_iload_n hk (pc := 0) dX0_ith_0 1 rfl rfl ?_
  refine jj_iconst hk (pc := 1) (v := (0 : Int32)) dX0_ith_1 (by decide) ?_
  refine jj_iconst hk (pc := 2) (v := (4 : Int32)) dX0_ith_2 (by decide) ?_
  refine kc_X0_0_isIn hk hH hK (pc := 3) (a0 := a0) (a1 := (0 : Int32)) (a2 := (4 : Int32)) (fun r h => cc_f0_isIn l hH d σ a0 (0 : Int32) (4 : Int32) r h) dX0_ith_3 ⟨Nat.le_of_ble_eq_true rfl, Nat.le_of_ble_eq_true rfl⟩ (Nat.le_of_ble_eq_true rfl) (fun r1 => ?_)
  refine jj_if_eq_b hk (pc := 6) 18 dX0_ith_6 (by decide) ?_ ?_
  · refine jj_iconst hk (pc := 18) (v := (-1 : Int32)) dX0_ith_18 (by decide) ?_
    exact jc_retUi hk (pc := 19) dX0_ith_19
  · refine jj_iload_n hk (pc := 9) dX0_ith_9 2 rfl rfl ?_
    refine jj_iconst hk (pc := 10) (v := (0 : Int32)) dX0_ith_10 (by decide) ?_
    refine jj_iconst hk (pc := 11) (v := (3 : Int32)) dX0_ith_11 (by decide) ?_
    refine kc_X0_0_isIn hk hH hK (pc := 12) (a0 := a1) (a1 := (0 : Int32)) (a2 := (3 : Int32)) (fun r h => cc_f0_isIn l hH d σ a1 (0 : Int32) (3 : Int32) r h) dX0_ith_12 ⟨Nat.le_of_ble_eq_true rfl, Nat.le_of_ble_eq_true rfl⟩ (Nat.le_of_ble_eq_true rfl) (fun r2 => ?_)
    refine jj_if_ne_b hk (pc := 15) 20 dX0_ith_15 (by decide) ?_ ?_
    · refine jj_aload_n hk (pc := 20) dX0_ith_20 0 rfl rfl ?_
      refine jj_iload_n hk (pc := 21) dX0_ith_21 1 rfl rfl ?_
      refine kc_X0_0_findPlans hk hH hK (pc := 22) (a0 := a0) (fun r h => cc_f0_findPlans l hH d N σ a0 r h) dX0_ith_22 ⟨Nat.le_of_ble_eq_true rfl, Nat.le_of_ble_eq_true rfl⟩ (Nat.le_of_ble_eq_true rfl) (fun r3 => ?_)
      refine jj_iload_n hk (pc := 25) dX0_ith_25 2 rfl rfl ?_
      refine jj_aload_n hk (pc := 26) dX0_ith_26 0 rfl rfl ?_
      refine jc_g_planLong hk hH hK (pc := 27) dX0_ith_27 ?_
      refine jj_icmp_ge hk (pc := 30) 42 dX0_ith_30 (by decide) ?_ ?_
      · refine jj_bipush hk (pc := 42) (v := (-3 : Int32)) dX0_ith_42 (by decide) ?_
        exact jc_retUi hk (pc := 44) dX0_ith_44
      · refine jj_aload_n hk (pc := 33) dX0_ith_33 0 rfl rfl ?_
        refine jc_g_plan hk hH hK (pc := 34) dX0_ith_34 ?_
        refine jj_iload_n hk (pc := 37) dX0_ith_37 2 rfl rfl ?_
        refine jc_ld (j := 43) hk hH hK (pc := 38) (by decide) dX0_ith_38 (fun v4 => ?_)
        refine jj_goto hk (pc := 39) 44 dX0_ith_39 (by decide) ?_
        exact jc_retUi hk (pc := 44) dX0_ith_44
    · refine jj_iconst hk (pc := 18) (v := (-1 : Int32)) dX0_ith_18 (by decide) ?_
      exact jc_retUi hk (pc := 19) dX0_ith_19
set_option maxHeartbeats 4000000 in
theorem cc_f0_ways (l : Launch) {G : cG} {KK : State → Prop} (hH : cH G KK) (d : DS) (N : Nat) (σ : SS) (a0 : Int32) (res : (Int32 × SS)) (hf : f0_ways N d σ a0 = some res) : jM l yX0_ways (ws_ yX0_ways cX0_ways 2 (some .int)) 2912 72844 [.ref (ha G 0), .int a0] (cWo G d) (cnx d) KK σ (jU res) (hA G) d.2 := by
  refine jj_start [(0, .ref (ha G 0)), (1, .int a0)] (by decide) (Nat.le_of_ble_eq_true rfl) rfl (fun p e R s m args below meth c hk hK hsz => ?_) hf
  have hk : jk p R s m args meth c d.2 cX0_ways 2 RX0 2912 72844 (some .int) := hk
  unfold f0_ways
  refine jj_iload_n hk (pc := 0) dX0_ways_0 1 rfl rfl ?_
  refine jj_iconst hk (pc := 1) (v := (0 : Int32)) dX0_ways_1 (by decide) ?_
  refine jj_iconst hk (pc := 2) (v := (4 : Int32)) dX0_ways_2 (by decide) ?_
  refine kc_X0_0_isIn hk hH hK (pc := 3) (a0 := a0) (a1 := (0 : Int32)) (a2 := (4 : Int32)) (fun r h => cc_f0_isIn l hH d σ a0 (0 : Int32) (4 : Int32) r h) dX0_ways_3 ⟨Nat.le_of_ble_eq_true rfl, Nat.le_of_ble_eq_true rfl⟩ (Nat.le_of_ble_eq_true rfl) (fun r1 => ?_)
  refine jj_if_ne_b hk (pc := 6) 11 dX0_ways_6 (by decide) ?_ ?_
  · refine jj_aload_n hk (pc := 11) dX0_ways_11 0 rfl rfl ?_
    refine jj_iload_n hk (pc := 12) dX0_ways_12 1 rfl rfl ?_
    refine kc_X0_0_findPlans hk hH hK (pc := 13) (a0 := a0) (fun r h => cc_f0_findPlans l hH d N σ a0 r h) dX0_ways_13 ⟨Nat.le_of_ble_eq_true rfl, Nat.le_of_ble_eq_true rfl⟩ (Nat.le_of_ble_eq_true rfl) (fun r2 => ?_)
    refine jj_aload_n hk (pc := 16) dX0_ways_16 0 rfl rfl ?_
    refine jc_g_ways hk hH hK (pc := 17) dX0_ways_17 ?_
    exact jc_retUi hk (pc := 20) dX0_ways_20
  · refine jj_iconst hk (pc := 9) (v := (-1 : Int32)) dX0_ways_9 (by decide) ?_
    exact jc_retUi hk (pc := 10) dX0_ways_10
set_option maxHeartbeats 4000000 in
theorem wb_f0_livesFrom_L72 {res : SS} {fr0 lo0 : Nat} (hk : jk p R s m args meth c d.2 cX0_livesFrom 6 RX0 (fr0 + 485) (lo0 + 12133) none) (hH : cH G KK) (hK : KK s) {k_livesFrom : SS → Int32 → Int32 → Int32 → Option SS} (hk_livesFrom : ∀ (σ : SS) (b0 : Int32) (b1 : Int32) (b2 : Int32) (r : SS), k_livesFrom σ b0 b1 b2 = some r → jM l yX0_livesFrom (ws_ yX0_livesFrom cX0_livesFrom 6 none) fr0 lo0 [.ref (ha G 0), .int b0, .int b1, .int b2] (cWo G d) (cnx d) KK σ (jV r) (hA G) d.2) (N : Nat) : ∀ (n : Nat) (σ : SS) (x1 : Int32) (x2 : Int32) (x3 : Int32) (x4 : Int32), jj p l e R s m args below meth c (hA G) d.2 (jZ below args s (hA G) d.2 (jV res) (cWo G d) (cnx d)) (cWo G d) (cnx d) 6 σ 72 [(0, .ref (ha G 0)), (1, .int x1), (2, .int x2), (3, .int x3), (4, .int x4)] [] (f0_livesFrom_L72 N k_livesFrom d n σ x1 x2 x3 x4 = some res) := by
  intro n
  induction n with
  | zero => intro σ x1 x2 x3 x4; exact jj_eq (fun hz => by rw [f0_livesFrom_L72] at hz; exact hz) jj_no
  | succ n ih =>
    intro σ x1 x2 x3 x4
    rw [f0_livesFrom_L72]
    refine jj_iload hk (pc := 72) dX0_livesFrom_72 4 rfl ?_
    refine jj_aload_n hk (pc := 74) dX0_livesFrom_74 0 rfl rfl ?_
    refine jc_g_now hk hH hK (pc := 75) dX0_livesFrom_75 ?_
    refine jc_t_people hk hH hK (pc := 78) dX0_livesFrom_78 ?_
    refine jj_icmp_gt hk (pc := 81) 132 dX0_livesFrom_81 (by decide) ?_ ?_
    · exact jc_retV hk (pc := 132) dX0_livesFrom_132
    · refine jj_aload_n hk (pc := 84) dX0_livesFrom_84 0 rfl rfl ?_
      refine jj_iload hk (pc := 85) dX0_livesFrom_85 4 rfl ?_
      refine jj_iconst hk (pc := 87) (v := (1 : Int32)) dX0_livesFrom_87 (by decide) ?_
      refine jj_isub hk (pc := 88) dX0_livesFrom_88 ?_
      refine kc_X0_0_passes hk hH hK (pc := 89) (a0 := (x4 - (1 : Int32))) (fun r h => cc_f0_passes l hH d N σ (x4 - (1 : Int32)) r h) dX0_livesFrom_89 ⟨by omega, by omega⟩ (Nat.le_of_ble_eq_true rfl) (fun r1 => ?_)
      refine jj_istore hk (pc := 92) [(5, .int r1.1), (0, .ref (ha G 0)), (1, .int x1), (2, .int x2), (3, .int x3), (4, .int x4)] dX0_livesFrom_92 (Nat.le_of_ble_eq_true rfl) rfl ?_
      refine jj_aload_n hk (pc := 94) dX0_livesFrom_94 1 rfl rfl ?_
      refine jj_iload_n hk (pc := 95) dX0_livesFrom_95 2 rfl rfl ?_
      refine jj_iconst hk (pc := 96) (v := (1 : Int32)) dX0_livesFrom_96 (by decide) ?_
      refine jj_isub hk (pc := 97) dX0_livesFrom_97 ?_
      refine jj_iload_n hk (pc := 98) dX0_livesFrom_98 3 rfl rfl ?_
      refine jj_iconst hk (pc := 99) (v := (1 : Int32)) dX0_livesFrom_99 (by decide) ?_
      refine jj_iadd hk (pc := 100) dX0_livesFrom_100 ?_
      refine jj_iload hk (pc := 101) dX0_livesFrom_101 0 rfl ?_
      refine jj_if_lt hk (pc := 103) 111 dX0_livesFrom_103 (by decide) ?_ ?_
      · refine jj_iload_n hk (pc := 111) dX0_livesFrom_111 4 rfl rfl ?_
        refine jj_goto hk (pc := 112) 118 dX0_livesFrom_112 (by decide) ?_
        refine kc_X0_0_livesFrom hk hH hK (pc := 118) (a0 := (x1 - (1 : Int32))) (a1 := (x2 + (1 : Int32))) (a2 := x3) (hk_livesFrom r1.2 (x1 - (1 : Int32)) (x2 + (1 : Int32)) x3) dX0_livesFrom_118 ⟨by omega, by omega⟩ (Nat.le_of_ble_eq_true rfl) (fun r2 => ?_)
        refine jj_aload_n hk (pc := 121) dX0_livesFrom_121 1 rfl rfl ?_
        refine jj_iload_n hk (pc := 122) dX0_livesFrom_122 3 rfl rfl ?_
        refine kc_X0_0_goesBack hk hH hK (pc := 123) (a0 := x2) (fun r h => cc_f0_goesBack l hH d r2 x2 r h) dX0_livesFrom_123 ⟨by omega, by omega⟩ (Nat.le_of_ble_eq_true rfl) (fun r3 => ?_)
        refine jj_iinc hk (pc := 126) [(4, .int (x4 + 1)), (5, .int r1.1), (0, .ref (ha G 0)), (1, .int x1), (2, .int x2), (3, .int x3)] dX0_livesFrom_126 5 rfl rfl (Nat.le_of_ble_eq_true rfl) rfl ?_
        refine jj_goto hk (pc := 129) 72 dX0_livesFrom_129 (by decide) ?_
        refine jj_loc [(0, .ref (ha G 0)), (1, .int x1), (2, .int x2), (3, .int x3), (4, .int (x4 + 1))] [2, 3, 4, 5, 0] rfl ?_
        exact ih r3 x1 x2 x3 (x4 + 1)
      · refine jj_iload hk (pc := 106) dX0_livesFrom_106 5 rfl ?_
        refine jj_if_ne hk (pc := 108) 115 dX0_livesFrom_108 (by decide) ?_ ?_
        · refine jj_iload_n hk (pc := 115) dX0_livesFrom_115 4 rfl rfl ?_
          refine jj_iconst hk (pc := 116) (v := (1 : Int32)) dX0_livesFrom_116 (by decide) ?_
          refine jj_iadd hk (pc := 117) dX0_livesFrom_117 ?_
          refine kc_X0_0_livesFrom hk hH hK (pc := 118) (a0 := (x1 - (1 : Int32))) (a1 := (x2 + (1 : Int32))) (a2 := (x3 + (1 : Int32))) (hk_livesFrom r1.2 (x1 - (1 : Int32)) (x2 + (1 : Int32)) (x3 + (1 : Int32))) dX0_livesFrom_118 ⟨by omega, by omega⟩ (Nat.le_of_ble_eq_true rfl) (fun r4 => ?_)
          refine jj_aload_n hk (pc := 121) dX0_livesFrom_121 1 rfl rfl ?_
          refine jj_iload_n hk (pc := 122) dX0_livesFrom_122 3 rfl rfl ?_
          refine kc_X0_0_goesBack hk hH hK (pc := 123) (a0 := x2) (fun r h => cc_f0_goesBack l hH d r4 x2 r h) dX0_livesFrom_123 ⟨by omega, by omega⟩ (Nat.le_of_ble_eq_true rfl) (fun r5 => ?_)
          refine jj_iinc hk (pc := 126) [(4, .int (x4 + 1)), (5, .int r1.1), (0, .ref (ha G 0)), (1, .int x1), (2, .int x2), (3, .int x3)] dX0_livesFrom_126 5 rfl rfl (Nat.le_of_ble_eq_true rfl) rfl ?_
          refine jj_goto hk (pc := 129) 72 dX0_livesFrom_129 (by decide) ?_
          refine jj_loc [(0, .ref (ha G 0)), (1, .int x1), (2, .int x2), (3, .int x3), (4, .int (x4 + 1))] [2, 3, 4, 5, 0] rfl ?_
          exact ih r5 x1 x2 x3 (x4 + 1)
        · refine jj_iload_n hk (pc := 111) dX0_livesFrom_111 4 rfl rfl ?_
          refine jj_goto hk (pc := 112) 118 dX0_livesFrom_112 (by decide) ?_
          refine kc_X0_0_livesFrom hk hH hK (pc := 118) (a0 := (x1 - (1 : Int32))) (a1 := (x2 + (1 : Int32))) (a2 := x3) (hk_livesFrom r1.2 (x1 - (1 : Int32)) (x2 + (1 : Int32)) x3) dX0_livesFrom_118 ⟨by omega, by omega⟩ (Nat.le_of_ble_eq_true rfl) (fun r6 => ?_)
          refine jj_aload_n hk (pc := 121) dX0_livesFrom_121 1 rfl rfl ?_
          refine jj_iload_n hk (pc := 122) dX0_livesFrom_122 3 rfl rfl ?_
          refine kc_X0_0_goesBack hk hH hK (pc := 123) (a0 := x2) (fun r h => cc_f0_goesBack l hH d r6 x2 r h) dX0_livesFrom_123 ⟨by omega, by omega⟩ (Nat.le_of_ble_eq_true rfl) (fun r7 => ?_)
          refine jj_iinc hk (pc := 126) [(4, .int (x4 + 1)), (5, .int r1.1), (0, .ref (ha G 0)), (1, .int x1), (2, .int x2), (3, .int x3)] dX0_livesFrom_126 5 rfl rfl (Nat.le_of_ble_eq_true rfl) rfl ?_
          refine jj_goto hk (pc := 129) 72 dX0_livesFrom_129 (by decide) ?_
          refine jj_loc [(0, .ref (ha G 0)), (1, .int x1), (2, .int x2), (3, .int x3), (4, .int (x4 + 1))] [2, 3, 4, 5, 0] rfl ?_
          exact ih r7 x1 x2 x3 (x4 + 1)
set_option maxHeartbeats 4000000 in
theorem cc_f0_livesFrom (l : Launch) {G : cG} {KK : State → Prop} (hH : cH G KK) (d : DS) (N : Nat) : ∀ (D : Nat) (σ : SS) (a0 : Int32) (a1 : Int32) (a2 : Int32) (res : SS) (hf : f0_livesFrom N d D σ a0 a1 a2 = some res), jM l yX0_livesFrom (ws_ yX0_livesFrom cX0_livesFrom 6 none) (485 * D) (12133 * D) [.ref (ha G 0), .int a0, .int a1, .int a2] (cWo G d) (cnx d) KK σ (jV res) (hA G) d.2 := by
  intro D
  induction D with
  | zero => intro σ a0 a1 a2 res hf; rw [f0_livesFrom] at hf; cases hf
  | succ D ih =>
    intro σ a0 a1 a2 res hf
    rw [f0_livesFrom] at hf
    have hk_livesFrom := ih
    refine jj_start [(0, .ref (ha G 0)), (1, .int a0), (2, .int a1), (3, .int a2)] (by decide) (Nat.le_of_ble_eq_true rfl) rfl (fun p e R s m args below meth c hk hK hsz => ?_) hf
    have hk : jk p R s m args meth c d.2 cX0_livesFrom 6 RX0 (485 * D + 485) (12133 * D + 12133) none := hk
    have hsz : True := trivial
    refine jj_iload_n hk (pc := 0) dX0_livesFrom_0 1 rfl rfl ?_
    refine jj_if_eq hk (pc := 1) 14 dX0_livesFrom_1 (by decide) ?_ ?_
    · refine jj_aload_n hk (pc := 14) dX0_livesFrom_14 0 rfl rfl ?_
      refine jj_iconst hk (pc := 15) (v := (1 : Int32)) dX0_livesFrom_15 (by decide) ?_
      refine kc_X0_0_setOf hk hH hK (pc := 16) (a0 := (1 : Int32)) (fun r h => cc_f0_setOf l hH d N σ (1 : Int32) r h) dX0_livesFrom_16 ⟨by omega, by omega⟩ (Nat.le_of_ble_eq_true rfl) (fun r1 => ?_)
      refine jj_istore hk (pc := 19) [(4, .int r1), (0, .ref (ha G 0)), (1, .int a0), (2, .int a1), (3, .int a2)] dX0_livesFrom_19 (Nat.le_of_ble_eq_true rfl) rfl ?_
      refine jj_aload_n hk (pc := 21) dX0_livesFrom_21 1 rfl rfl ?_
      refine jj_dup hk (pc := 22) dX0_livesFrom_22 rfl ?_
      refine jc_g_stoodEver hk hH hK (pc := 23) dX0_livesFrom_23 ?_
      refine jj_iload hk (pc := 26) dX0_livesFrom_26 0 rfl ?_
      refine jj_ior hk (pc := 28) dX0_livesFrom_28 ?_
      refine jc_p_stoodEver hk hH hK (pc := 29) dX0_livesFrom_29 (fun σ2 => ?_)
      refine jj_aload_n hk (pc := 32) dX0_livesFrom_32 1 rfl rfl ?_
      refine jj_aload_n hk (pc := 33) dX0_livesFrom_33 1 rfl rfl ?_
      refine jc_g_wanted hk hH hK (pc := 34) dX0_livesFrom_34 ?_
      refine jj_iload hk (pc := 37) dX0_livesFrom_37 0 rfl ?_
      refine jj_iconst hk (pc := 39) (v := (-1 : Int32)) dX0_livesFrom_39 (by decide) ?_
      refine jj_ixor hk (pc := 40) dX0_livesFrom_40 ?_
      refine jj_iand hk (pc := 41) dX0_livesFrom_41 ?_
      refine jj_if_ne hk (pc := 42) 56 dX0_livesFrom_42 (by decide) ?_ ?_
      · refine jj_aload_n hk (pc := 56) dX0_livesFrom_56 1 rfl rfl ?_
        refine jc_g_fewest hk hH hK (pc := 57) dX0_livesFrom_57 ?_
        refine jc_p_fewest hk hH hK (pc := 60) dX0_livesFrom_60 (fun σ3 => ?_)
        exact jc_retV hk (pc := 63) dX0_livesFrom_63
      · refine jj_aload_n hk (pc := 45) dX0_livesFrom_45 1 rfl rfl ?_
        refine jc_g_fewest hk hH hK (pc := 46) dX0_livesFrom_46 ?_
        refine jj_iload_n hk (pc := 49) dX0_livesFrom_49 4 rfl rfl ?_
        refine jc_min hk hH hK (pc := 50) q1095 dX0_livesFrom_50 ⟨by omega, by omega⟩ (Nat.le_of_ble_eq_true rfl) ?_
        refine jj_goto hk (pc := 53) 60 dX0_livesFrom_53 (by decide) ?_
        refine jc_p_fewest hk hH hK (pc := 60) dX0_livesFrom_60 (fun σ4 => ?_)
        exact jc_retV hk (pc := 63) dX0_livesFrom_63
    · refine jj_aload_n hk (pc := 4) dX0_livesFrom_4 0 rfl rfl ?_
      refine jc_g_now hk hH hK (pc := 5) dX0_livesFrom_5 ?_
      refine kc_X0_3_isOver hk hH hK (pc := 8) (t0 := 0) (fun r h => cc_f3_isOver l hH d σ 0 (by decide) r h) (by decide) dX0_livesFrom_8 ⟨by omega, by omega⟩ (Nat.le_of_ble_eq_true rfl) (fun r5 => ?_)
      refine jj_if_eq_b hk (pc := 11) 64 dX0_livesFrom_11 (by decide) ?_ ?_
      · refine jj_aload_n hk (pc := 64) dX0_livesFrom_64 0 rfl rfl ?_
        refine jj_iload_n hk (pc := 65) dX0_livesFrom_65 2 rfl rfl ?_
        refine kc_X0_0_saves hk hH hK (pc := 66) (a0 := a1) (fun r h => cc_f0_saves l hH d σ a1 r h) dX0_livesFrom_66 ⟨by omega, by omega⟩ (Nat.le_of_ble_eq_true rfl) (fun r6 => ?_)
        refine jj_iconst hk (pc := 69) (v := (0 : Int32)) dX0_livesFrom_69 (by decide) ?_
        refine jj_istore hk (pc := 70) [(4, .int (0 : Int32)), (0, .ref (ha G 0)), (1, .int a0), (2, .int a1), (3, .int a2)] dX0_livesFrom_70 (Nat.le_of_ble_eq_true rfl) rfl ?_
        refine jj_loc [(0, .ref (ha G 0)), (1, .int a0), (2, .int a1), (3, .int a2), (4, .int (0 : Int32))] [1, 2, 3, 4, 0] rfl ?_
        exact wb_f0_livesFrom_L72 hk hH hK hk_livesFrom N N r6 a0 a1 a2 (0 : Int32)
      · refine jj_aload_n hk (pc := 14) dX0_livesFrom_14 0 rfl rfl ?_
        refine jj_iconst hk (pc := 15) (v := (1 : Int32)) dX0_livesFrom_15 (by decide) ?_
        refine kc_X0_0_setOf hk hH hK (pc := 16) (a0 := (1 : Int32)) (fun r h => cc_f0_setOf l hH d N σ (1 : Int32) r h) dX0_livesFrom_16 ⟨by omega, by omega⟩ (Nat.le_of_ble_eq_true rfl) (fun r7 => ?_)
        refine jj_istore hk (pc := 19) [(4, .int r7), (0, .ref (ha G 0)), (1, .int a0), (2, .int a1), (3, .int a2)] dX0_livesFrom_19 (Nat.le_of_ble_eq_true rfl) rfl ?_
        refine jj_aload_n hk (pc := 21) dX0_livesFrom_21 1 rfl rfl ?_
        refine jj_dup hk (pc := 22) dX0_livesFrom_22 rfl ?_
        refine jc_g_stoodEver hk hH hK (pc := 23) dX0_livesFrom_23 ?_
        refine jj_iload hk (pc := 26) dX0_livesFrom_26 0 rfl ?_
        refine jj_ior hk (pc := 28) dX0_livesFrom_28 ?_
        refine jc_p_stoodEver hk hH hK (pc := 29) dX0_livesFrom_29 (fun σ8 => ?_)
        refine jj_aload_n hk (pc := 32) dX0_livesFrom_32 1 rfl rfl ?_
        refine jj_aload_n hk (pc := 33) dX0_livesFrom_33 1 rfl rfl ?_
        refine jc_g_wanted hk hH hK (pc := 34) dX0_livesFrom_34 ?_
        refine jj_iload hk (pc := 37) dX0_livesFrom_37 0 rfl ?_
        refine jj_iconst hk (pc := 39) (v := (-1 : Int32)) dX0_livesFrom_39 (by decide) ?_
        refine jj_ixor hk (pc := 40) dX0_livesFrom_40 ?_
        refine jj_iand hk (pc := 41) dX0_livesFrom_41 ?_
        refine jj_if_ne hk (pc := 42) 56 dX0_livesFrom_42 (by decide) ?_ ?_
        · refine jj_aload_n hk (pc := 56) dX0_livesFrom_56 1 rfl rfl ?_
          refine jc_g_fewest hk hH hK (pc := 57) dX0_livesFrom_57 ?_
          refine jc_p_fewest hk hH hK (pc := 60) dX0_livesFrom_60 (fun σ9 => ?_)
          exact jc_retV hk (pc := 63) dX0_livesFrom_63
        · refine jj_aload_n hk (pc := 45) dX0_livesFrom_45 1 rfl rfl ?_
          refine jc_g_fewest hk hH hK (pc := 46) dX0_livesFrom_46 ?_
          refine jj_iload_n hk (pc := 49) dX0_livesFrom_49 4 rfl rfl ?_
          refine jc_min hk hH hK (pc := 50) q1095 dX0_livesFrom_50 ⟨by omega, by omega⟩ (Nat.le_of_ble_eq_true rfl) ?_
          refine jj_goto hk (pc := 53) 60 dX0_livesFrom_53 (by decide) ?_
          refine jc_p_fewest hk hH hK (pc := 60) dX0_livesFrom_60 (fun σ10 => ?_)
          exact jc_retV hk (pc := 63) dX0_livesFrom_63
set_option maxHeartbeats 4000000 in
theorem cc_f0_isAsked (l : Launch) {G : cG} {KK : State → Prop} (hH : cH G KK) (d : DS)  (σ : SS) (a0 : Int32) (a1 : Int32) (res : Bool) (hf : f0_isAsked σ a0 a1 = some res) : jM l yX0_isAsked (ws_ yX0_isAsked cX0_isAsked 3 (some .boolean)) 2 62 [.ref (ha G 0), .int a0, .int a1] (cWo G d) (cnx d) KK σ (jRz σ res) (hA G) d.2 := by
  refine jj_start [(0, .ref (ha G 0)), (1, .int a0), (2, .int a1)] (by decide) (Nat.le_of_ble_eq_true rfl) rfl (fun p e R s m args below meth c hk hK hsz => ?_) hf
  have hk : jk p R s m args meth c d.2 cX0_isAsked 3 RX0 2 62 (some .boolean) := hk
  unfold f0_isAsked
  refine jj_iload_n hk (pc := 0) dX0_isAsked_0 1 rfl rfl ?_
  refine jj_iconst hk (pc := 1) (v := (0 : Int32)) dX0_isAsked_1 (by decide) ?_
  refine jj_iconst hk (pc := 2) (v := (4 : Int32)) dX0_isAsked_2 (by decide) ?_
  refine kc_X0_0_isIn hk hH hK (pc := 3) (a0 := a0) (a1 := (0 : Int32)) (a2 := (4 : Int32)) (fun r h => cc_f0_isIn l hH d σ a0 (0 : Int32) (4 : Int32) r h) dX0_isAsked_3 ⟨Nat.le_of_ble_eq_true rfl, Nat.le_of_ble_eq_true rfl⟩ (Nat.le_of_ble_eq_true rfl) (fun r1 => ?_)
  refine jj_if_eq_b hk (pc := 6) 32 dX0_isAsked_6 (by decide) ?_ ?_
  · refine jj_iconst hk (pc := 32) (v := (0 : Int32)) dX0_isAsked_32 (by decide) ?_
    exact jc_retRz hk (pc := 33) (b := false) dX0_isAsked_33
  · refine jj_iload_n hk (pc := 9) dX0_isAsked_9 2 rfl rfl ?_
    refine jj_iconst hk (pc := 10) (v := (0 : Int32)) dX0_isAsked_10 (by decide) ?_
    refine jj_iconst hk (pc := 11) (v := (1 : Int32)) dX0_isAsked_11 (by decide) ?_
    refine jj_aload_n hk (pc := 12) dX0_isAsked_12 0 rfl rfl ?_
    refine jc_g_now hk hH hK (pc := 13) dX0_isAsked_13 ?_
    refine jc_t_deeds hk hH hK (pc := 16) dX0_isAsked_16 ?_
    refine jj_ishl hk (pc := 19) dX0_isAsked_19 ?_
    refine jj_iconst hk (pc := 20) (v := (1 : Int32)) dX0_isAsked_20 (by decide) ?_
    refine jj_isub hk (pc := 21) dX0_isAsked_21 ?_
    refine kc_X0_0_isIn hk hH hK (pc := 22) (a0 := a1) (a1 := (0 : Int32)) (a2 := (((1 : Int32) <<< ((σ.1 1) &&& 31)) - (1 : Int32))) (fun r h => cc_f0_isIn l hH d σ a1 (0 : Int32) (((1 : Int32) <<< ((σ.1 1) &&& 31)) - (1 : Int32)) r h) dX0_isAsked_22 ⟨Nat.le_of_ble_eq_true rfl, Nat.le_of_ble_eq_true rfl⟩ (Nat.le_of_ble_eq_true rfl) (fun r2 => ?_)
    refine jj_if_eq_b hk (pc := 25) 32 dX0_isAsked_25 (by decide) ?_ ?_
    · refine jj_iconst hk (pc := 32) (v := (0 : Int32)) dX0_isAsked_32 (by decide) ?_
      exact jc_retRz hk (pc := 33) (b := false) dX0_isAsked_33
    · refine jj_iconst hk (pc := 28) (v := (1 : Int32)) dX0_isAsked_28 (by decide) ?_
      refine jj_goto hk (pc := 29) 33 dX0_isAsked_29 (by decide) ?_
      exact jc_retRz hk (pc := 33) (b := true) dX0_isAsked_33
set_option maxHeartbeats 4000000 in
theorem cc_f0_findLives (l : Launch) {G : cG} {KK : State → Prop} (hH : cH G KK) (d : DS) (N : Nat) (σ : SS) (a0 : Int32) (a1 : Int32) (res : SS) (hf : f0_findLives N d σ a0 a1 = some res) : jM l yX0_findLives (ws_ yX0_findLives cX0_findLives 3 none) 2911 72823 [.ref (ha G 0), .int a0, .int a1] (cWo G d) (cnx d) KK σ (jV res) (hA G) d.2 := by
  refine jj_start [(0, .ref (ha G 0)), (1, .int a0), (2, .int a1)] (by decide) (Nat.le_of_ble_eq_true rfl) rfl (fun p e R s m args below meth c hk hK hsz => ?_) hf
  have hk : jk p R s m args meth c d.2 cX0_findLives 3 RX0 2911 72823 none := hk
  unfold f0_findLives
  refine jj_aload_n hk (pc := 0) dX0_findLives_0 0 rfl rfl ?_
  refine jj_iload_n hk (pc := 1) dX0_findLives_1 2 rfl rfl ?_
  refine jc_p_wanted hk hH hK (pc := 2) dX0_findLives_2 (fun σ1 => ?_)
  refine jj_aload_n hk (pc := 5) dX0_findLives_5 0 rfl rfl ?_
  refine jj_iconst hk (pc := 6) (v := (5 : Int32)) dX0_findLives_6 (by decide) ?_
  refine jc_p_fewest hk hH hK (pc := 7) dX0_findLives_7 (fun σ2 => ?_)
  refine jj_aload_n hk (pc := 10) dX0_findLives_10 0 rfl rfl ?_
  refine jj_iconst hk (pc := 11) (v := (0 : Int32)) dX0_findLives_11 (by decide) ?_
  refine jc_p_stoodEver hk hH hK (pc := 12) dX0_findLives_12 (fun σ3 => ?_)
  refine jj_aload_n hk (pc := 15) dX0_findLives_15 0 rfl rfl ?_
  refine jj_iload_n hk (pc := 16) dX0_findLives_16 1 rfl rfl ?_
  refine jj_iconst hk (pc := 17) (v := (0 : Int32)) dX0_findLives_17 (by decide) ?_
  refine jj_iconst hk (pc := 18) (v := (0 : Int32)) dX0_findLives_18 (by decide) ?_
  refine kc_X0_0_livesFrom hk hH hK (pc := 19) (a0 := a0) (a1 := (0 : Int32)) (a2 := (0 : Int32)) (fun r h => cc_f0_livesFrom l hH d N 6 σ3 a0 (0 : Int32) (0 : Int32) r h) dX0_findLives_19 ⟨Nat.le_of_ble_eq_true rfl, Nat.le_of_ble_eq_true rfl⟩ (Nat.le_of_ble_eq_true rfl) (fun r4 => ?_)
  exact jc_retV hk (pc := 22) dX0_findLives_22
set_option maxHeartbeats 4000000 in
theorem cc_f0_life (l : Launch) {G : cG} {KK : State → Prop} (hH : cH G KK) (d : DS) (N : Nat) (σ : SS) (a0 : Int32) (a1 : Int32) (res : (Int32 × SS)) (hf : f0_life N d σ a0 a1 = some res) : jM l yX0_life (ws_ yX0_life cX0_life 3 (some .int)) 2912 72845 [.ref (ha G 0), .int a0, .int a1] (cWo G d) (cnx d) KK σ (jU res) (hA G) d.2 := by
  refine jj_start [(0, .ref (ha G 0)), (1, .int a0), (2, .int a1)] (by decide) (Nat.le_of_ble_eq_true rfl) rfl (fun p e R s m args below meth c hk hK hsz => ?_) hf
  have hk : jk p R s m args meth c d.2 cX0_life 3 RX0 2912 72845 (some .int) := hk
  unfold f0_life
  refine jj_aload_n hk (pc := 0) dX0_life_0 0 rfl rfl ?_
  refine jj_iload_n hk (pc := 1) dX0_life_1 1 rfl rfl ?_
  refine jj_iload_n hk (pc := 2) dX0_life_2 2 rfl rfl ?_
  refine kc_X0_0_isAsked hk hH hK (pc := 3) (a0 := a0) (a1 := a1) (fun r h => cc_f0_isAsked l hH d σ a0 a1 r h) dX0_life_3 ⟨Nat.le_of_ble_eq_true rfl, Nat.le_of_ble_eq_true rfl⟩ (Nat.le_of_ble_eq_true rfl) (fun r1 => ?_)
  refine jj_if_ne_b hk (pc := 6) 11 dX0_life_6 (by decide) ?_ ?_
  · refine jj_aload_n hk (pc := 11) dX0_life_11 0 rfl rfl ?_
    refine jj_iload_n hk (pc := 12) dX0_life_12 1 rfl rfl ?_
    refine jj_iload_n hk (pc := 13) dX0_life_13 2 rfl rfl ?_
    refine kc_X0_0_findLives hk hH hK (pc := 14) (a0 := a0) (a1 := a1) (fun r h => cc_f0_findLives l hH d N σ a0 a1 r h) dX0_life_14 ⟨Nat.le_of_ble_eq_true rfl, Nat.le_of_ble_eq_true rfl⟩ (Nat.le_of_ble_eq_true rfl) (fun r2 => ?_)
    refine jj_aload_n hk (pc := 17) dX0_life_17 0 rfl rfl ?_
    refine jc_g_fewest hk hH hK (pc := 18) dX0_life_18 ?_
    refine jj_iconst hk (pc := 21) (v := (4 : Int32)) dX0_life_21 (by decide) ?_
    refine jj_icmp_gt hk (pc := 22) 32 dX0_life_22 (by decide) ?_ ?_
    · refine jj_bipush hk (pc := 32) (v := (-3 : Int32)) dX0_life_32 (by decide) ?_
      exact jc_retUi hk (pc := 34) dX0_life_34
    · refine jj_aload_n hk (pc := 25) dX0_life_25 0 rfl rfl ?_
      refine jc_g_fewest hk hH hK (pc := 26) dX0_life_26 ?_
      refine jj_goto hk (pc := 29) 34 dX0_life_29 (by decide) ?_
      exact jc_retUi hk (pc := 34) dX0_life_34
  · refine jj_iconst hk (pc := 9) (v := (-1 : Int32)) dX0_life_9 (by decide) ?_
    exact jc_retUi hk (pc := 10) dX0_life_10
set_option maxHeartbeats 4000000 in
theorem wb_f0_valueFrom_L27 {res : (Int32 × SS)} {fr0 lo0 : Nat} (hk : jk p R s m args meth c d.2 cX0_valueFrom 8 RX0 (fr0 + 485) (lo0 + 12133) (some .int)) (hH : cH G KK) (hK : KK s) {k_valueFrom : SS → Int32 → Int32 → Int32 → Option (Int32 × SS)} (hk_valueFrom : ∀ (σ : SS) (b0 : Int32) (b1 : Int32) (b2 : Int32) (r : (Int32 × SS)), k_valueFrom σ b0 b1 b2 = some r → jM l yX0_valueFrom (ws_ yX0_valueFrom cX0_valueFrom 8 (some .int)) fr0 lo0 [.ref (ha G 0), .int b0, .int b1, .int b2] (cWo G d) (cnx d) KK σ (jU r) (hA G) d.2) (N : Nat) : ∀ (n : Nat) (σ : SS) (x1 : Int32) (x2 : Int32) (x3 : Int32) (x4 : Int32) (x5 : Int32), jj p l e R s m args below meth c (hA G) d.2 (jZ below args s (hA G) d.2 (jU res) (cWo G d) (cnx d)) (cWo G d) (cnx d) 8 σ 27 [(0, .ref (ha G 0)), (1, .int x1), (2, .int x2), (3, .int x3), (4, .int x4), (5, .int x5)] [] (f0_valueFrom_L27 N k_valueFrom d n σ x1 x2 x3 x4 x5 = some res) := by
  intro n
  induction n with
  | zero => intro σ x1 x2 x3 x4 x5; exact jj_eq (fun hz => by rw [f0_valueFrom_L27] at hz; exact hz) jj_no
  | succ n ih =>
    intro σ x1 x2 x3 x4 x5
    rw [f0_valueFrom_L27]
    refine jj_iload hk (pc := 27) dX0_valueFrom_27 5 rfl ?_
    refine jj_aload_n hk (pc := 29) dX0_valueFrom_29 0 rfl rfl ?_
    refine jc_g_now hk hH hK (pc := 30) dX0_valueFrom_30 ?_
    refine jc_t_people hk hH hK (pc := 33) dX0_valueFrom_33 ?_
    refine jj_icmp_gt hk (pc := 36) 121 dX0_valueFrom_36 (by decide) ?_ ?_
    · refine jj_iload hk (pc := 121) dX0_valueFrom_121 4 rfl ?_
      exact jc_retUi hk (pc := 123) dX0_valueFrom_123
    · refine jj_aload_n hk (pc := 39) dX0_valueFrom_39 0 rfl rfl ?_
      refine jj_iload hk (pc := 40) dX0_valueFrom_40 5 rfl ?_
      refine jj_iconst hk (pc := 42) (v := (1 : Int32)) dX0_valueFrom_42 (by decide) ?_
      refine jj_isub hk (pc := 43) dX0_valueFrom_43 ?_
      refine kc_X0_0_passes hk hH hK (pc := 44) (a0 := (x5 - (1 : Int32))) (fun r h => cc_f0_passes l hH d N σ (x5 - (1 : Int32)) r h) dX0_valueFrom_44 ⟨by omega, by omega⟩ (Nat.le_of_ble_eq_true rfl) (fun r1 => ?_)
      refine jj_aload_n hk (pc := 47) dX0_valueFrom_47 0 rfl rfl ?_
      refine jj_iconst hk (pc := 48) (v := (1 : Int32)) dX0_valueFrom_48 (by decide) ?_
      refine jj_iload_n hk (pc := 49) dX0_valueFrom_49 1 rfl rfl ?_
      refine jj_isub hk (pc := 50) dX0_valueFrom_50 ?_
      refine jj_iload_n hk (pc := 51) dX0_valueFrom_51 2 rfl rfl ?_
      refine jj_iconst hk (pc := 52) (v := (1 : Int32)) dX0_valueFrom_52 (by decide) ?_
      refine jj_isub hk (pc := 53) dX0_valueFrom_53 ?_
      refine jj_iload_n hk (pc := 54) dX0_valueFrom_54 3 rfl rfl ?_
      refine jj_iconst hk (pc := 55) (v := (1 : Int32)) dX0_valueFrom_55 (by decide) ?_
      refine jj_iadd hk (pc := 56) dX0_valueFrom_56 ?_
      refine kc_X0_0_valueFrom hk hH hK (pc := 57) (a0 := ((1 : Int32) - x1)) (a1 := (x2 - (1 : Int32))) (a2 := (x3 + (1 : Int32))) (hk_valueFrom r1.2 ((1 : Int32) - x1) (x2 - (1 : Int32)) (x3 + (1 : Int32))) dX0_valueFrom_57 ⟨by omega, by omega⟩ (Nat.le_of_ble_eq_true rfl) (fun r2 => ?_)
      refine jj_iadd hk (pc := 60) dX0_valueFrom_60 ?_
      refine jj_istore hk (pc := 61) [(6, .int (r1.1 + r2.1)), (0, .ref (ha G 0)), (1, .int x1), (2, .int x2), (3, .int x3), (4, .int x4), (5, .int x5)] dX0_valueFrom_61 (Nat.le_of_ble_eq_true rfl) rfl ?_
      refine jj_aload_n hk (pc := 63) dX0_valueFrom_63 1 rfl rfl ?_
      refine jj_iload_n hk (pc := 64) dX0_valueFrom_64 4 rfl rfl ?_
      refine kc_X0_0_goesBack hk hH hK (pc := 65) (a0 := x3) (fun r h => cc_f0_goesBack l hH d r2.2 x3 r h) dX0_valueFrom_65 ⟨by omega, by omega⟩ (Nat.le_of_ble_eq_true rfl) (fun r3 => ?_)
      refine jj_iload hk (pc := 68) dX0_valueFrom_68 5 rfl ?_
      refine jj_if_lt hk (pc := 70) 94 dX0_valueFrom_70 (by decide) ?_ ?_
      · refine jj_iconst hk (pc := 94) (v := (1 : Int32)) dX0_valueFrom_94 (by decide) ?_
        refine jj_goto hk (pc := 95) 99 dX0_valueFrom_95 (by decide) ?_
        refine jj_istore hk (pc := 99) [(7, .int (1 : Int32)), (6, .int (r1.1 + r2.1)), (0, .ref (ha G 0)), (1, .int x1), (2, .int x2), (3, .int x3), (4, .int x4), (5, .int x5)] dX0_valueFrom_99 (Nat.le_of_ble_eq_true rfl) rfl ?_
        refine jj_iload hk (pc := 101) dX0_valueFrom_101 0 rfl ?_
        refine jj_if_eq_F hk (pc := 103) dX0_valueFrom_103 111 (by decide) (by decide) ?_
        refine jj_iload hk (pc := 106) dX0_valueFrom_106 1 rfl ?_
        refine jj_goto hk (pc := 108) 113 dX0_valueFrom_108 (by decide) ?_
        refine jj_istore hk (pc := 113) [(4, .int (r1.1 + r2.1)), (7, .int (1 : Int32)), (6, .int (r1.1 + r2.1)), (0, .ref (ha G 0)), (1, .int x1), (2, .int x2), (3, .int x3), (5, .int x5)] dX0_valueFrom_113 (Nat.le_of_ble_eq_true rfl) rfl ?_
        refine jj_iinc hk (pc := 115) [(5, .int (x5 + 1)), (4, .int (r1.1 + r2.1)), (7, .int (1 : Int32)), (6, .int (r1.1 + r2.1)), (0, .ref (ha G 0)), (1, .int x1), (2, .int x2), (3, .int x3)] dX0_valueFrom_115 7 rfl rfl (Nat.le_of_ble_eq_true rfl) rfl ?_
        refine jj_goto hk (pc := 118) 27 dX0_valueFrom_118 (by decide) ?_
        refine jj_loc [(0, .ref (ha G 0)), (1, .int x1), (2, .int x2), (3, .int x3), (4, .int (r1.1 + r2.1)), (5, .int (x5 + 1))] [4, 5, 6, 7, 1, 0] rfl ?_
        exact ih r3 x1 x2 x3 (r1.1 + r2.1) (x5 + 1)
      · refine jj_iload_n hk (pc := 73) dX0_valueFrom_73 2 rfl rfl ?_
        refine jj_if_ne hk (pc := 74) 87 dX0_valueFrom_74 (by decide) ?_ ?_
        · refine jj_iload hk (pc := 87) dX0_valueFrom_87 0 rfl ?_
          refine jj_iload hk (pc := 89) dX0_valueFrom_89 5 rfl ?_
          refine jj_icmp_ge hk (pc := 91) 98 dX0_valueFrom_91 (by decide) ?_ ?_
          · refine jj_iconst hk (pc := 98) (v := (0 : Int32)) dX0_valueFrom_98 (by decide) ?_
            refine jj_istore hk (pc := 99) [(7, .int (0 : Int32)), (6, .int (r1.1 + r2.1)), (0, .ref (ha G 0)), (1, .int x1), (2, .int x2), (3, .int x3), (4, .int x4), (5, .int x5)] dX0_valueFrom_99 (Nat.le_of_ble_eq_true rfl) rfl ?_
            refine jj_iload hk (pc := 101) dX0_valueFrom_101 0 rfl ?_
            refine jj_if_eq_T hk (pc := 103) 111 dX0_valueFrom_103 (by decide) (by decide) ?_
            refine jj_iload hk (pc := 111) dX0_valueFrom_111 6 rfl ?_
            refine jj_istore hk (pc := 113) [(4, .int x4), (7, .int (0 : Int32)), (6, .int (r1.1 + r2.1)), (0, .ref (ha G 0)), (1, .int x1), (2, .int x2), (3, .int x3), (5, .int x5)] dX0_valueFrom_113 (Nat.le_of_ble_eq_true rfl) rfl ?_
            refine jj_iinc hk (pc := 115) [(5, .int (x5 + 1)), (4, .int x4), (7, .int (0 : Int32)), (6, .int (r1.1 + r2.1)), (0, .ref (ha G 0)), (1, .int x1), (2, .int x2), (3, .int x3)] dX0_valueFrom_115 7 rfl rfl (Nat.le_of_ble_eq_true rfl) rfl ?_
            refine jj_goto hk (pc := 118) 27 dX0_valueFrom_118 (by decide) ?_
            refine jj_loc [(0, .ref (ha G 0)), (1, .int x1), (2, .int x2), (3, .int x3), (4, .int x4), (5, .int (x5 + 1))] [4, 5, 6, 7, 1, 0] rfl ?_
            exact ih r3 x1 x2 x3 x4 (x5 + 1)
          · refine jj_iconst hk (pc := 94) (v := (1 : Int32)) dX0_valueFrom_94 (by decide) ?_
            refine jj_goto hk (pc := 95) 99 dX0_valueFrom_95 (by decide) ?_
            refine jj_istore hk (pc := 99) [(7, .int (1 : Int32)), (6, .int (r1.1 + r2.1)), (0, .ref (ha G 0)), (1, .int x1), (2, .int x2), (3, .int x3), (4, .int x4), (5, .int x5)] dX0_valueFrom_99 (Nat.le_of_ble_eq_true rfl) rfl ?_
            refine jj_iload hk (pc := 101) dX0_valueFrom_101 0 rfl ?_
            refine jj_if_eq_F hk (pc := 103) dX0_valueFrom_103 111 (by decide) (by decide) ?_
            refine jj_iload hk (pc := 106) dX0_valueFrom_106 1 rfl ?_
            refine jj_goto hk (pc := 108) 113 dX0_valueFrom_108 (by decide) ?_
            refine jj_istore hk (pc := 113) [(4, .int (r1.1 + r2.1)), (7, .int (1 : Int32)), (6, .int (r1.1 + r2.1)), (0, .ref (ha G 0)), (1, .int x1), (2, .int x2), (3, .int x3), (5, .int x5)] dX0_valueFrom_113 (Nat.le_of_ble_eq_true rfl) rfl ?_
            refine jj_iinc hk (pc := 115) [(5, .int (x5 + 1)), (4, .int (r1.1 + r2.1)), (7, .int (1 : Int32)), (6, .int (r1.1 + r2.1)), (0, .ref (ha G 0)), (1, .int x1), (2, .int x2), (3, .int x3)] dX0_valueFrom_115 7 rfl rfl (Nat.le_of_ble_eq_true rfl) rfl ?_
            refine jj_goto hk (pc := 118) 27 dX0_valueFrom_118 (by decide) ?_
            refine jj_loc [(0, .ref (ha G 0)), (1, .int x1), (2, .int x2), (3, .int x3), (4, .int (r1.1 + r2.1)), (5, .int (x5 + 1))] [4, 5, 6, 7, 1, 0] rfl ?_
            exact ih r3 x1 x2 x3 (r1.1 + r2.1) (x5 + 1)
        · refine jj_iload hk (pc := 77) dX0_valueFrom_77 0 rfl ?_
          refine jj_iload hk (pc := 79) dX0_valueFrom_79 5 rfl ?_
          refine jj_icmp_le hk (pc := 81) 98 dX0_valueFrom_81 (by decide) ?_ ?_
          · refine jj_iconst hk (pc := 98) (v := (0 : Int32)) dX0_valueFrom_98 (by decide) ?_
            refine jj_istore hk (pc := 99) [(7, .int (0 : Int32)), (6, .int (r1.1 + r2.1)), (0, .ref (ha G 0)), (1, .int x1), (2, .int x2), (3, .int x3), (4, .int x4), (5, .int x5)] dX0_valueFrom_99 (Nat.le_of_ble_eq_true rfl) rfl ?_
            refine jj_iload hk (pc := 101) dX0_valueFrom_101 0 rfl ?_
            refine jj_if_eq_T hk (pc := 103) 111 dX0_valueFrom_103 (by decide) (by decide) ?_
            refine jj_iload hk (pc := 111) dX0_valueFrom_111 6 rfl ?_
            refine jj_istore hk (pc := 113) [(4, .int x4), (7, .int (0 : Int32)), (6, .int (r1.1 + r2.1)), (0, .ref (ha G 0)), (1, .int x1), (2, .int x2), (3, .int x3), (5, .int x5)] dX0_valueFrom_113 (Nat.le_of_ble_eq_true rfl) rfl ?_
            refine jj_iinc hk (pc := 115) [(5, .int (x5 + 1)), (4, .int x4), (7, .int (0 : Int32)), (6, .int (r1.1 + r2.1)), (0, .ref (ha G 0)), (1, .int x1), (2, .int x2), (3, .int x3)] dX0_valueFrom_115 7 rfl rfl (Nat.le_of_ble_eq_true rfl) rfl ?_
            refine jj_goto hk (pc := 118) 27 dX0_valueFrom_118 (by decide) ?_
            refine jj_loc [(0, .ref (ha G 0)), (1, .int x1), (2, .int x2), (3, .int x3), (4, .int x4), (5, .int (x5 + 1))] [4, 5, 6, 7, 1, 0] rfl ?_
            exact ih r3 x1 x2 x3 x4 (x5 + 1)
          · refine jj_goto hk (pc := 84) 94 dX0_valueFrom_84 (by decide) ?_
            refine jj_iconst hk (pc := 94) (v := (1 : Int32)) dX0_valueFrom_94 (by decide) ?_
            refine jj_goto hk (pc := 95) 99 dX0_valueFrom_95 (by decide) ?_
            refine jj_istore hk (pc := 99) [(7, .int (1 : Int32)), (6, .int (r1.1 + r2.1)), (0, .ref (ha G 0)), (1, .int x1), (2, .int x2), (3, .int x3), (4, .int x4), (5, .int x5)] dX0_valueFrom_99 (Nat.le_of_ble_eq_true rfl) rfl ?_
            refine jj_iload hk (pc := 101) dX0_valueFrom_101 0 rfl ?_
            refine jj_if_eq_F hk (pc := 103) dX0_valueFrom_103 111 (by decide) (by decide) ?_
            refine jj_iload hk (pc := 106) dX0_valueFrom_106 1 rfl ?_
            refine jj_goto hk (pc := 108) 113 dX0_valueFrom_108 (by decide) ?_
            refine jj_istore hk (pc := 113) [(4, .int (r1.1 + r2.1)), (7, .int (1 : Int32)), (6, .int (r1.1 + r2.1)), (0, .ref (ha G 0)), (1, .int x1), (2, .int x2), (3, .int x3), (5, .int x5)] dX0_valueFrom_113 (Nat.le_of_ble_eq_true rfl) rfl ?_
            refine jj_iinc hk (pc := 115) [(5, .int (x5 + 1)), (4, .int (r1.1 + r2.1)), (7, .int (1 : Int32)), (6, .int (r1.1 + r2.1)), (0, .ref (ha G 0)), (1, .int x1), (2, .int x2), (3, .int x3)] dX0_valueFrom_115 7 rfl rfl (Nat.le_of_ble_eq_true rfl) rfl ?_
            refine jj_goto hk (pc := 118) 27 dX0_valueFrom_118 (by decide) ?_
            refine jj_loc [(0, .ref (ha G 0)), (1, .int x1), (2, .int x2), (3, .int x3), (4, .int (r1.1 + r2.1)), (5, .int (x5 + 1))] [4, 5, 6, 7, 1, 0] rfl ?_
            exact ih r3 x1 x2 x3 (r1.1 + r2.1) (x5 + 1)
set_option maxHeartbeats 4000000 in
theorem cc_f0_valueFrom (l : Launch) {G : cG} {KK : State → Prop} (hH : cH G KK) (d : DS) (N : Nat) : ∀ (D : Nat) (σ : SS) (a0 : Int32) (a1 : Int32) (a2 : Int32) (res : (Int32 × SS)) (hf : f0_valueFrom N d D σ a0 a1 a2 = some res), jM l yX0_valueFrom (ws_ yX0_valueFrom cX0_valueFrom 8 (some .int)) (485 * D) (12133 * D) [.ref (ha G 0), .int a0, .int a1, .int a2] (cWo G d) (cnx d) KK σ (jU res) (hA G) d.2 := by
  intro D
  induction D with
  | zero => intro σ a0 a1 a2 res hf; rw [f0_valueFrom] at hf; cases hf
  | succ D ih =>
    intro σ a0 a1 a2 res hf
    rw [f0_valueFrom] at hf
    have hk_valueFrom := ih
    refine jj_start [(0, .ref (ha G 0)), (1, .int a0), (2, .int a1), (3, .int a2)] (by decide) (Nat.le_of_ble_eq_true rfl) rfl (fun p e R s m args below meth c hk hK hsz => ?_) hf
    have hk : jk p R s m args meth c d.2 cX0_valueFrom 8 RX0 (485 * D + 485) (12133 * D + 12133) (some .int) := hk
    have hsz : True := trivial
    refine jj_iload_n hk (pc := 0) dX0_valueFrom_0 2 rfl rfl ?_
    refine jj_if_eq hk (pc := 1) 14 dX0_valueFrom_1 (by decide) ?_ ?_
    · refine jj_iconst hk (pc := 14) (v := (0 : Int32)) dX0_valueFrom_14 (by decide) ?_
      exact jc_retUi hk (pc := 15) dX0_valueFrom_15
    · refine jj_aload_n hk (pc := 4) dX0_valueFrom_4 0 rfl rfl ?_
      refine jc_g_now hk hH hK (pc := 5) dX0_valueFrom_5 ?_
      refine kc_X0_3_isOver hk hH hK (pc := 8) (t0 := 0) (fun r h => cc_f3_isOver l hH d σ 0 (by decide) r h) (by decide) dX0_valueFrom_8 ⟨by omega, by omega⟩ (Nat.le_of_ble_eq_true rfl) (fun r1 => ?_)
      refine jj_if_eq_b hk (pc := 11) 16 dX0_valueFrom_11 (by decide) ?_ ?_
      · refine jj_iconst hk (pc := 16) (v := (-1 : Int32)) dX0_valueFrom_16 (by decide) ?_
        refine jj_istore hk (pc := 17) [(4, .int (-1 : Int32)), (0, .ref (ha G 0)), (1, .int a0), (2, .int a1), (3, .int a2)] dX0_valueFrom_17 (Nat.le_of_ble_eq_true rfl) rfl ?_
        refine jj_aload_n hk (pc := 19) dX0_valueFrom_19 1 rfl rfl ?_
        refine jj_iload_n hk (pc := 20) dX0_valueFrom_20 4 rfl rfl ?_
        refine kc_X0_0_saves hk hH hK (pc := 21) (a0 := a2) (fun r h => cc_f0_saves l hH d σ a2 r h) dX0_valueFrom_21 ⟨by omega, by omega⟩ (Nat.le_of_ble_eq_true rfl) (fun r2 => ?_)
        refine jj_iconst hk (pc := 24) (v := (0 : Int32)) dX0_valueFrom_24 (by decide) ?_
        refine jj_istore hk (pc := 25) [(5, .int (0 : Int32)), (4, .int (-1 : Int32)), (0, .ref (ha G 0)), (1, .int a0), (2, .int a1), (3, .int a2)] dX0_valueFrom_25 (Nat.le_of_ble_eq_true rfl) rfl ?_
        refine jj_loc [(0, .ref (ha G 0)), (1, .int a0), (2, .int a1), (3, .int a2), (4, .int (-1 : Int32)), (5, .int (0 : Int32))] [2, 3, 4, 5, 1, 0] rfl ?_
        exact wb_f0_valueFrom_L27 hk hH hK hk_valueFrom N N r2 a0 a1 a2 (-1 : Int32) (0 : Int32)
      · refine jj_iconst hk (pc := 14) (v := (0 : Int32)) dX0_valueFrom_14 (by decide) ?_
        exact jc_retUi hk (pc := 15) dX0_valueFrom_15
set_option maxHeartbeats 4000000 in
theorem cc_f0_game (l : Launch) {G : cG} {KK : State → Prop} (hH : cH G KK) (d : DS) (N : Nat) (σ : SS) (a0 : Int32) (res : (Int32 × SS)) (hf : f0_game N d σ a0 = some res) : jM l yX0_game (ws_ yX0_game cX0_game 2 (some .int)) 2911 72825 [.ref (ha G 0), .int a0] (cWo G d) (cnx d) KK σ (jU res) (hA G) d.2 := by
  refine jj_start [(0, .ref (ha G 0)), (1, .int a0)] (by decide) (Nat.le_of_ble_eq_true rfl) rfl (fun p e R s m args below meth c hk hK hsz => ?_) hf
  have hk : jk p R s m args meth c d.2 cX0_game 2 RX0 2911 72825 (some .int) := hk
  unfold f0_game
  refine jj_iload_n hk (pc := 0) dX0_game_0 1 rfl rfl ?_
  refine jj_iconst hk (pc := 1) (v := (1 : Int32)) dX0_game_1 (by decide) ?_
  refine jj_iconst hk (pc := 2) (v := (4 : Int32)) dX0_game_2 (by decide) ?_
  refine kc_X0_0_isIn hk hH hK (pc := 3) (a0 := a0) (a1 := (1 : Int32)) (a2 := (4 : Int32)) (fun r h => cc_f0_isIn l hH d σ a0 (1 : Int32) (4 : Int32) r h) dX0_game_3 ⟨Nat.le_of_ble_eq_true rfl, Nat.le_of_ble_eq_true rfl⟩ (Nat.le_of_ble_eq_true rfl) (fun r1 => ?_)
  refine jj_if_eq_b hk (pc := 6) 19 dX0_game_6 (by decide) ?_ ?_
  · refine jj_iconst hk (pc := 19) (v := (-1 : Int32)) dX0_game_19 (by decide) ?_
    exact jc_retUi hk (pc := 20) dX0_game_20
  · refine jj_aload_n hk (pc := 9) dX0_game_9 0 rfl rfl ?_
    refine jj_iconst hk (pc := 10) (v := (0 : Int32)) dX0_game_10 (by decide) ?_
    refine jj_iload_n hk (pc := 11) dX0_game_11 1 rfl rfl ?_
    refine jj_iconst hk (pc := 12) (v := (0 : Int32)) dX0_game_12 (by decide) ?_
    refine kc_X0_0_valueFrom hk hH hK (pc := 13) (a0 := (0 : Int32)) (a1 := a0) (a2 := (0 : Int32)) (fun r h => cc_f0_valueFrom l hH d N 6 σ (0 : Int32) a0 (0 : Int32) r h) dX0_game_13 ⟨Nat.le_of_ble_eq_true rfl, Nat.le_of_ble_eq_true rfl⟩ (Nat.le_of_ble_eq_true rfl) (fun r2 => ?_)
    refine jj_goto hk (pc := 16) 20 dX0_game_16 (by decide) ?_
    exact jc_retUi hk (pc := 20) dX0_game_20
set_option maxHeartbeats 4000000 in
theorem wb_f0_play_L34 {res : (Int32 × SS)} (hk : jk p R s m args meth c d.2 cX0_play 5 RX0 2911 72825 (some .int)) (hH : cH G KK) (hK : KK s) (N : Nat) : ∀ (n : Nat) (σ : SS) (x1 : Int32) (x2 : Int32) (x3 : Int32), jj p l e R s m args below meth c (hA G) d.2 (jZ below args s (hA G) d.2 (jU res) (cWo G d) (cnx d)) (cWo G d) (cnx d) 5 σ 34 [(0, .ref (ha G 0)), (1, .int x1), (2, .int x2), (3, .int x3)] [] (f0_play_L34 N d n σ x1 x2 x3 = some res) := by
  intro n
  induction n with
  | zero => intro σ x1 x2 x3; exact jj_eq (fun hz => by rw [f0_play_L34] at hz; exact hz) jj_no
  | succ n ih =>
    intro σ x1 x2 x3
    rw [f0_play_L34]
    refine jj_iinc hk (pc := 34) [(3, .int (x3 + 1)), (0, .ref (ha G 0)), (1, .int x1), (2, .int x2)] dX0_play_34 3 rfl rfl (Nat.le_of_ble_eq_true rfl) rfl ?_
    refine jj_aload_n hk (pc := 37) dX0_play_37 1 rfl rfl ?_
    refine jj_iconst hk (pc := 38) (v := (0 : Int32)) dX0_play_38 (by decide) ?_
    refine kc_X0_0_saves hk hH hK (pc := 39) (a0 := (0 : Int32)) (fun r h => cc_f0_saves l hH d σ (0 : Int32) r h) dX0_play_39 ⟨Nat.le_of_ble_eq_true rfl, Nat.le_of_ble_eq_true rfl⟩ (Nat.le_of_ble_eq_true rfl) (fun r1 => ?_)
    refine jj_aload_n hk (pc := 42) dX0_play_42 1 rfl rfl ?_
    refine jj_iload_n hk (pc := 43) dX0_play_43 0 rfl rfl ?_
    refine jj_iconst hk (pc := 44) (v := (1 : Int32)) dX0_play_44 (by decide) ?_
    refine jj_isub hk (pc := 45) dX0_play_45 ?_
    refine kc_X0_0_passes hk hH hK (pc := 46) (a0 := ((x3 + 1) - (1 : Int32))) (fun r h => cc_f0_passes l hH d N r1 ((x3 + 1) - (1 : Int32)) r h) dX0_play_46 ⟨Nat.le_of_ble_eq_true rfl, Nat.le_of_ble_eq_true rfl⟩ (Nat.le_of_ble_eq_true rfl) (fun r2 => ?_)
    refine jj_aload_n hk (pc := 49) dX0_play_49 1 rfl rfl ?_
    refine jj_iconst hk (pc := 50) (v := (1 : Int32)) dX0_play_50 (by decide) ?_
    refine jj_iload_n hk (pc := 51) dX0_play_51 2 rfl rfl ?_
    refine jj_iconst hk (pc := 52) (v := (1 : Int32)) dX0_play_52 (by decide) ?_
    refine jj_isub hk (pc := 53) dX0_play_53 ?_
    refine jj_iconst hk (pc := 54) (v := (1 : Int32)) dX0_play_54 (by decide) ?_
    refine kc_X0_0_valueFrom hk hH hK (pc := 55) (a0 := (1 : Int32)) (a1 := (x1 - (1 : Int32))) (a2 := (1 : Int32)) (fun r h => cc_f0_valueFrom l hH d N 6 r2.2 (1 : Int32) (x1 - (1 : Int32)) (1 : Int32) r h) dX0_play_55 ⟨Nat.le_of_ble_eq_true rfl, Nat.le_of_ble_eq_true rfl⟩ (Nat.le_of_ble_eq_true rfl) (fun r3 => ?_)
    refine jj_iadd hk (pc := 58) dX0_play_58 ?_
    refine jj_istore hk (pc := 59) [(4, .int (r2.1 + r3.1)), (3, .int (x3 + 1)), (0, .ref (ha G 0)), (1, .int x1), (2, .int x2)] dX0_play_59 (Nat.le_of_ble_eq_true rfl) rfl ?_
    refine jj_aload_n hk (pc := 61) dX0_play_61 2 rfl rfl ?_
    refine jj_iconst hk (pc := 62) (v := (0 : Int32)) dX0_play_62 (by decide) ?_
    refine kc_X0_0_goesBack hk hH hK (pc := 63) (a0 := (0 : Int32)) (fun r h => cc_f0_goesBack l hH d r3.2 (0 : Int32) r h) dX0_play_63 ⟨Nat.le_of_ble_eq_true rfl, Nat.le_of_ble_eq_true rfl⟩ (Nat.le_of_ble_eq_true rfl) (fun r4 => ?_)
    refine jj_iload hk (pc := 66) dX0_play_66 0 rfl ?_
    refine jj_iload_n hk (pc := 68) dX0_play_68 4 rfl rfl ?_
    refine jj_icmp_ne hk (pc := 69) 34 dX0_play_69 (by decide) ?_ ?_
    · refine jj_loc [(0, .ref (ha G 0)), (1, .int x1), (2, .int x2), (3, .int (x3 + 1))] [2, 3, 4, 1] rfl ?_
      exact ih r4 x1 x2 (x3 + 1)
    · refine jj_iload_n hk (pc := 72) dX0_play_72 1 rfl rfl ?_
      exact jc_retUi hk (pc := 73) dX0_play_73
set_option maxHeartbeats 4000000 in
theorem cc_f0_play (l : Launch) {G : cG} {KK : State → Prop} (hH : cH G KK) (d : DS) (N : Nat) (σ : SS) (a0 : Int32) (res : (Int32 × SS)) (hf : f0_play N d σ a0 = some res) : jM l yX0_play (ws_ yX0_play cX0_play 5 (some .int)) 2911 72825 [.ref (ha G 0), .int a0] (cWo G d) (cnx d) KK σ (jU res) (hA G) d.2 := by
  refine jj_start [(0, .ref (ha G 0)), (1, .int a0)] (by decide) (Nat.le_of_ble_eq_true rfl) rfl (fun p e R s m args below meth c hk hK hsz => ?_) hf
  have hk : jk p R s m args meth c d.2 cX0_play 5 RX0 2911 72825 (some .int) := hk
  unfold f0_play
  refine jj_iload_n hk (pc := 0) dX0_play_0 1 rfl rfl ?_
  refine jj_iconst hk (pc := 1) (v := (1 : Int32)) dX0_play_1 (by decide) ?_
  refine jj_iconst hk (pc := 2) (v := (4 : Int32)) dX0_play_2 (by decide) ?_
  refine kc_X0_0_isIn hk hH hK (pc := 3) (a0 := a0) (a1 := (1 : Int32)) (a2 := (4 : Int32)) (fun r h => cc_f0_isIn l hH d σ a0 (1 : Int32) (4 : Int32) r h) dX0_play_3 ⟨Nat.le_of_ble_eq_true rfl, Nat.le_of_ble_eq_true rfl⟩ (Nat.le_of_ble_eq_true rfl) (fun r1 => ?_)
  refine jj_if_ne_b hk (pc := 6) 11 dX0_play_6 (by decide) ?_ ?_
  · refine jj_aload_n hk (pc := 11) dX0_play_11 0 rfl rfl ?_
    refine jc_g_now hk hH hK (pc := 12) dX0_play_12 ?_
    refine kc_X0_3_isOver hk hH hK (pc := 15) (t0 := 0) (fun r h => cc_f3_isOver l hH d σ 0 (by decide) r h) (by decide) dX0_play_15 ⟨Nat.le_of_ble_eq_true rfl, Nat.le_of_ble_eq_true rfl⟩ (Nat.le_of_ble_eq_true rfl) (fun r2 => ?_)
    refine jj_if_eq_b hk (pc := 18) 24 dX0_play_18 (by decide) ?_ ?_
    · refine jj_aload_n hk (pc := 24) dX0_play_24 0 rfl rfl ?_
      refine jj_iconst hk (pc := 25) (v := (0 : Int32)) dX0_play_25 (by decide) ?_
      refine jj_iload_n hk (pc := 26) dX0_play_26 1 rfl rfl ?_
      refine jj_iconst hk (pc := 27) (v := (0 : Int32)) dX0_play_27 (by decide) ?_
      refine kc_X0_0_valueFrom hk hH hK (pc := 28) (a0 := (0 : Int32)) (a1 := a0) (a2 := (0 : Int32)) (fun r h => cc_f0_valueFrom l hH d N 6 σ (0 : Int32) a0 (0 : Int32) r h) dX0_play_28 ⟨Nat.le_of_ble_eq_true rfl, Nat.le_of_ble_eq_true rfl⟩ (Nat.le_of_ble_eq_true rfl) (fun r3 => ?_)
      refine jj_istore_n hk (pc := 31) [(2, .int r3.1), (0, .ref (ha G 0)), (1, .int a0)] dX0_play_31 rfl (Nat.le_of_ble_eq_true rfl) rfl ?_
      refine jj_iconst hk (pc := 32) (v := (-1 : Int32)) dX0_play_32 (by decide) ?_
      refine jj_istore_n hk (pc := 33) [(3, .int (-1 : Int32)), (2, .int r3.1), (0, .ref (ha G 0)), (1, .int a0)] dX0_play_33 rfl (Nat.le_of_ble_eq_true rfl) rfl ?_
      refine jj_loc [(0, .ref (ha G 0)), (1, .int a0), (2, .int r3.1), (3, .int (-1 : Int32))] [2, 3, 1, 0] rfl ?_
      exact wb_f0_play_L34 hk hH hK N N r3.2 a0 r3.1 (-1 : Int32)
    · refine jj_bipush hk (pc := 21) (v := (-3 : Int32)) dX0_play_21 (by decide) ?_
      exact jc_retUi hk (pc := 23) dX0_play_23
  · refine jj_iconst hk (pc := 9) (v := (-1 : Int32)) dX0_play_9 (by decide) ?_
    exact jc_retUi hk (pc := 10) dX0_play_10
set_option maxHeartbeats 4000000 in
theorem cc_f0_report (l : Launch) {G : cG} {KK : State → Prop} (hH : cH G KK) (d : DS)  (σ : SS) (a0 : Int32) (a1 : Int32) (a2 : Int32) (a3 : Int32) (res : (Int32 × SS)) (hf : f0_report σ a0 a1 a2 a3 = some res) : jM l yX0_report (ws_ yX0_report cX0_report 6 (some .int)) 3 82 [.ref (ha G 0), .int a0, .int a1, .int a2, .int a3] (cWo G d) (cnx d) KK σ (jU res) (hA G) d.2 := by
  refine jj_start [(0, .ref (ha G 0)), (1, .int a0), (2, .int a1), (3, .int a2), (4, .int a3)] (by decide) (Nat.le_of_ble_eq_true rfl) rfl (fun p e R s m args below meth c hk hK hsz => ?_) hf
  have hk : jk p R s m args meth c d.2 cX0_report 6 RX0 3 82 (some .int) := hk
  unfold f0_report
  refine jj_iload_n hk (pc := 0) dX0_report_0 1 rfl rfl ?_
  refine kc_X0_0_isPart hk hH hK (pc := 1) (a0 := a0) (fun r h => cc_f0_isPart l hH d σ a0 r h) dX0_report_1 ⟨Nat.le_of_ble_eq_true rfl, Nat.le_of_ble_eq_true rfl⟩ (Nat.le_of_ble_eq_true rfl) (fun r1 => ?_)
  refine jj_if_eq_b hk (pc := 4) 37 dX0_report_4 (by decide) ?_ ?_
  · refine jj_iconst hk (pc := 37) (v := (-1 : Int32)) dX0_report_37 (by decide) ?_
    exact jc_retUi hk (pc := 38) dX0_report_38
  · refine jj_iload_n hk (pc := 7) dX0_report_7 2 rfl rfl ?_
    refine jj_iconst hk (pc := 8) (v := (0 : Int32)) dX0_report_8 (by decide) ?_
    refine jj_bipush hk (pc := 9) (v := (15 : Int32)) dX0_report_9 (by decide) ?_
    refine kc_X0_0_isIn hk hH hK (pc := 11) (a0 := a1) (a1 := (0 : Int32)) (a2 := (15 : Int32)) (fun r h => cc_f0_isIn l hH d σ a1 (0 : Int32) (15 : Int32) r h) dX0_report_11 ⟨Nat.le_of_ble_eq_true rfl, Nat.le_of_ble_eq_true rfl⟩ (Nat.le_of_ble_eq_true rfl) (fun r2 => ?_)
    refine jj_if_eq_b hk (pc := 14) 37 dX0_report_14 (by decide) ?_ ?_
    · refine jj_iconst hk (pc := 37) (v := (-1 : Int32)) dX0_report_37 (by decide) ?_
      exact jc_retUi hk (pc := 38) dX0_report_38
    · refine jj_iload_n hk (pc := 17) dX0_report_17 3 rfl rfl ?_
      refine jj_iconst hk (pc := 18) (v := (0 : Int32)) dX0_report_18 (by decide) ?_
      refine jj_bipush hk (pc := 19) (v := (31 : Int32)) dX0_report_19 (by decide) ?_
      refine kc_X0_0_isIn hk hH hK (pc := 21) (a0 := a2) (a1 := (0 : Int32)) (a2 := (31 : Int32)) (fun r h => cc_f0_isIn l hH d σ a2 (0 : Int32) (31 : Int32) r h) dX0_report_21 ⟨Nat.le_of_ble_eq_true rfl, Nat.le_of_ble_eq_true rfl⟩ (Nat.le_of_ble_eq_true rfl) (fun r3 => ?_)
      refine jj_if_eq_b hk (pc := 24) 37 dX0_report_24 (by decide) ?_ ?_
      · refine jj_iconst hk (pc := 37) (v := (-1 : Int32)) dX0_report_37 (by decide) ?_
        exact jc_retUi hk (pc := 38) dX0_report_38
      · refine jj_iload hk (pc := 27) dX0_report_27 4 rfl ?_
        refine jj_iconst hk (pc := 29) (v := (0 : Int32)) dX0_report_29 (by decide) ?_
        refine jj_iconst hk (pc := 30) (v := (1 : Int32)) dX0_report_30 (by decide) ?_
        refine kc_X0_0_isIn hk hH hK (pc := 31) (a0 := a3) (a1 := (0 : Int32)) (a2 := (1 : Int32)) (fun r h => cc_f0_isIn l hH d σ a3 (0 : Int32) (1 : Int32) r h) dX0_report_31 ⟨Nat.le_of_ble_eq_true rfl, Nat.le_of_ble_eq_true rfl⟩ (Nat.le_of_ble_eq_true rfl) (fun r4 => ?_)
        refine jj_if_ne_b hk (pc := 34) 39 dX0_report_34 (by decide) ?_ ?_
        · refine jj_aload_n hk (pc := 39) dX0_report_39 0 rfl rfl ?_
          refine jc_g_now hk hH hK (pc := 40) dX0_report_40 ?_
          refine jc_t_reports hk hH hK (pc := 43) dX0_report_43 ?_
          refine jj_bipush hk (pc := 46) (v := (6 : Int32)) dX0_report_46 (by decide) ?_
          refine jj_icmp_ne hk (pc := 48) 54 dX0_report_48 (by decide) ?_ ?_
          · refine jj_aload_n hk (pc := 54) dX0_report_54 0 rfl rfl ?_
            refine jc_g_now hk hH hK (pc := 55) dX0_report_55 ?_
            refine jc_t_reports hk hH hK (pc := 58) dX0_report_58 ?_
            refine jj_istore hk (pc := 61) [(5, .int (σ.1 5)), (0, .ref (ha G 0)), (1, .int a0), (2, .int a1), (3, .int a2), (4, .int a3)] dX0_report_61 (Nat.le_of_ble_eq_true rfl) rfl ?_
            refine jj_aload_n hk (pc := 63) dX0_report_63 1 rfl rfl ?_
            refine jc_g_now hk hH hK (pc := 64) dX0_report_64 ?_
            refine jc_t_heavy hk hH hK (pc := 67) dX0_report_67 ?_
            refine jj_iload hk (pc := 70) dX0_report_70 0 rfl ?_
            refine jj_iload_n hk (pc := 72) dX0_report_72 2 rfl rfl ?_
            refine jc_st (j := 9) hk hH hK (pc := 73) (by decide) dX0_report_73 (fun σ5 => ?_)
            refine jj_aload_n hk (pc := 74) dX0_report_74 1 rfl rfl ?_
            refine jc_g_now hk hH hK (pc := 75) dX0_report_75 ?_
            refine jc_t_done hk hH hK (pc := 78) dX0_report_78 ?_
            refine jj_iload hk (pc := 81) dX0_report_81 0 rfl ?_
            refine jj_iload_n hk (pc := 83) dX0_report_83 3 rfl rfl ?_
            refine jc_st (j := 10) hk hH hK (pc := 84) (by decide) dX0_report_84 (fun σ6 => ?_)
            refine jj_aload_n hk (pc := 85) dX0_report_85 1 rfl rfl ?_
            refine jc_g_now hk hH hK (pc := 86) dX0_report_86 ?_
            refine jc_t_by hk hH hK (pc := 89) dX0_report_89 ?_
            refine jj_iload hk (pc := 92) dX0_report_92 0 rfl ?_
            refine jj_iload_n hk (pc := 94) dX0_report_94 4 rfl rfl ?_
            refine jc_st (j := 11) hk hH hK (pc := 95) (by decide) dX0_report_95 (fun σ7 => ?_)
            refine jj_aload_n hk (pc := 96) dX0_report_96 1 rfl rfl ?_
            refine jc_g_now hk hH hK (pc := 97) dX0_report_97 ?_
            refine jc_t_was hk hH hK (pc := 100) dX0_report_100 ?_
            refine jj_iload hk (pc := 103) dX0_report_103 0 rfl ?_
            refine jj_iload hk (pc := 105) dX0_report_105 5 rfl ?_
            refine jc_st (j := 12) hk hH hK (pc := 107) (by decide) dX0_report_107 (fun σ8 => ?_)
            refine jj_aload_n hk (pc := 108) dX0_report_108 1 rfl rfl ?_
            refine jc_g_now hk hH hK (pc := 109) dX0_report_109 ?_
            refine jj_dup hk (pc := 112) dX0_report_112 rfl ?_
            refine jc_t_reports hk hH hK (pc := 113) dX0_report_113 ?_
            refine jj_iconst hk (pc := 116) (v := (1 : Int32)) dX0_report_116 (by decide) ?_
            refine jj_iadd hk (pc := 117) dX0_report_117 ?_
            refine jc_tp_reports hk hH hK (pc := 118) dX0_report_118 (fun σ9 => ?_)
            refine jj_iload hk (pc := 121) dX0_report_121 0 rfl ?_
            exact jc_retUi hk (pc := 123) dX0_report_123
          · refine jj_bipush hk (pc := 51) (v := (-2 : Int32)) dX0_report_51 (by decide) ?_
            exact jc_retUi hk (pc := 53) dX0_report_53
        · refine jj_iconst hk (pc := 37) (v := (-1 : Int32)) dX0_report_37 (by decide) ?_
          exact jc_retUi hk (pc := 38) dX0_report_38
set_option maxHeartbeats 4000000 in
theorem cc_f0_forget (l : Launch) {G : cG} {KK : State → Prop} (hH : cH G KK) (d : DS)  (σ : SS)  (res : (Int32 × SS)) (hf : f0_forget σ = some res) : jM l yX0_forget (ws_ yX0_forget cX0_forget 2 (some .int)) 1 40 [.ref (ha G 0)] (cWo G d) (cnx d) KK σ (jU res) (hA G) d.2 := by
  refine jj_start [(0, .ref (ha G 0))] (by decide) (Nat.le_of_ble_eq_true rfl) rfl (fun p e R s m args below meth c hk hK hsz => ?_) hf
  have hk : jk p R s m args meth c d.2 cX0_forget 2 RX0 1 40 (some .int) := hk
  unfold f0_forget
  refine jj_aload_n hk (pc := 0) dX0_forget_0 0 rfl rfl ?_
  refine jc_g_now hk hH hK (pc := 1) dX0_forget_1 ?_
  refine jc_t_reports hk hH hK (pc := 4) dX0_forget_4 ?_
  refine jj_istore_n hk (pc := 7) [(1, .int (σ.1 5)), (0, .ref (ha G 0))] dX0_forget_7 rfl (Nat.le_of_ble_eq_true rfl) rfl ?_
  refine jj_aload_n hk (pc := 8) dX0_forget_8 1 rfl rfl ?_
  refine jc_g_now hk hH hK (pc := 9) dX0_forget_9 ?_
  refine jj_iconst hk (pc := 12) (v := (0 : Int32)) dX0_forget_12 (by decide) ?_
  refine jc_tp_reports hk hH hK (pc := 13) dX0_forget_13 (fun σ1 => ?_)
  refine jj_iload_n hk (pc := 16) dX0_forget_16 0 rfl rfl ?_
  exact jc_retUi hk (pc := 17) dX0_forget_17
set_option maxHeartbeats 4000000 in
theorem cc_f0_seed (l : Launch) {G : cG} {KK : State → Prop} (hH : cH G KK) (d : DS)  (σ : SS) (a0 : Int32) (res : (Int32 × SS)) (hf : f0_seed σ a0 = some res) : jM l yX0_seed (ws_ yX0_seed cX0_seed 3 (some .int)) 1 40 [.ref (ha G 0), .int a0] (cWo G d) (cnx d) KK σ (jU res) (hA G) d.2 := by
  refine jj_start [(0, .ref (ha G 0)), (1, .int a0)] (by decide) (Nat.le_of_ble_eq_true rfl) rfl (fun p e R s m args below meth c hk hK hsz => ?_) hf
  have hk : jk p R s m args meth c d.2 cX0_seed 3 RX0 1 40 (some .int) := hk
  unfold f0_seed
  refine jj_aload_n hk (pc := 0) dX0_seed_0 0 rfl rfl ?_
  refine jc_g_now hk hH hK (pc := 1) dX0_seed_1 ?_
  refine jc_t_z hk hH hK (pc := 4) dX0_seed_4 ?_
  refine jj_istore_n hk (pc := 7) [(2, .int (σ.1 6)), (0, .ref (ha G 0)), (1, .int a0)] dX0_seed_7 rfl (Nat.le_of_ble_eq_true rfl) rfl ?_
  refine jj_aload_n hk (pc := 8) dX0_seed_8 1 rfl rfl ?_
  refine jc_g_now hk hH hK (pc := 9) dX0_seed_9 ?_
  refine jj_iload_n hk (pc := 12) dX0_seed_12 2 rfl rfl ?_
  refine jc_tp_z hk hH hK (pc := 13) dX0_seed_13 (fun σ1 => ?_)
  refine jj_iload_n hk (pc := 16) dX0_seed_16 0 rfl rfl ?_
  exact jc_retUi hk (pc := 17) dX0_seed_17
set_option maxHeartbeats 4000000 in
theorem cc_f0_drawn (l : Launch) {G : cG} {KK : State → Prop} (hH : cH G KK) (d : DS) (N : Nat) (σ : SS)  (res : (Int32 × SS)) (hf : f0_drawn N d σ = some res) : jM l yX0_drawn (ws_ yX0_drawn cX0_drawn 1 (some .int)) 486 12155 [.ref (ha G 0)] (cWo G d) (cnx d) KK σ (jU res) (hA G) d.2 := by
  refine jj_start [(0, .ref (ha G 0))] (by decide) (Nat.le_of_ble_eq_true rfl) rfl (fun p e R s m args below meth c hk hK hsz => ?_) hf
  have hk : jk p R s m args meth c d.2 cX0_drawn 1 RX0 486 12155 (some .int) := hk
  unfold f0_drawn
  refine jj_aload_n hk (pc := 0) dX0_drawn_0 0 rfl rfl ?_
  refine jc_g_now hk hH hK (pc := 1) dX0_drawn_1 ?_
  refine jj_aload_n hk (pc := 4) dX0_drawn_4 0 rfl rfl ?_
  refine jc_g_now hk hH hK (pc := 5) dX0_drawn_5 ?_
  refine jc_t_z hk hH hK (pc := 8) dX0_drawn_8 ?_
  refine jj_ldc_w hk (pc := 11) q1158 dX0_drawn_11 ?_
  refine jj_imul hk (pc := 14) dX0_drawn_14 ?_
  refine jj_sipush hk (pc := 15) (v := (12345 : Int32)) dX0_drawn_15 (by decide) ?_
  refine jj_iadd hk (pc := 18) dX0_drawn_18 ?_
  refine jc_tp_z hk hH hK (pc := 19) dX0_drawn_19 (fun σ1 => ?_)
  refine jj_aload_n hk (pc := 22) dX0_drawn_22 0 rfl rfl ?_
  refine jj_aload_n hk (pc := 23) dX0_drawn_23 0 rfl rfl ?_
  refine jc_g_now hk hH hK (pc := 24) dX0_drawn_24 ?_
  refine jc_t_z hk hH hK (pc := 27) dX0_drawn_27 ?_
  refine jj_bipush hk (pc := 30) (v := (16 : Int32)) dX0_drawn_30 (by decide) ?_
  refine jj_iushr hk (pc := 32) dX0_drawn_32 ?_
  refine jj_aload_n hk (pc := 33) dX0_drawn_33 0 rfl rfl ?_
  refine jc_g_now hk hH hK (pc := 34) dX0_drawn_34 ?_
  refine jc_t_people hk hH hK (pc := 37) dX0_drawn_37 ?_
  refine jj_iconst hk (pc := 40) (v := (1 : Int32)) dX0_drawn_40 (by decide) ?_
  refine jj_iadd hk (pc := 41) dX0_drawn_41 ?_
  refine jj_ite (fun _ => jj_no) (fun hne => ?_)
  refine jj_irem hk (pc := 42) dX0_drawn_42 hne ?_
  refine jj_iconst hk (pc := 43) (v := (1 : Int32)) dX0_drawn_43 (by decide) ?_
  refine jj_isub hk (pc := 44) dX0_drawn_44 ?_
  refine kc_X0_0_goes hk hH hK (pc := 45) (a0 := (((((σ1.1 6).toUInt32 >>> ((16 : Int32).toUInt32 &&& Int32.toUInt32 31)).toInt32) - (((σ1.1 6).toUInt32 >>> ((16 : Int32).toUInt32 &&& Int32.toUInt32 31)).toInt32) / ((σ1.1 0) + (1 : Int32)) * ((σ1.1 0) + (1 : Int32))) - (1 : Int32))) (fun r h => cc_f0_goes l hH d N σ1 (((((σ1.1 6).toUInt32 >>> ((16 : Int32).toUInt32 &&& Int32.toUInt32 31)).toInt32) - (((σ1.1 6).toUInt32 >>> ((16 : Int32).toUInt32 &&& Int32.toUInt32 31)).toInt32) / ((σ1.1 0) + (1 : Int32)) * ((σ1.1 0) + (1 : Int32))) - (1 : Int32)) r h) dX0_drawn_45 ⟨Nat.le_of_ble_eq_true rfl, Nat.le_of_ble_eq_true rfl⟩ (Nat.le_of_ble_eq_true rfl) (fun r2 => ?_)
  exact jc_retUi hk (pc := 48) dX0_drawn_48
set_option maxHeartbeats 4000000 in
theorem cc_f0_lot (l : Launch) {G : cG} {KK : State → Prop} (hH : cH G KK) (d : DS) (N : Nat) (σ : SS)  (res : (Int32 × SS)) (hf : f0_lot N d σ = some res) : jM l yX0_lot (ws_ yX0_lot cX0_lot 1 (some .int)) 487 12175 [.ref (ha G 0)] (cWo G d) (cnx d) KK σ (jU res) (hA G) d.2 := by
  refine jj_start [(0, .ref (ha G 0))] (by decide) (Nat.le_of_ble_eq_true rfl) rfl (fun p e R s m args below meth c hk hK hsz => ?_) hf
  have hk : jk p R s m args meth c d.2 cX0_lot 1 RX0 487 12175 (some .int) := hk
  unfold f0_lot
  refine jj_aload_n hk (pc := 0) dX0_lot_0 0 rfl rfl ?_
  refine jc_g_now hk hH hK (pc := 1) dX0_lot_1 ?_
  refine kc_X0_3_isOver hk hH hK (pc := 4) (t0 := 0) (fun r h => cc_f3_isOver l hH d σ 0 (by decide) r h) (by decide) dX0_lot_4 ⟨Nat.le_of_ble_eq_true rfl, Nat.le_of_ble_eq_true rfl⟩ (Nat.le_of_ble_eq_true rfl) (fun r1 => ?_)
  refine jj_if_eq_b hk (pc := 7) 15 dX0_lot_7 (by decide) ?_ ?_
  · refine jj_aload_n hk (pc := 15) dX0_lot_15 0 rfl rfl ?_
    refine kc_X0_0_drawn hk hH hK (pc := 16)  (fun r h => cc_f0_drawn l hH d N σ r h) dX0_lot_16 ⟨Nat.le_of_ble_eq_true rfl, Nat.le_of_ble_eq_true rfl⟩ (Nat.le_of_ble_eq_true rfl) (fun r2 => ?_)
    exact jc_retUi hk (pc := 19) dX0_lot_19
  · refine jj_bipush hk (pc := 10) (v := (-4 : Int32)) dX0_lot_10 (by decide) ?_
    refine jj_goto hk (pc := 12) 19 dX0_lot_12 (by decide) ?_
    exact jc_retUi hk (pc := 19) dX0_lot_19
set_option maxHeartbeats 4000000 in
theorem wb_f0_drawnAll_L2 {res : (Int32 × SS)} (hk : jk p R s m args meth c d.2 cX0_drawnAll 2 RX0 487 12175 (some .int)) (hH : cH G KK) (hK : KK s) (N : Nat) : ∀ (n : Nat) (σ : SS) (x1 : Int32), jj p l e R s m args below meth c (hA G) d.2 (jZ below args s (hA G) d.2 (jU res) (cWo G d) (cnx d)) (cWo G d) (cnx d) 2 σ 2 [(0, .ref (ha G 0)), (1, .int x1)] [] (f0_drawnAll_L2 N d n σ x1 = some res) := by
  intro n
  induction n with
  | zero => intro σ x1; exact jj_eq (fun hz => by rw [f0_drawnAll_L2] at hz; exact hz) jj_no
  | succ n ih =>
    intro σ x1
    rw [f0_drawnAll_L2]
    refine jj_aload_n hk (pc := 2) dX0_drawnAll_2 0 rfl rfl ?_
    refine jc_g_now hk hH hK (pc := 3) dX0_drawnAll_3 ?_
    refine kc_X0_3_isOver hk hH hK (pc := 6) (t0 := 0) (fun r h => cc_f3_isOver l hH d σ 0 (by decide) r h) (by decide) dX0_drawnAll_6 ⟨Nat.le_of_ble_eq_true rfl, Nat.le_of_ble_eq_true rfl⟩ (Nat.le_of_ble_eq_true rfl) (fun r1 => ?_)
    refine jj_if_ne_b hk (pc := 9) 22 dX0_drawnAll_9 (by decide) ?_ ?_
    · refine jj_iload_n hk (pc := 22) dX0_drawnAll_22 1 rfl rfl ?_
      exact jc_retUi hk (pc := 23) dX0_drawnAll_23
    · refine jj_iload_n hk (pc := 12) dX0_drawnAll_12 1 rfl rfl ?_
      refine jj_aload_n hk (pc := 13) dX0_drawnAll_13 0 rfl rfl ?_
      refine kc_X0_0_drawn hk hH hK (pc := 14)  (fun r h => cc_f0_drawn l hH d N σ r h) dX0_drawnAll_14 ⟨Nat.le_of_ble_eq_true rfl, Nat.le_of_ble_eq_true rfl⟩ (Nat.le_of_ble_eq_true rfl) (fun r2 => ?_)
      refine jj_iadd hk (pc := 17) dX0_drawnAll_17 ?_
      refine jj_istore_n hk (pc := 18) [(1, .int (x1 + r2.1)), (0, .ref (ha G 0))] dX0_drawnAll_18 rfl (Nat.le_of_ble_eq_true rfl) rfl ?_
      refine jj_goto hk (pc := 19) 2 dX0_drawnAll_19 (by decide) ?_
      refine jj_loc [(0, .ref (ha G 0)), (1, .int (x1 + r2.1))] [1, 0] rfl ?_
      exact ih r2.2 (x1 + r2.1)
set_option maxHeartbeats 4000000 in
theorem cc_f0_drawnAll (l : Launch) {G : cG} {KK : State → Prop} (hH : cH G KK) (d : DS) (N : Nat) (σ : SS)  (res : (Int32 × SS)) (hf : f0_drawnAll N d σ = some res) : jM l yX0_drawnAll (ws_ yX0_drawnAll cX0_drawnAll 2 (some .int)) 487 12175 [.ref (ha G 0)] (cWo G d) (cnx d) KK σ (jU res) (hA G) d.2 := by
  refine jj_start [(0, .ref (ha G 0))] (by decide) (Nat.le_of_ble_eq_true rfl) rfl (fun p e R s m args below meth c hk hK hsz => ?_) hf
  have hk : jk p R s m args meth c d.2 cX0_drawnAll 2 RX0 487 12175 (some .int) := hk
  unfold f0_drawnAll
  refine jj_iconst hk (pc := 0) (v := (0 : Int32)) dX0_drawnAll_0 (by decide) ?_
  refine jj_istore_n hk (pc := 1) [(1, .int (0 : Int32)), (0, .ref (ha G 0))] dX0_drawnAll_1 rfl (Nat.le_of_ble_eq_true rfl) rfl ?_
  refine jj_loc [(0, .ref (ha G 0)), (1, .int (0 : Int32))] [1, 0] rfl ?_
  exact wb_f0_drawnAll_L2 hk hH hK N N σ (0 : Int32)
set_option maxHeartbeats 4000000 in
theorem wb_f0_prove_L37 {res : (Int32 × SS)} (hk : jk p R s m args meth c d.2 cX0_prove 3 RX0 2912 72844 (some .int)) (hH : cH G KK) (hK : KK s) (N : Nat) : ∀ (n : Nat) (σ : SS) (x2 : Int32), jj p l e R s m args below meth c (hA G) d.2 (jZ below args s (hA G) d.2 (jU res) (cWo G d) (cnx d)) (cWo G d) (cnx d) 3 σ 37 [(0, .ref (ha G 0)), (2, .int x2)] [] (f0_prove_L37 N d n σ x2 = some res) := by
  intro n
  induction n with
  | zero => intro σ x2; exact jj_eq (fun hz => by rw [f0_prove_L37] at hz; exact hz) jj_no
  | succ n ih =>
    intro σ x2
    rw [f0_prove_L37]
    refine jj_iload_n hk (pc := 37) dX0_prove_37 1 rfl rfl ?_
    refine jj_aload_n hk (pc := 38) dX0_prove_38 0 rfl rfl ?_
    refine jc_g_rowMany hk hH hK (pc := 39) dX0_prove_39 ?_
    refine jj_icmp_ge hk (pc := 42) 102 dX0_prove_42 (by decide) ?_ ?_
    · refine jj_aload_n hk (pc := 102) dX0_prove_102 0 rfl rfl ?_
      refine jc_g_now hk hH hK (pc := 103) dX0_prove_103 ?_
      refine jj_aload_n hk (pc := 106) dX0_prove_106 0 rfl rfl ?_
      refine jc_g_tried hk hH hK (pc := 107) dX0_prove_107 ?_
      refine kc_X0_3_become hk hH hK (pc := 110) (t0 := 0) (t1 := 2) (fun r h => cc_f3_become l hH d σ 0 2 (by decide) (by decide) r h) (by decide) (by decide) dX0_prove_110 ⟨Nat.le_of_ble_eq_true rfl, Nat.le_of_ble_eq_true rfl⟩ (Nat.le_of_ble_eq_true rfl) (fun r1 => ?_)
      refine jj_aload_n hk (pc := 113) dX0_prove_113 0 rfl rfl ?_
      refine jc_g_rowMany hk hH hK (pc := 114) dX0_prove_114 ?_
      exact jc_retUi hk (pc := 117) dX0_prove_117
    · refine jj_aload_n hk (pc := 45) dX0_prove_45 0 rfl rfl ?_
      refine jc_g_rows hk hH hK (pc := 46) dX0_prove_46 ?_
      refine jj_iconst hk (pc := 49) (v := (3 : Int32)) dX0_prove_49 (by decide) ?_
      refine jj_iload_n hk (pc := 50) dX0_prove_50 1 rfl rfl ?_
      refine jj_imul hk (pc := 51) dX0_prove_51 ?_
      refine jj_aload_n hk (pc := 52) dX0_prove_52 0 rfl rfl ?_
      refine jc_g_plan hk hH hK (pc := 53) dX0_prove_53 ?_
      refine jj_iload_n hk (pc := 56) dX0_prove_56 1 rfl rfl ?_
      refine jc_ld (j := 43) hk hH hK (pc := 57) (by decide) dX0_prove_57 (fun v2 => ?_)
      refine jc_st (j := 44) hk hH hK (pc := 58) (by decide) dX0_prove_58 (fun σ3 => ?_)
      refine jj_aload_n hk (pc := 59) dX0_prove_59 0 rfl rfl ?_
      refine jc_g_rows hk hH hK (pc := 60) dX0_prove_60 ?_
      refine jj_iconst hk (pc := 63) (v := (3 : Int32)) dX0_prove_63 (by decide) ?_
      refine jj_iload_n hk (pc := 64) dX0_prove_64 1 rfl rfl ?_
      refine jj_imul hk (pc := 65) dX0_prove_65 ?_
      refine jj_iconst hk (pc := 66) (v := (1 : Int32)) dX0_prove_66 (by decide) ?_
      refine jj_iadd hk (pc := 67) dX0_prove_67 ?_
      refine jj_aload_n hk (pc := 68) dX0_prove_68 0 rfl rfl ?_
      refine jj_aload_n hk (pc := 69) dX0_prove_69 0 rfl rfl ?_
      refine jc_g_plan hk hH hK (pc := 70) dX0_prove_70 ?_
      refine jj_iload_n hk (pc := 73) dX0_prove_73 1 rfl rfl ?_
      refine jc_ld (j := 43) hk hH hK (pc := 74) (by decide) dX0_prove_74 (fun v4 => ?_)
      refine jj_iconst hk (pc := 75) (v := (1 : Int32)) dX0_prove_75 (by decide) ?_
      refine jj_isub hk (pc := 76) dX0_prove_76 ?_
      refine kc_X0_0_passes hk hH hK (pc := 77) (a0 := (v4 - (1 : Int32))) (fun r h => cc_f0_passes l hH d N σ3 (v4 - (1 : Int32)) r h) dX0_prove_77 ⟨Nat.le_of_ble_eq_true rfl, Nat.le_of_ble_eq_true rfl⟩ (Nat.le_of_ble_eq_true rfl) (fun r5 => ?_)
      refine jc_st (j := 44) hk hH hK (pc := 80) (by decide) dX0_prove_80 (fun σ6 => ?_)
      refine jj_aload_n hk (pc := 81) dX0_prove_81 0 rfl rfl ?_
      refine jc_g_rows hk hH hK (pc := 82) dX0_prove_82 ?_
      refine jj_iconst hk (pc := 85) (v := (3 : Int32)) dX0_prove_85 (by decide) ?_
      refine jj_iload_n hk (pc := 86) dX0_prove_86 1 rfl rfl ?_
      refine jj_imul hk (pc := 87) dX0_prove_87 ?_
      refine jj_iconst hk (pc := 88) (v := (2 : Int32)) dX0_prove_88 (by decide) ?_
      refine jj_iadd hk (pc := 89) dX0_prove_89 ?_
      refine jj_aload_n hk (pc := 90) dX0_prove_90 0 rfl rfl ?_
      refine jj_iconst hk (pc := 91) (v := (1 : Int32)) dX0_prove_91 (by decide) ?_
      refine kc_X0_0_setOf hk hH hK (pc := 92) (a0 := (1 : Int32)) (fun r h => cc_f0_setOf l hH d N σ6 (1 : Int32) r h) dX0_prove_92 ⟨Nat.le_of_ble_eq_true rfl, Nat.le_of_ble_eq_true rfl⟩ (Nat.le_of_ble_eq_true rfl) (fun r7 => ?_)
      refine jc_st (j := 44) hk hH hK (pc := 95) (by decide) dX0_prove_95 (fun σ8 => ?_)
      refine jj_iinc hk (pc := 96) [(2, .int (x2 + 1)), (0, .ref (ha G 0))] dX0_prove_96 1 rfl rfl (Nat.le_of_ble_eq_true rfl) rfl ?_
      refine jj_goto hk (pc := 99) 37 dX0_prove_99 (by decide) ?_
      refine jj_loc [(0, .ref (ha G 0)), (2, .int (x2 + 1))] [1, 0] rfl ?_
      exact ih σ8 (x2 + 1)
set_option maxHeartbeats 4000000 in
theorem cc_f0_prove (l : Launch) {G : cG} {KK : State → Prop} (hH : cH G KK) (d : DS) (N : Nat) (σ : SS) (a0 : Int32) (res : (Int32 × SS)) (hf : f0_prove N d σ a0 = some res) : jM l yX0_prove (ws_ yX0_prove cX0_prove 3 (some .int)) 2912 72844 [.ref (ha G 0), .int a0] (cWo G d) (cnx d) KK σ (jU res) (hA G) d.2 := by
  refine jj_start [(0, .ref (ha G 0)), (1, .int a0)] (by decide) (Nat.le_of_ble_eq_true rfl) rfl (fun p e R s m args below meth c hk hK hsz => ?_) hf
  have hk : jk p R s m args meth c d.2 cX0_prove 3 RX0 2912 72844 (some .int) := hk
  unfold f0_prove
  refine jj_iload_n hk (pc := 0) dX0_prove_0 1 rfl rfl ?_
  refine jj_iconst hk (pc := 1) (v := (0 : Int32)) dX0_prove_1 (by decide) ?_
  refine jj_iconst hk (pc := 2) (v := (4 : Int32)) dX0_prove_2 (by decide) ?_
  refine kc_X0_0_isIn hk hH hK (pc := 3) (a0 := a0) (a1 := (0 : Int32)) (a2 := (4 : Int32)) (fun r h => cc_f0_isIn l hH d σ a0 (0 : Int32) (4 : Int32) r h) dX0_prove_3 ⟨Nat.le_of_ble_eq_true rfl, Nat.le_of_ble_eq_true rfl⟩ (Nat.le_of_ble_eq_true rfl) (fun r1 => ?_)
  refine jj_if_ne_b hk (pc := 6) 11 dX0_prove_6 (by decide) ?_ ?_
  · refine jj_aload_n hk (pc := 11) dX0_prove_11 0 rfl rfl ?_
    refine jj_iload_n hk (pc := 12) dX0_prove_12 1 rfl rfl ?_
    refine kc_X0_0_findPlans hk hH hK (pc := 13) (a0 := a0) (fun r h => cc_f0_findPlans l hH d N σ a0 r h) dX0_prove_13 ⟨Nat.le_of_ble_eq_true rfl, Nat.le_of_ble_eq_true rfl⟩ (Nat.le_of_ble_eq_true rfl) (fun r2 => ?_)
    refine jj_aload_n hk (pc := 16) dX0_prove_16 0 rfl rfl ?_
    refine jc_g_tried hk hH hK (pc := 17) dX0_prove_17 ?_
    refine jj_aload_n hk (pc := 20) dX0_prove_20 0 rfl rfl ?_
    refine jc_g_now hk hH hK (pc := 21) dX0_prove_21 ?_
    refine kc_X0_3_become hk hH hK (pc := 24) (t0 := 2) (t1 := 0) (fun r h => cc_f3_become l hH d r2 2 0 (by decide) (by decide) r h) (by decide) (by decide) dX0_prove_24 ⟨Nat.le_of_ble_eq_true rfl, Nat.le_of_ble_eq_true rfl⟩ (Nat.le_of_ble_eq_true rfl) (fun r3 => ?_)
    refine jj_aload_n hk (pc := 27) dX0_prove_27 0 rfl rfl ?_
    refine jj_aload_n hk (pc := 28) dX0_prove_28 0 rfl rfl ?_
    refine jc_g_planLong hk hH hK (pc := 29) dX0_prove_29 ?_
    refine jc_p_rowMany hk hH hK (pc := 32) dX0_prove_32 (fun σ4 => ?_)
    refine jj_iconst hk (pc := 35) (v := (0 : Int32)) dX0_prove_35 (by decide) ?_
    refine jj_istore_n hk (pc := 36) [(2, .int (0 : Int32)), (0, .ref (ha G 0)), (1, .int a0)] dX0_prove_36 rfl (Nat.le_of_ble_eq_true rfl) rfl ?_
    refine jj_loc [(0, .ref (ha G 0)), (2, .int (0 : Int32))] [1, 0] rfl ?_
    exact wb_f0_prove_L37 hk hH hK N N σ4 (0 : Int32)
  · refine jj_iconst hk (pc := 9) (v := (-1 : Int32)) dX0_prove_9 (by decide) ?_
    exact jc_retUi hk (pc := 10) dX0_prove_10
set_option maxHeartbeats 4000000 in
theorem cc_f0_isRow (l : Launch) {G : cG} {KK : State → Prop} (hH : cH G KK) (d : DS)  (σ : SS) (a0 : Int32) (a1 : Int32) (res : Bool) (hf : f0_isRow σ a0 a1 = some res) : jM l yX0_isRow (ws_ yX0_isRow cX0_isRow 3 (some .boolean)) 2 62 [.ref (ha G 0), .int a0, .int a1] (cWo G d) (cnx d) KK σ (jRz σ res) (hA G) d.2 := by
  refine jj_start [(0, .ref (ha G 0)), (1, .int a0), (2, .int a1)] (by decide) (Nat.le_of_ble_eq_true rfl) rfl (fun p e R s m args below meth c hk hK hsz => ?_) hf
  have hk : jk p R s m args meth c d.2 cX0_isRow 3 RX0 2 62 (some .boolean) := hk
  unfold f0_isRow
  refine jj_iload_n hk (pc := 0) dX0_isRow_0 1 rfl rfl ?_
  refine jj_iconst hk (pc := 1) (v := (0 : Int32)) dX0_isRow_1 (by decide) ?_
  refine jj_aload_n hk (pc := 2) dX0_isRow_2 0 rfl rfl ?_
  refine jc_g_rowMany hk hH hK (pc := 3) dX0_isRow_3 ?_
  refine jj_iconst hk (pc := 6) (v := (1 : Int32)) dX0_isRow_6 (by decide) ?_
  refine jj_isub hk (pc := 7) dX0_isRow_7 ?_
  refine kc_X0_0_isIn hk hH hK (pc := 8) (a0 := a0) (a1 := (0 : Int32)) (a2 := ((σ.1 58) - (1 : Int32))) (fun r h => cc_f0_isIn l hH d σ a0 (0 : Int32) ((σ.1 58) - (1 : Int32)) r h) dX0_isRow_8 ⟨Nat.le_of_ble_eq_true rfl, Nat.le_of_ble_eq_true rfl⟩ (Nat.le_of_ble_eq_true rfl) (fun r1 => ?_)
  refine jj_if_eq_b hk (pc := 11) 27 dX0_isRow_11 (by decide) ?_ ?_
  · refine jj_iconst hk (pc := 27) (v := (0 : Int32)) dX0_isRow_27 (by decide) ?_
    exact jc_retRz hk (pc := 28) (b := false) dX0_isRow_28
  · refine jj_iload_n hk (pc := 14) dX0_isRow_14 2 rfl rfl ?_
    refine jj_iconst hk (pc := 15) (v := (0 : Int32)) dX0_isRow_15 (by decide) ?_
    refine jj_iconst hk (pc := 16) (v := (2 : Int32)) dX0_isRow_16 (by decide) ?_
    refine kc_X0_0_isIn hk hH hK (pc := 17) (a0 := a1) (a1 := (0 : Int32)) (a2 := (2 : Int32)) (fun r h => cc_f0_isIn l hH d σ a1 (0 : Int32) (2 : Int32) r h) dX0_isRow_17 ⟨Nat.le_of_ble_eq_true rfl, Nat.le_of_ble_eq_true rfl⟩ (Nat.le_of_ble_eq_true rfl) (fun r2 => ?_)
    refine jj_if_eq_b hk (pc := 20) 27 dX0_isRow_20 (by decide) ?_ ?_
    · refine jj_iconst hk (pc := 27) (v := (0 : Int32)) dX0_isRow_27 (by decide) ?_
      exact jc_retRz hk (pc := 28) (b := false) dX0_isRow_28
    · refine jj_iconst hk (pc := 23) (v := (1 : Int32)) dX0_isRow_23 (by decide) ?_
      refine jj_goto hk (pc := 24) 28 dX0_isRow_24 (by decide) ?_
      exact jc_retRz hk (pc := 28) (b := true) dX0_isRow_28
set_option maxHeartbeats 4000000 in
theorem cc_f0_row (l : Launch) {G : cG} {KK : State → Prop} (hH : cH G KK) (d : DS)  (σ : SS) (a0 : Int32) (a1 : Int32) (res : Int32) (hf : f0_row σ a0 a1 = some res) : jM l yX0_row (ws_ yX0_row cX0_row 3 (some .int)) 3 84 [.ref (ha G 0), .int a0, .int a1] (cWo G d) (cnx d) KK σ (jR σ res) (hA G) d.2 := by
  refine jj_start [(0, .ref (ha G 0)), (1, .int a0), (2, .int a1)] (by decide) (Nat.le_of_ble_eq_true rfl) rfl (fun p e R s m args below meth c hk hK hsz => ?_) hf
  have hk : jk p R s m args meth c d.2 cX0_row 3 RX0 3 84 (some .int) := hk
  unfold f0_row
  refine jj_aload_n hk (pc := 0) dX0_row_0 0 rfl rfl ?_
  refine jj_iload_n hk (pc := 1) dX0_row_1 1 rfl rfl ?_
  refine jj_iload_n hk (pc := 2) dX0_row_2 2 rfl rfl ?_
  refine kc_X0_0_isRow hk hH hK (pc := 3) (a0 := a0) (a1 := a1) (fun r h => cc_f0_isRow l hH d σ a0 a1 r h) dX0_row_3 ⟨Nat.le_of_ble_eq_true rfl, Nat.le_of_ble_eq_true rfl⟩ (Nat.le_of_ble_eq_true rfl) (fun r1 => ?_)
  refine jj_if_eq_b hk (pc := 6) 22 dX0_row_6 (by decide) ?_ ?_
  · refine jj_bipush hk (pc := 22) (v := (-9 : Int32)) dX0_row_22 (by decide) ?_
    exact jc_retRi hk (pc := 24) dX0_row_24
  · refine jj_aload_n hk (pc := 9) dX0_row_9 0 rfl rfl ?_
    refine jc_g_rows hk hH hK (pc := 10) dX0_row_10 ?_
    refine jj_iconst hk (pc := 13) (v := (3 : Int32)) dX0_row_13 (by decide) ?_
    refine jj_iload_n hk (pc := 14) dX0_row_14 1 rfl rfl ?_
    refine jj_imul hk (pc := 15) dX0_row_15 ?_
    refine jj_iload_n hk (pc := 16) dX0_row_16 2 rfl rfl ?_
    refine jj_iadd hk (pc := 17) dX0_row_17 ?_
    refine jc_ld (j := 44) hk hH hK (pc := 18) (by decide) dX0_row_18 (fun v2 => ?_)
    refine jj_goto hk (pc := 19) 24 dX0_row_19 (by decide) ?_
    exact jc_retRi hk (pc := 24) dX0_row_24
set_option maxHeartbeats 4000000 in
theorem cc_f0_alterRow (l : Launch) {G : cG} {KK : State → Prop} (hH : cH G KK) (d : DS)  (σ : SS) (a0 : Int32) (a1 : Int32) (a2 : Int32) (res : (Int32 × SS)) (hf : f0_alterRow σ a0 a1 a2 = some res) : jM l yX0_alterRow (ws_ yX0_alterRow cX0_alterRow 5 (some .int)) 3 84 [.ref (ha G 0), .int a0, .int a1, .int a2] (cWo G d) (cnx d) KK σ (jU res) (hA G) d.2 := by
  refine jj_start [(0, .ref (ha G 0)), (1, .int a0), (2, .int a1), (3, .int a2)] (by decide) (Nat.le_of_ble_eq_true rfl) rfl (fun p e R s m args below meth c hk hK hsz => ?_) hf
  have hk : jk p R s m args meth c d.2 cX0_alterRow 5 RX0 3 84 (some .int) := hk
  unfold f0_alterRow
  refine jj_aload_n hk (pc := 0) dX0_alterRow_0 0 rfl rfl ?_
  refine jj_iload_n hk (pc := 1) dX0_alterRow_1 1 rfl rfl ?_
  refine jj_iload_n hk (pc := 2) dX0_alterRow_2 2 rfl rfl ?_
  refine kc_X0_0_isRow hk hH hK (pc := 3) (a0 := a0) (a1 := a1) (fun r h => cc_f0_isRow l hH d σ a0 a1 r h) dX0_alterRow_3 ⟨Nat.le_of_ble_eq_true rfl, Nat.le_of_ble_eq_true rfl⟩ (Nat.le_of_ble_eq_true rfl) (fun r1 => ?_)
  refine jj_if_ne_b hk (pc := 6) 12 dX0_alterRow_6 (by decide) ?_ ?_
  · refine jj_aload_n hk (pc := 12) dX0_alterRow_12 0 rfl rfl ?_
    refine jc_g_rows hk hH hK (pc := 13) dX0_alterRow_13 ?_
    refine jj_iconst hk (pc := 16) (v := (3 : Int32)) dX0_alterRow_16 (by decide) ?_
    refine jj_iload_n hk (pc := 17) dX0_alterRow_17 1 rfl rfl ?_
    refine jj_imul hk (pc := 18) dX0_alterRow_18 ?_
    refine jj_iload_n hk (pc := 19) dX0_alterRow_19 2 rfl rfl ?_
    refine jj_iadd hk (pc := 20) dX0_alterRow_20 ?_
    refine jc_ld (j := 44) hk hH hK (pc := 21) (by decide) dX0_alterRow_21 (fun v2 => ?_)
    refine jj_istore hk (pc := 22) [(4, .int v2), (0, .ref (ha G 0)), (1, .int a0), (2, .int a1), (3, .int a2)] dX0_alterRow_22 (Nat.le_of_ble_eq_true rfl) rfl ?_
    refine jj_aload_n hk (pc := 24) dX0_alterRow_24 1 rfl rfl ?_
    refine jc_g_rows hk hH hK (pc := 25) dX0_alterRow_25 ?_
    refine jj_iconst hk (pc := 28) (v := (3 : Int32)) dX0_alterRow_28 (by decide) ?_
    refine jj_iload_n hk (pc := 29) dX0_alterRow_29 2 rfl rfl ?_
    refine jj_imul hk (pc := 30) dX0_alterRow_30 ?_
    refine jj_iload_n hk (pc := 31) dX0_alterRow_31 3 rfl rfl ?_
    refine jj_iadd hk (pc := 32) dX0_alterRow_32 ?_
    refine jj_iload_n hk (pc := 33) dX0_alterRow_33 4 rfl rfl ?_
    refine jc_st (j := 44) hk hH hK (pc := 34) (by decide) dX0_alterRow_34 (fun σ3 => ?_)
    refine jj_iload hk (pc := 35) dX0_alterRow_35 0 rfl ?_
    exact jc_retUi hk (pc := 37) dX0_alterRow_37
  · refine jj_bipush hk (pc := 9) (v := (-9 : Int32)) dX0_alterRow_9 (by decide) ?_
    exact jc_retUi hk (pc := 11) dX0_alterRow_11
set_option maxHeartbeats 4000000 in
theorem cc_f0_isShelf (l : Launch) {G : cG} {KK : State → Prop} (hH : cH G KK) (d : DS)  (σ : SS) (a0 : Int32) (res : Bool) (hf : f0_isShelf a0 = some res) : jM l yX0_isShelf (ws_ yX0_isShelf cX0_isShelf 1 (some .boolean)) 2 62 [.int a0] (cWo G d) (cnx d) KK σ (jRz σ res) (hA G) d.2 := by
  refine jj_start [(0, .int a0)] (by decide) (Nat.le_of_ble_eq_true rfl) rfl (fun p e R s m args below meth c hk hK hsz => ?_) hf
  have hk : jk p R s m args meth c d.2 cX0_isShelf 1 RX0 2 62 (some .boolean) := hk
  unfold f0_isShelf
  refine jj_iload_n hk (pc := 0) dX0_isShelf_0 0 rfl rfl ?_
  refine jj_iconst hk (pc := 1) (v := (0 : Int32)) dX0_isShelf_1 (by decide) ?_
  refine jj_iconst hk (pc := 2) (v := (3 : Int32)) dX0_isShelf_2 (by decide) ?_
  refine kc_X0_0_isIn hk hH hK (pc := 3) (a0 := a0) (a1 := (0 : Int32)) (a2 := (3 : Int32)) (fun r h => cc_f0_isIn l hH d σ a0 (0 : Int32) (3 : Int32) r h) dX0_isShelf_3 ⟨Nat.le_of_ble_eq_true rfl, Nat.le_of_ble_eq_true rfl⟩ (Nat.le_of_ble_eq_true rfl) (fun r1 => ?_)
  exact jc_retRz hk (pc := 6) (b := r1) dX0_isShelf_6
set_option maxHeartbeats 4000000 in
theorem cc_f0_trace (l : Launch) {G : cG} {KK : State → Prop} (hH : cH G KK) (d : DS)  (σ : SS) (a0 : Int32) (res : Int32) (hf : f0_trace σ a0 = some res) : jM l yX0_trace (ws_ yX0_trace cX0_trace 2 (some .int)) 2 62 [.ref (ha G 0), .int a0] (cWo G d) (cnx d) KK σ (jR σ res) (hA G) d.2 := by
  refine jj_start [(0, .ref (ha G 0)), (1, .int a0)] (by decide) (Nat.le_of_ble_eq_true rfl) rfl (fun p e R s m args below meth c hk hK hsz => ?_) hf
  have hk : jk p R s m args meth c d.2 cX0_trace 2 RX0 2 62 (some .int) := hk
  unfold f0_trace
  refine jj_iload_n hk (pc := 0) dX0_trace_0 1 rfl rfl ?_
  refine jj_iconst hk (pc := 1) (v := (0 : Int32)) dX0_trace_1 (by decide) ?_
  refine jj_aload_n hk (pc := 2) dX0_trace_2 0 rfl rfl ?_
  refine jc_g_trace hk hH hK (pc := 3) dX0_trace_3 ?_
  refine jc_n_many hk hH hK (pc := 6) dX0_trace_6 ?_
  refine jj_iconst hk (pc := 9) (v := (1 : Int32)) dX0_trace_9 (by decide) ?_
  refine jj_isub hk (pc := 10) dX0_trace_10 ?_
  refine kc_X0_0_isIn hk hH hK (pc := 11) (a0 := a0) (a1 := (0 : Int32)) (a2 := ((σ.1 70) - (1 : Int32))) (fun r h => cc_f0_isIn l hH d σ a0 (0 : Int32) ((σ.1 70) - (1 : Int32)) r h) dX0_trace_11 ⟨Nat.le_of_ble_eq_true rfl, Nat.le_of_ble_eq_true rfl⟩ (Nat.le_of_ble_eq_true rfl) (fun r1 => ?_)
  refine jj_if_eq_b hk (pc := 14) 29 dX0_trace_14 (by decide) ?_ ?_
  · refine jj_bipush hk (pc := 29) (v := (-3 : Int32)) dX0_trace_29 (by decide) ?_
    exact jc_retRi hk (pc := 31) dX0_trace_31
  · refine jj_aload_n hk (pc := 17) dX0_trace_17 0 rfl rfl ?_
    refine jc_g_trace hk hH hK (pc := 18) dX0_trace_18 ?_
    refine jc_n_bodies hk hH hK (pc := 21) dX0_trace_21 ?_
    refine jj_iload_n hk (pc := 24) dX0_trace_24 1 rfl rfl ?_
    refine jc_ld (j := 45) hk hH hK (pc := 25) (by decide) dX0_trace_25 (fun v2 => ?_)
    refine jj_goto hk (pc := 26) 31 dX0_trace_26 (by decide) ?_
    exact jc_retRi hk (pc := 31) dX0_trace_31
set_option maxHeartbeats 4000000 in
theorem wb_f0_loans_L4 {res : Int32} (hk : jk p R s m args meth c d.2 cX0_loans 3 RX0 1 40 (some .int)) (hH : cH G KK) (hK : KK s) (N : Nat) (σ : SS) : ∀ (n : Nat) (x1 : Int32) (x2 : Int32), jj p l e R s m args below meth c (hA G) d.2 (jZ below args s (hA G) d.2 (jR σ res) (cWo G d) (cnx d)) (cWo G d) (cnx d) 3 σ 4 [(0, .ref (ha G 0)), (1, .int x1), (2, .int x2)] [] (f0_loans_L4 N σ n x1 x2 = some res) := by
  intro n
  induction n with
  | zero => intro x1 x2; exact jj_eq (fun hz => by rw [f0_loans_L4] at hz; exact hz) jj_no
  | succ n ih =>
    intro x1 x2
    rw [f0_loans_L4]
    refine jj_iload_n hk (pc := 4) dX0_loans_4 2 rfl rfl ?_
    refine jj_bipush hk (pc := 5) (v := (36 : Int32)) dX0_loans_5 (by decide) ?_
    refine jj_icmp_ge hk (pc := 7) 36 dX0_loans_7 (by decide) ?_ ?_
    · refine jj_iload_n hk (pc := 36) dX0_loans_36 1 rfl rfl ?_
      exact jc_retRi hk (pc := 37) dX0_loans_37
    · refine jj_iload_n hk (pc := 10) dX0_loans_10 1 rfl rfl ?_
      refine jj_aload_n hk (pc := 11) dX0_loans_11 0 rfl rfl ?_
      refine jc_g_now hk hH hK (pc := 12) dX0_loans_12 ?_
      refine jc_t_owed hk hH hK (pc := 15) dX0_loans_15 ?_
      refine jj_iload_n hk (pc := 18) dX0_loans_18 2 rfl rfl ?_
      refine jc_ld (j := 8) hk hH hK (pc := 19) (by decide) dX0_loans_19 (fun v1 => ?_)
      refine jj_if_le hk (pc := 20) 27 dX0_loans_20 (by decide) ?_ ?_
      · refine jj_iconst hk (pc := 27) (v := (0 : Int32)) dX0_loans_27 (by decide) ?_
        refine jj_iadd hk (pc := 28) dX0_loans_28 ?_
        refine jj_istore_n hk (pc := 29) [(1, .int (x1 + (0 : Int32))), (0, .ref (ha G 0)), (2, .int x2)] dX0_loans_29 rfl (Nat.le_of_ble_eq_true rfl) rfl ?_
        refine jj_iinc hk (pc := 30) [(2, .int (x2 + 1)), (1, .int (x1 + (0 : Int32))), (0, .ref (ha G 0))] dX0_loans_30 2 rfl rfl (Nat.le_of_ble_eq_true rfl) rfl ?_
        refine jj_goto hk (pc := 33) 4 dX0_loans_33 (by decide) ?_
        refine jj_loc [(0, .ref (ha G 0)), (1, .int (x1 + (0 : Int32))), (2, .int (x2 + 1))] [2, 1, 0] rfl ?_
        exact ih (x1 + (0 : Int32)) (x2 + 1)
      · refine jj_iconst hk (pc := 23) (v := (1 : Int32)) dX0_loans_23 (by decide) ?_
        refine jj_goto hk (pc := 24) 28 dX0_loans_24 (by decide) ?_
        refine jj_iadd hk (pc := 28) dX0_loans_28 ?_
        refine jj_istore_n hk (pc := 29) [(1, .int (x1 + (1 : Int32))), (0, .ref (ha G 0)), (2, .int x2)] dX0_loans_29 rfl (Nat.le_of_ble_eq_true rfl) rfl ?_
        refine jj_iinc hk (pc := 30) [(2, .int (x2 + 1)), (1, .int (x1 + (1 : Int32))), (0, .ref (ha G 0))] dX0_loans_30 2 rfl rfl (Nat.le_of_ble_eq_true rfl) rfl ?_
        refine jj_goto hk (pc := 33) 4 dX0_loans_33 (by decide) ?_
        refine jj_loc [(0, .ref (ha G 0)), (1, .int (x1 + (1 : Int32))), (2, .int (x2 + 1))] [2, 1, 0] rfl ?_
        exact ih (x1 + (1 : Int32)) (x2 + 1)
set_option maxHeartbeats 4000000 in
theorem cc_f0_loans (l : Launch) {G : cG} {KK : State → Prop} (hH : cH G KK) (d : DS) (N : Nat) (σ : SS)  (res : Int32) (hf : f0_loans N σ = some res) : jM l yX0_loans (ws_ yX0_loans cX0_loans 3 (some .int)) 1 40 [.ref (ha G 0)] (cWo G d) (cnx d) KK σ (jR σ res) (hA G) d.2 := by
  refine jj_start [(0, .ref (ha G 0))] (by decide) (Nat.le_of_ble_eq_true rfl) rfl (fun p e R s m args below meth c hk hK hsz => ?_) hf
  have hk : jk p R s m args meth c d.2 cX0_loans 3 RX0 1 40 (some .int) := hk
  unfold f0_loans
  refine jj_iconst hk (pc := 0) (v := (0 : Int32)) dX0_loans_0 (by decide) ?_
  refine jj_istore_n hk (pc := 1) [(1, .int (0 : Int32)), (0, .ref (ha G 0))] dX0_loans_1 rfl (Nat.le_of_ble_eq_true rfl) rfl ?_
  refine jj_iconst hk (pc := 2) (v := (0 : Int32)) dX0_loans_2 (by decide) ?_
  refine jj_istore_n hk (pc := 3) [(2, .int (0 : Int32)), (1, .int (0 : Int32)), (0, .ref (ha G 0))] dX0_loans_3 rfl (Nat.le_of_ble_eq_true rfl) rfl ?_
  refine jj_loc [(0, .ref (ha G 0)), (1, .int (0 : Int32)), (2, .int (0 : Int32))] [2, 1, 0] rfl ?_
  exact wb_f0_loans_L4 hk hH hK N σ N (0 : Int32) (0 : Int32)
set_option maxHeartbeats 4000000 in
theorem wb_f0_payments_L55 {res : (Int32 × SS)} (hk : jk p R s m args meth c d.2 cX0_payments 6 RX0 2 63 (some .int)) (hH : cH G KK) (hK : KK s) (N : Nat) {k41 : SS → Int32 → Int32 → Option (Int32 × SS)} (hk41 : ∀ (σ : SS) (x1 : Int32) (x2 : Int32), jj p l e R s m args below meth c (hA G) d.2 (jZ below args s (hA G) d.2 (jU res) (cWo G d) (cnx d)) (cWo G d) (cnx d) 6 σ 41 [(0, .ref (ha G 0)), (1, .int x1), (2, .int x2)] [] (k41 σ x1 x2 = some res)) : ∀ (n : Nat) (σ : SS) (x1 : Int32) (x2 : Int32) (x3 : Int32) (x4 : Int32) (x5 : Int32), jj p l e R s m args below meth c (hA G) d.2 (jZ below args s (hA G) d.2 (jU res) (cWo G d) (cnx d)) (cWo G d) (cnx d) 6 σ 55 [(0, .ref (ha G 0)), (1, .int x1), (2, .int x2), (3, .int x3), (4, .int x4), (5, .int x5)] [] (f0_payments_L55 N k41 n σ x1 x2 x3 x4 x5 = some res) := by
  intro n
  induction n with
  | zero => intro σ x1 x2 x3 x4 x5; exact jj_eq (fun hz => by rw [f0_payments_L55] at hz; exact hz) jj_no
  | succ n ih =>
    intro σ x1 x2 x3 x4 x5
    rw [f0_payments_L55]
    refine jj_iload hk (pc := 55) dX0_payments_55 5 rfl ?_
    refine jj_bipush hk (pc := 57) (v := (6 : Int32)) dX0_payments_57 (by decide) ?_
    refine jj_icmp_ge hk (pc := 59) 111 dX0_payments_59 (by decide) ?_ ?_
    · refine jj_aload_n hk (pc := 111) dX0_payments_111 0 rfl rfl ?_
      refine jc_g_parts hk hH hK (pc := 112) dX0_payments_112 ?_
      refine jj_iload_n hk (pc := 115) dX0_payments_115 2 rfl rfl ?_
      refine jj_iload hk (pc := 116) dX0_payments_116 4 rfl ?_
      refine jj_iload_n hk (pc := 118) dX0_payments_118 3 rfl rfl ?_
      refine jj_if_ne hk (pc := 119) 132 dX0_payments_119 (by decide) ?_ ?_
      · refine jj_iconst hk (pc := 132) (v := (0 : Int32)) dX0_payments_132 (by decide) ?_
        refine jj_iadd hk (pc := 133) dX0_payments_133 ?_
        refine jc_st (j := 41) hk hH hK (pc := 134) (by decide) dX0_payments_134 (fun σ1 => ?_)
        refine jj_iinc hk (pc := 135) [(2, .int (x2 + 1)), (0, .ref (ha G 0)), (1, .int x1), (3, .int x3), (4, .int x4), (5, .int x5)] dX0_payments_135 2 rfl rfl (Nat.le_of_ble_eq_true rfl) rfl ?_
        refine jj_goto hk (pc := 138) 41 dX0_payments_138 (by decide) ?_
        refine jj_loc [(0, .ref (ha G 0)), (1, .int x1), (2, .int (x2 + 1))] [1, 2, 0] rfl ?_
        exact hk41 σ1 x1 (x2 + 1)
      · refine jj_iload_n hk (pc := 122) dX0_payments_122 2 rfl rfl ?_
        refine jj_iload_n hk (pc := 123) dX0_payments_123 1 rfl rfl ?_
        refine jj_iand hk (pc := 124) dX0_payments_124 ?_
        refine jj_if_eq hk (pc := 125) 132 dX0_payments_125 (by decide) ?_ ?_
        · refine jj_iconst hk (pc := 132) (v := (0 : Int32)) dX0_payments_132 (by decide) ?_
          refine jj_iadd hk (pc := 133) dX0_payments_133 ?_
          refine jc_st (j := 41) hk hH hK (pc := 134) (by decide) dX0_payments_134 (fun σ2 => ?_)
          refine jj_iinc hk (pc := 135) [(2, .int (x2 + 1)), (0, .ref (ha G 0)), (1, .int x1), (3, .int x3), (4, .int x4), (5, .int x5)] dX0_payments_135 2 rfl rfl (Nat.le_of_ble_eq_true rfl) rfl ?_
          refine jj_goto hk (pc := 138) 41 dX0_payments_138 (by decide) ?_
          refine jj_loc [(0, .ref (ha G 0)), (1, .int x1), (2, .int (x2 + 1))] [1, 2, 0] rfl ?_
          exact hk41 σ2 x1 (x2 + 1)
        · refine jj_iconst hk (pc := 128) (v := (1 : Int32)) dX0_payments_128 (by decide) ?_
          refine jj_goto hk (pc := 129) 133 dX0_payments_129 (by decide) ?_
          refine jj_iadd hk (pc := 133) dX0_payments_133 ?_
          refine jc_st (j := 41) hk hH hK (pc := 134) (by decide) dX0_payments_134 (fun σ3 => ?_)
          refine jj_iinc hk (pc := 135) [(2, .int (x2 + 1)), (0, .ref (ha G 0)), (1, .int x1), (3, .int x3), (4, .int x4), (5, .int x5)] dX0_payments_135 2 rfl rfl (Nat.le_of_ble_eq_true rfl) rfl ?_
          refine jj_goto hk (pc := 138) 41 dX0_payments_138 (by decide) ?_
          refine jj_loc [(0, .ref (ha G 0)), (1, .int x1), (2, .int (x2 + 1))] [1, 2, 0] rfl ?_
          exact hk41 σ3 x1 (x2 + 1)
    · refine jj_iload_n hk (pc := 62) dX0_payments_62 2 rfl rfl ?_
      refine jj_iload_n hk (pc := 63) dX0_payments_63 1 rfl rfl ?_
      refine jj_iand hk (pc := 64) dX0_payments_64 ?_
      refine jj_iconst hk (pc := 65) (v := (1 : Int32)) dX0_payments_65 (by decide) ?_
      refine jj_iload hk (pc := 66) dX0_payments_66 5 rfl ?_
      refine jj_ishl hk (pc := 68) dX0_payments_68 ?_
      refine jj_iand hk (pc := 69) dX0_payments_69 ?_
      refine jj_if_ne hk (pc := 70) 76 dX0_payments_70 (by decide) ?_ ?_
      · refine jj_iload_n hk (pc := 76) dX0_payments_76 3 rfl rfl ?_
        refine jj_aload_n hk (pc := 77) dX0_payments_77 0 rfl rfl ?_
        refine jj_iload hk (pc := 78) dX0_payments_78 5 rfl ?_
        refine kc_X0_0_netOf hk hH hK (pc := 80) (a0 := x5) (fun r h => cc_f0_netOf l hH d N σ x5 r h) dX0_payments_80 ⟨Nat.le_of_ble_eq_true rfl, Nat.le_of_ble_eq_true rfl⟩ (Nat.le_of_ble_eq_true rfl) (fun r4 => ?_)
        refine jj_iadd hk (pc := 83) dX0_payments_83 ?_
        refine jj_istore_n hk (pc := 84) [(3, .int (x3 + r4)), (0, .ref (ha G 0)), (1, .int x1), (2, .int x2), (4, .int x4), (5, .int x5)] dX0_payments_84 rfl (Nat.le_of_ble_eq_true rfl) rfl ?_
        refine jj_iload hk (pc := 85) dX0_payments_85 4 rfl ?_
        refine jj_aload_n hk (pc := 87) dX0_payments_87 1 rfl rfl ?_
        refine jc_g_parts hk hH hK (pc := 88) dX0_payments_88 ?_
        refine jj_iload_n hk (pc := 91) dX0_payments_91 3 rfl rfl ?_
        refine jj_iconst hk (pc := 92) (v := (1 : Int32)) dX0_payments_92 (by decide) ?_
        refine jj_iload hk (pc := 93) dX0_payments_93 5 rfl ?_
        refine jj_ishl hk (pc := 95) dX0_payments_95 ?_
        refine jj_iconst hk (pc := 96) (v := (-1 : Int32)) dX0_payments_96 (by decide) ?_
        refine jj_ixor hk (pc := 97) dX0_payments_97 ?_
        refine jj_iand hk (pc := 98) dX0_payments_98 ?_
        refine jc_ld (j := 41) hk hH hK (pc := 99) (by decide) dX0_payments_99 (fun v5 => ?_)
        refine jc_max hk hH hK (pc := 100) q1010 dX0_payments_100 ⟨Nat.le_of_ble_eq_true rfl, Nat.le_of_ble_eq_true rfl⟩ (Nat.le_of_ble_eq_true rfl) ?_
        refine jj_istore hk (pc := 103) [(4, .int (if x4 < v5 then v5 else x4)), (3, .int (x3 + r4)), (0, .ref (ha G 0)), (1, .int x1), (2, .int x2), (5, .int x5)] dX0_payments_103 (Nat.le_of_ble_eq_true rfl) rfl ?_
        refine jj_iinc hk (pc := 105) [(5, .int (x5 + 1)), (4, .int (if x4 < v5 then v5 else x4)), (3, .int (x3 + r4)), (0, .ref (ha G 0)), (1, .int x1), (2, .int x2)] dX0_payments_105 5 rfl rfl (Nat.le_of_ble_eq_true rfl) rfl ?_
        refine jj_goto hk (pc := 108) 55 dX0_payments_108 (by decide) ?_
        refine jj_loc [(0, .ref (ha G 0)), (1, .int x1), (2, .int x2), (3, .int (x3 + r4)), (4, .int (if x4 < v5 then v5 else x4)), (5, .int (x5 + 1))] [3, 4, 5, 2, 1, 0] rfl ?_
        exact ih σ x1 x2 (x3 + r4) (if x4 < v5 then v5 else x4) (x5 + 1)
      · refine jj_goto hk (pc := 73) 105 dX0_payments_73 (by decide) ?_
        refine jj_iinc hk (pc := 105) [(5, .int (x5 + 1)), (0, .ref (ha G 0)), (1, .int x1), (2, .int x2), (3, .int x3), (4, .int x4)] dX0_payments_105 5 rfl rfl (Nat.le_of_ble_eq_true rfl) rfl ?_
        refine jj_goto hk (pc := 108) 55 dX0_payments_108 (by decide) ?_
        refine jj_loc [(0, .ref (ha G 0)), (1, .int x1), (2, .int x2), (3, .int x3), (4, .int x4), (5, .int (x5 + 1))] [1, 2, 3, 4, 5, 0] rfl ?_
        exact ih σ x1 x2 x3 x4 (x5 + 1)
set_option maxHeartbeats 4000000 in
theorem wb_f0_payments_L41 {res : (Int32 × SS)} (hk : jk p R s m args meth c d.2 cX0_payments 6 RX0 2 63 (some .int)) (hH : cH G KK) (hK : KK s) (N : Nat) : ∀ (n : Nat) (σ : SS) (x1 : Int32) (x2 : Int32), jj p l e R s m args below meth c (hA G) d.2 (jZ below args s (hA G) d.2 (jU res) (cWo G d) (cnx d)) (cWo G d) (cnx d) 6 σ 41 [(0, .ref (ha G 0)), (1, .int x1), (2, .int x2)] [] (f0_payments_L41 N n σ x1 x2 = some res) := by
  intro n
  induction n with
  | zero => intro σ x1 x2; exact jj_eq (fun hz => by rw [f0_payments_L41] at hz; exact hz) jj_no
  | succ n ih =>
    intro σ x1 x2
    rw [f0_payments_L41]
    refine jj_iload_n hk (pc := 41) dX0_payments_41 2 rfl rfl ?_
    refine jj_bipush hk (pc := 42) (v := (63 : Int32)) dX0_payments_42 (by decide) ?_
    refine jj_icmp_gt hk (pc := 44) 141 dX0_payments_44 (by decide) ?_ ?_
    · refine jj_iload_n hk (pc := 141) dX0_payments_141 1 rfl rfl ?_
      refine kc_X0_J8_bitCount hk hH hK (pc := 142) (a0 := x1) (fun r h => cc_fJ8_bitCount l hH d σ x1 r h) dX0_payments_142 ⟨Nat.le_of_ble_eq_true rfl, Nat.le_of_ble_eq_true rfl⟩ (Nat.le_of_ble_eq_true rfl) (fun r1 => ?_)
      refine jj_aload_n hk (pc := 145) dX0_payments_145 0 rfl rfl ?_
      refine jc_g_parts hk hH hK (pc := 146) dX0_payments_146 ?_
      refine jj_iload_n hk (pc := 149) dX0_payments_149 1 rfl rfl ?_
      refine jc_ld (j := 41) hk hH hK (pc := 150) (by decide) dX0_payments_150 (fun v2 => ?_)
      refine jj_isub hk (pc := 151) dX0_payments_151 ?_
      exact jc_retUi hk (pc := 152) dX0_payments_152
    · refine jj_iconst hk (pc := 47) (v := (0 : Int32)) dX0_payments_47 (by decide) ?_
      refine jj_istore_n hk (pc := 48) [(3, .int (0 : Int32)), (0, .ref (ha G 0)), (1, .int x1), (2, .int x2)] dX0_payments_48 rfl (Nat.le_of_ble_eq_true rfl) rfl ?_
      refine jj_iconst hk (pc := 49) (v := (0 : Int32)) dX0_payments_49 (by decide) ?_
      refine jj_istore hk (pc := 50) [(4, .int (0 : Int32)), (3, .int (0 : Int32)), (0, .ref (ha G 0)), (1, .int x1), (2, .int x2)] dX0_payments_50 (Nat.le_of_ble_eq_true rfl) rfl ?_
      refine jj_iconst hk (pc := 52) (v := (0 : Int32)) dX0_payments_52 (by decide) ?_
      refine jj_istore hk (pc := 53) [(5, .int (0 : Int32)), (4, .int (0 : Int32)), (3, .int (0 : Int32)), (0, .ref (ha G 0)), (1, .int x1), (2, .int x2)] dX0_payments_53 (Nat.le_of_ble_eq_true rfl) rfl ?_
      refine jj_loc [(0, .ref (ha G 0)), (1, .int x1), (2, .int x2), (3, .int (0 : Int32)), (4, .int (0 : Int32)), (5, .int (0 : Int32))] [3, 4, 5, 2, 1, 0] rfl ?_
      exact wb_f0_payments_L55 hk hH hK N ih N σ x1 x2 (0 : Int32) (0 : Int32) (0 : Int32)
set_option maxHeartbeats 4000000 in
theorem wb_f0_payments_L4 {res : (Int32 × SS)} (hk : jk p R s m args meth c d.2 cX0_payments 6 RX0 2 63 (some .int)) (hH : cH G KK) (hK : KK s) (N : Nat) : ∀ (n : Nat) (σ : SS) (x1 : Int32) (x2 : Int32), jj p l e R s m args below meth c (hA G) d.2 (jZ below args s (hA G) d.2 (jU res) (cWo G d) (cnx d)) (cWo G d) (cnx d) 6 σ 4 [(0, .ref (ha G 0)), (1, .int x1), (2, .int x2)] [] (f0_payments_L4 N n σ x1 x2 = some res) := by
  intro n
  induction n with
  | zero => intro σ x1 x2; exact jj_eq (fun hz => by rw [f0_payments_L4] at hz; exact hz) jj_no
  | succ n ih =>
    intro σ x1 x2
    rw [f0_payments_L4]
    refine jj_iload_n hk (pc := 4) dX0_payments_4 2 rfl rfl ?_
    refine jj_aload_n hk (pc := 5) dX0_payments_5 0 rfl rfl ?_
    refine jc_g_now hk hH hK (pc := 6) dX0_payments_6 ?_
    refine jc_t_people hk hH hK (pc := 9) dX0_payments_9 ?_
    refine jj_icmp_ge hk (pc := 12) 39 dX0_payments_12 (by decide) ?_ ?_
    · refine jj_iconst hk (pc := 39) (v := (1 : Int32)) dX0_payments_39 (by decide) ?_
      refine jj_istore_n hk (pc := 40) [(2, .int (1 : Int32)), (0, .ref (ha G 0)), (1, .int x1)] dX0_payments_40 rfl (Nat.le_of_ble_eq_true rfl) rfl ?_
      refine jj_loc [(0, .ref (ha G 0)), (1, .int x1), (2, .int (1 : Int32))] [1, 2, 0] rfl ?_
      exact wb_f0_payments_L41 hk hH hK N N σ x1 (1 : Int32)
    · refine jj_iload_n hk (pc := 15) dX0_payments_15 1 rfl rfl ?_
      refine jj_aload_n hk (pc := 16) dX0_payments_16 0 rfl rfl ?_
      refine jj_iload_n hk (pc := 17) dX0_payments_17 2 rfl rfl ?_
      refine kc_X0_0_netOf hk hH hK (pc := 18) (a0 := x2) (fun r h => cc_f0_netOf l hH d N σ x2 r h) dX0_payments_18 ⟨Nat.le_of_ble_eq_true rfl, Nat.le_of_ble_eq_true rfl⟩ (Nat.le_of_ble_eq_true rfl) (fun r1 => ?_)
      refine jj_if_eq hk (pc := 21) 30 dX0_payments_21 (by decide) ?_ ?_
      · refine jj_iconst hk (pc := 30) (v := (0 : Int32)) dX0_payments_30 (by decide) ?_
        refine jj_ior hk (pc := 31) dX0_payments_31 ?_
        refine jj_istore_n hk (pc := 32) [(1, .int (x1 ||| (0 : Int32))), (0, .ref (ha G 0)), (2, .int x2)] dX0_payments_32 rfl (Nat.le_of_ble_eq_true rfl) rfl ?_
        refine jj_iinc hk (pc := 33) [(2, .int (x2 + 1)), (1, .int (x1 ||| (0 : Int32))), (0, .ref (ha G 0))] dX0_payments_33 2 rfl rfl (Nat.le_of_ble_eq_true rfl) rfl ?_
        refine jj_goto hk (pc := 36) 4 dX0_payments_36 (by decide) ?_
        refine jj_loc [(0, .ref (ha G 0)), (1, .int (x1 ||| (0 : Int32))), (2, .int (x2 + 1))] [2, 1, 0] rfl ?_
        exact ih σ (x1 ||| (0 : Int32)) (x2 + 1)
      · refine jj_iconst hk (pc := 24) (v := (1 : Int32)) dX0_payments_24 (by decide) ?_
        refine jj_iload_n hk (pc := 25) dX0_payments_25 2 rfl rfl ?_
        refine jj_ishl hk (pc := 26) dX0_payments_26 ?_
        refine jj_goto hk (pc := 27) 31 dX0_payments_27 (by decide) ?_
        refine jj_ior hk (pc := 31) dX0_payments_31 ?_
        refine jj_istore_n hk (pc := 32) [(1, .int (x1 ||| ((1 : Int32) <<< (x2 &&& 31)))), (0, .ref (ha G 0)), (2, .int x2)] dX0_payments_32 rfl (Nat.le_of_ble_eq_true rfl) rfl ?_
        refine jj_iinc hk (pc := 33) [(2, .int (x2 + 1)), (1, .int (x1 ||| ((1 : Int32) <<< (x2 &&& 31)))), (0, .ref (ha G 0))] dX0_payments_33 2 rfl rfl (Nat.le_of_ble_eq_true rfl) rfl ?_
        refine jj_goto hk (pc := 36) 4 dX0_payments_36 (by decide) ?_
        refine jj_loc [(0, .ref (ha G 0)), (1, .int (x1 ||| ((1 : Int32) <<< (x2 &&& 31)))), (2, .int (x2 + 1))] [2, 1, 0] rfl ?_
        exact ih σ (x1 ||| ((1 : Int32) <<< (x2 &&& 31))) (x2 + 1)
set_option maxHeartbeats 4000000 in
theorem cc_f0_payments (l : Launch) {G : cG} {KK : State → Prop} (hH : cH G KK) (d : DS) (N : Nat) (σ : SS)  (res : (Int32 × SS)) (hf : f0_payments N σ = some res) : jM l yX0_payments (ws_ yX0_payments cX0_payments 6 (some .int)) 2 63 [.ref (ha G 0)] (cWo G d) (cnx d) KK σ (jU res) (hA G) d.2 := by
  refine jj_start [(0, .ref (ha G 0))] (by decide) (Nat.le_of_ble_eq_true rfl) rfl (fun p e R s m args below meth c hk hK hsz => ?_) hf
  have hk : jk p R s m args meth c d.2 cX0_payments 6 RX0 2 63 (some .int) := hk
  unfold f0_payments
  refine jj_iconst hk (pc := 0) (v := (0 : Int32)) dX0_payments_0 (by decide) ?_
  refine jj_istore_n hk (pc := 1) [(1, .int (0 : Int32)), (0, .ref (ha G 0))] dX0_payments_1 rfl (Nat.le_of_ble_eq_true rfl) rfl ?_
  refine jj_iconst hk (pc := 2) (v := (0 : Int32)) dX0_payments_2 (by decide) ?_
  refine jj_istore_n hk (pc := 3) [(2, .int (0 : Int32)), (1, .int (0 : Int32)), (0, .ref (ha G 0))] dX0_payments_3 rfl (Nat.le_of_ble_eq_true rfl) rfl ?_
  refine jj_loc [(0, .ref (ha G 0)), (1, .int (0 : Int32)), (2, .int (0 : Int32))] [2, 1, 0] rfl ?_
  exact wb_f0_payments_L4 hk hH hK N N σ (0 : Int32) (0 : Int32)
end
