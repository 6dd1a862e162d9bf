/-! THE COMPONENT's METHODS, printed by gen/gen2.py out of the byte code -/
set_option maxRecDepth 100000
section
variable {p : Program} {l : Launch} {e : Env} {R : Room} {s : State} {m : MethodId} {args : Array Value} {below : List Frame} {meth : Method} {c : Code}
variable {G : cG} {d : DS} {KK : State → Prop}
set_option maxHeartbeats 4000000 in
theorem cc_f0_bars (l : Launch) {G : cG} {KK : State → Prop} (hH : cH G KK) (d : DS) (N : Nat) (σ : SS) (a0 : Int32) (a1 : Int32) (res : (Int32 × SS)) (hf : f0_bars N d σ a0 a1 = some res) : jM l yX0_bars (ws_ yX0_bars cX0_bars 4 (some .int)) 2912 72845 [.ref (ha G 0), .int a0, .int a1] (cWo G d) (cnx d) KK σ (jU res) (hA G) d.2 := by
  refine jj_start [(0, .ref (ha G 0)), (1, .int a0), (2, .int a1)] (by decide) (Nat.le_of_ble_eq_true rfl) rfl (fun p e R s m args below meth c hk hK hsz => ?_) hf
  have hk : jk p R s m args meth c d.2 cX0_bars 4 RX0 2912 72845 (some .int) := hk
  unfold f0_bars
  refine jj_aload_n hk (pc := 0) dX0_bars_0 0 rfl rfl ?_
  refine jj_iload_n hk (pc := 1) dX0_bars_1 1 rfl rfl ?_
  refine jj_iload_n hk (pc := 2) dX0_bars_2 2 rfl rfl ?_
  refine kc_X0_0_isAsked hk hH hK (pc := 3) (a0 := a0) (a1 := a1) (fun r h => cc_f0_isAsked l hH d σ a0 a1 r h) dX0_bars_3 ⟨Nat.le_of_ble_eq_true rfl, Nat.le_of_ble_eq_true rfl⟩ (Nat.le_of_ble_eq_true rfl) (fun r1 => ?_)
  refine jj_if_ne_b hk (pc := 6) 11 dX0_bars_6 (by decide) ?_ ?_
  · refine jj_aload_n hk (pc := 11) dX0_bars_11 0 rfl rfl ?_
    refine jj_iload_n hk (pc := 12) dX0_bars_12 1 rfl rfl ?_
    refine jj_iload_n hk (pc := 13) dX0_bars_13 2 rfl rfl ?_
    refine kc_X0_0_findLives hk hH hK (pc := 14) (a0 := a0) (a1 := a1) (fun r h => cc_f0_findLives l hH d N σ a0 a1 r h) dX0_bars_14 ⟨Nat.le_of_ble_eq_true rfl, Nat.le_of_ble_eq_true rfl⟩ (Nat.le_of_ble_eq_true rfl) (fun r2 => ?_)
    refine jj_iload_n hk (pc := 17) dX0_bars_17 2 rfl rfl ?_
    refine jj_aload_n hk (pc := 18) dX0_bars_18 0 rfl rfl ?_
    refine jc_g_stoodEver hk hH hK (pc := 19) dX0_bars_19 ?_
    refine jj_iconst hk (pc := 22) (v := (-1 : Int32)) dX0_bars_22 (by decide) ?_
    refine jj_ixor hk (pc := 23) dX0_bars_23 ?_
    refine jj_iand hk (pc := 24) dX0_bars_24 ?_
    refine jj_istore_n hk (pc := 25) [(3, .int (a1 &&& ((r2.1 54) ^^^ (-1 : Int32)))), (0, .ref (ha G 0)), (1, .int a0), (2, .int a1)] dX0_bars_25 rfl (Nat.le_of_ble_eq_true rfl) rfl ?_
    refine jj_iload_n hk (pc := 26) dX0_bars_26 0 rfl rfl ?_
    refine jj_if_ne hk (pc := 27) 35 dX0_bars_27 (by decide) ?_ ?_
    · refine jj_iload_n hk (pc := 35) dX0_bars_35 0 rfl rfl ?_
      refine kc_X0_J8_numberOfTrailingZeros hk hH hK (pc := 36) (a0 := (a1 &&& ((r2.1 54) ^^^ (-1 : Int32)))) (fun r h => cc_fJ8_numberOfTrailingZeros l hH d r2 (a1 &&& ((r2.1 54) ^^^ (-1 : Int32))) r h) dX0_bars_36 ⟨Nat.le_of_ble_eq_true rfl, Nat.le_of_ble_eq_true rfl⟩ (Nat.le_of_ble_eq_true rfl) (fun r3 => ?_)
      exact jc_retUi hk (pc := 39) dX0_bars_39
    · refine jj_bipush hk (pc := 30) (v := (-3 : Int32)) dX0_bars_30 (by decide) ?_
      refine jj_goto hk (pc := 32) 39 dX0_bars_32 (by decide) ?_
      exact jc_retUi hk (pc := 39) dX0_bars_39
  · refine jj_iconst hk (pc := 9) (v := (-1 : Int32)) dX0_bars_9 (by decide) ?_
    exact jc_retUi hk (pc := 10) dX0_bars_10
set_option maxHeartbeats 4000000 in
theorem cc_f0_many (l : Launch) {G : cG} {KK : State → Prop} (hH : cH G KK) (d : DS) (N : Nat) (σ : SS) (a0 : Int32) (res : Int32) (hf : f0_many N d σ a0 = some res) : jM l yX0_many (ws_ yX0_many cX0_many 2 (some .int)) 2 62 [.ref (ha G 0), .int a0] (cWo G d) (cnx d) KK σ (jR σ res) (hA G) d.2 := by
  refine jj_start [(0, .ref (ha G 0)), (1, .int a0)] (by decide) (Nat.le_of_ble_eq_true rfl) rfl (fun p e R s m args below meth c hk hK hsz => ?_) hf
  have hk : jk p R s m args meth c d.2 cX0_many 2 RX0 2 62 (some .int) := hk
  unfold f0_many
  refine jj_iload_n hk (pc := 0) dX0_many_0 1 rfl rfl ?_
  refine jj_ite (fun c_1_0 => ?_) (fun c_1_0 => ?_)
  · refine jj_tIn hk (pc := 1) (k := (0 : Int32)) (t := 0) 48 c_1_0 dX0_many_1 (by decide) rfl rfl (by decide) ?_
    refine jj_aload_n hk (pc := 48) dX0_many_48 0 rfl rfl ?_
    refine jc_g_now hk hH hK (pc := 49) dX0_many_49 ?_
    refine jc_t_people hk hH hK (pc := 52) dX0_many_52 ?_
    exact jc_retRi hk (pc := 55) dX0_many_55
  refine jj_ite (fun c_1_1 => ?_) (fun c_1_1 => ?_)
  · refine jj_tIn hk (pc := 1) (k := (1 : Int32)) (t := 1) 56 c_1_1 dX0_many_1 (by decide) rfl rfl (by decide) ?_
    refine jj_aload_n hk (pc := 56) dX0_many_56 0 rfl rfl ?_
    refine jc_g_now hk hH hK (pc := 57) dX0_many_57 ?_
    refine jc_t_rules hk hH hK (pc := 60) dX0_many_60 (fun q1 => ?_)
    refine jc_dlnR hk hH hK (pc := 63) dX0_many_63 (fun v2 => ?_)
    exact jc_retRi hk (pc := 64) dX0_many_64
  refine jj_ite (fun c_1_2 => ?_) (fun c_1_2 => ?_)
  · refine jj_tIn hk (pc := 1) (k := (2 : Int32)) (t := 2) 65 c_1_2 dX0_many_1 (by decide) rfl rfl (by decide) ?_
    refine jj_aload_n hk (pc := 65) dX0_many_65 0 rfl rfl ?_
    refine jc_g_now hk hH hK (pc := 66) dX0_many_66 ?_
    refine jc_t_deeds hk hH hK (pc := 69) dX0_many_69 ?_
    exact jc_retRi hk (pc := 72) dX0_many_72
  refine jj_ite (fun c_1_3 => ?_) (fun c_1_3 => ?_)
  · refine jj_tIn hk (pc := 1) (k := (3 : Int32)) (t := 3) 73 c_1_3 dX0_many_1 (by decide) rfl rfl (by decide) ?_
    refine jj_aload_n hk (pc := 73) dX0_many_73 0 rfl rfl ?_
    refine jc_g_now hk hH hK (pc := 74) dX0_many_74 ?_
    refine jc_t_reports hk hH hK (pc := 77) dX0_many_77 ?_
    exact jc_retRi hk (pc := 80) dX0_many_80
  refine jj_ite (fun c_1_4 => ?_) (fun c_1_4 => ?_)
  · refine jj_tIn hk (pc := 1) (k := (4 : Int32)) (t := 4) 81 c_1_4 dX0_many_1 (by decide) rfl rfl (by decide) ?_
    refine jj_aload_n hk (pc := 81) dX0_many_81 0 rfl rfl ?_
    refine jc_g_rowMany hk hH hK (pc := 82) dX0_many_82 ?_
    exact jc_retRi hk (pc := 85) dX0_many_85
  refine jj_ite (fun c_1_5 => ?_) (fun c_1_5 => ?_)
  · refine jj_tIn hk (pc := 1) (k := (5 : Int32)) (t := 5) 86 c_1_5 dX0_many_1 (by decide) rfl rfl (by decide) ?_
    refine jj_aload_n hk (pc := 86) dX0_many_86 0 rfl rfl ?_
    refine jc_g_tapeMany hk hH hK (pc := 87) dX0_many_87 ?_
    exact jc_retRi hk (pc := 90) dX0_many_90
  refine jj_ite (fun c_1_6 => ?_) (fun c_1_6 => ?_)
  · refine jj_tIn hk (pc := 1) (k := (6 : Int32)) (t := 6) 91 c_1_6 dX0_many_1 (by decide) rfl rfl (by decide) ?_
    refine jj_aload_n hk (pc := 91) dX0_many_91 0 rfl rfl ?_
    refine jc_g_trace hk hH hK (pc := 92) dX0_many_92 ?_
    refine jc_n_many hk hH hK (pc := 95) dX0_many_95 ?_
    exact jc_retRi hk (pc := 98) dX0_many_98
  refine jj_ite (fun c_1_7 => ?_) (fun c_1_7 => ?_)
  · refine jj_tIn hk (pc := 1) (k := (7 : Int32)) (t := 7) 99 c_1_7 dX0_many_1 (by decide) rfl rfl (by decide) ?_
    refine jj_aload_n hk (pc := 99) dX0_many_99 0 rfl rfl ?_
    refine kc_X0_0_loans hk hH hK (pc := 100)  (fun r h => cc_f0_loans l hH d N σ r h) dX0_many_100 ⟨Nat.le_of_ble_eq_true rfl, Nat.le_of_ble_eq_true rfl⟩ (Nat.le_of_ble_eq_true rfl) (fun r3 => ?_)
    exact jc_retRi hk (pc := 103) dX0_many_103
  refine jj_tOut hk (pc := 1) 104 dX0_many_1 ?_ (by decide) ?_
  · have q0 := lv_neT (a := 0) c_1_0 (by decide); have q1 := lv_neT (a := 1) c_1_1 (by decide); have q2 := lv_neT (a := 2) c_1_2 (by decide); have q3 := lv_neT (a := 3) c_1_3 (by decide); have q4 := lv_neT (a := 4) c_1_4 (by decide); have q5 := lv_neT (a := 5) c_1_5 (by decide); have q6 := lv_neT (a := 6) c_1_6 (by decide); have q7 := lv_neT (a := 7) c_1_7 (by decide); omega
  refine jj_iconst hk (pc := 104) (v := (-1 : Int32)) dX0_many_104 (by decide) ?_
  exact jc_retRi hk (pc := 105) dX0_many_105
set_option maxHeartbeats 4000000 in
theorem cc_f0_keep (l : Launch) {G : cG} {KK : State → Prop} (hH : cH G KK) (d : DS)  (σ : SS)  (res : (Int32 × SS)) (hf : f0_keep σ = some res) : jM l yX0_keep (ws_ yX0_keep cX0_keep 1 (some .int)) 2 61 [.ref (ha G 0)] (cWo G d) (cnx d) KK σ (jU res) (hA G) d.2 := by
  refine jj_start [(0, .ref (ha G 0))] (by decide) (Nat.le_of_ble_eq_true rfl) rfl (fun p e R s m args below meth c hk hK hsz => ?_) hf
  have hk : jk p R s m args meth c d.2 cX0_keep 1 RX0 2 61 (some .int) := hk
  unfold f0_keep
  refine jj_aload_n hk (pc := 0) dX0_keep_0 0 rfl rfl ?_
  refine jc_g_kept hk hH hK (pc := 1) dX0_keep_1 ?_
  refine jj_aload_n hk (pc := 4) dX0_keep_4 0 rfl rfl ?_
  refine jc_g_now hk hH hK (pc := 5) dX0_keep_5 ?_
  refine kc_X0_3_become hk hH hK (pc := 8) (t0 := 1) (t1 := 0) (fun r h => cc_f3_become l hH d σ 1 0 (by decide) (by decide) r h) (by decide) (by decide) dX0_keep_8 ⟨Nat.le_of_ble_eq_true rfl, Nat.le_of_ble_eq_true rfl⟩ (Nat.le_of_ble_eq_true rfl) (fun r1 => ?_)
  refine jj_aload_n hk (pc := 11) dX0_keep_11 0 rfl rfl ?_
  refine jj_iconst hk (pc := 12) (v := (1 : Int32)) dX0_keep_12 (by decide) ?_
  refine jc_p_isKept hk hH hK (pc := 13) (b := true) dX0_keep_13 (fun σ2 => ?_)
  refine jj_iconst hk (pc := 16) (v := (1 : Int32)) dX0_keep_16 (by decide) ?_
  exact jc_retUi hk (pc := 17) dX0_keep_17
set_option maxHeartbeats 4000000 in
theorem wb_f0_feed_L30 {res : (Int32 × SS)} (hk : jk p R s m args meth c d.2 cX0_feed 5 RX0 2 62 (some .int)) (hH : cH G KK) (hK : KK s) (N : Nat) : ∀ (n : Nat) (σ : SS) (x1 : Int64) (x3 : Int32) (x4 : Int32), jj p l e R s m args below meth c (hA G) d.2 (jZ below args s (hA G) d.2 (jU res) (cWo G d) (cnx d)) (cWo G d) (cnx d) 5 σ 30 [(0, .ref (ha G 0)), (1, .long x1), (3, .int x3), (4, .int x4)] [] (f0_feed_L30 N n σ x1 x3 x4 = some res) := by
  intro n
  induction n with
  | zero => intro σ x1 x3 x4; exact jj_eq (fun hz => by rw [f0_feed_L30] at hz; exact hz) jj_no
  | succ n ih =>
    intro σ x1 x3 x4
    rw [f0_feed_L30]
    refine jj_iload hk (pc := 30) dX0_feed_30 3 rfl ?_
    refine jj_iload_n hk (pc := 32) dX0_feed_32 2 rfl rfl ?_
    refine jj_icmp_ge hk (pc := 33) 63 dX0_feed_33 (by decide) ?_ ?_
    · refine jj_aload_n hk (pc := 63) dX0_feed_63 0 rfl rfl ?_
      refine jj_dup hk (pc := 64) dX0_feed_64 rfl ?_
      refine jc_g_tapeMany hk hH hK (pc := 65) dX0_feed_65 ?_
      refine jj_iload_n hk (pc := 68) dX0_feed_68 2 rfl rfl ?_
      refine jj_iadd hk (pc := 69) dX0_feed_69 ?_
      refine jc_p_tapeMany hk hH hK (pc := 70) dX0_feed_70 (fun σ1 => ?_)
      refine jj_aload_n hk (pc := 73) dX0_feed_73 0 rfl rfl ?_
      refine jc_g_tapeMany hk hH hK (pc := 74) dX0_feed_74 ?_
      exact jc_retUi hk (pc := 77) dX0_feed_77
    · refine jj_aload_n hk (pc := 36) dX0_feed_36 0 rfl rfl ?_
      refine jc_g_tape hk hH hK (pc := 37) dX0_feed_37 ?_
      refine jj_aload_n hk (pc := 40) dX0_feed_40 0 rfl rfl ?_
      refine jc_g_tapeMany hk hH hK (pc := 41) dX0_feed_41 ?_
      refine jj_iload hk (pc := 44) dX0_feed_44 3 rfl ?_
      refine jj_iadd hk (pc := 46) dX0_feed_46 ?_
      refine jj_lload_n hk (pc := 47) dX0_feed_47 1 rfl rfl ?_
      refine jj_bipush hk (pc := 48) (v := (8 : Int32)) dX0_feed_48 (by decide) ?_
      refine jj_iload hk (pc := 50) dX0_feed_50 3 rfl ?_
      refine jj_imul hk (pc := 52) dX0_feed_52 ?_
      refine jj_lshr hk (pc := 53) dX0_feed_53 ?_
      refine jj_l2i hk (pc := 54) dX0_feed_54 ?_
      refine jj_i2b hk (pc := 55) dX0_feed_55 ?_
      refine jc_bst hk hH hK (pc := 56) dX0_feed_56 (fun σ2 => ?_)
      refine jj_iinc hk (pc := 57) [(4, .int (x4 + 1)), (0, .ref (ha G 0)), (1, .long x1), (3, .int x3)] dX0_feed_57 3 rfl rfl (Nat.le_of_ble_eq_true rfl) rfl ?_
      refine jj_goto hk (pc := 60) 30 dX0_feed_60 (by decide) ?_
      refine jj_loc [(0, .ref (ha G 0)), (1, .long x1), (3, .int x3), (4, .int (x4 + 1))] [1, 2, 3, 0] rfl ?_
      exact ih σ2 x1 x3 (x4 + 1)
set_option maxHeartbeats 4000000 in
theorem cc_f0_feed (l : Launch) {G : cG} {KK : State → Prop} (hH : cH G KK) (d : DS) (N : Nat) (σ : SS) (a0 : Int64) (a1 : Int32) (res : (Int32 × SS)) (hf : f0_feed N σ a0 a1 = some res) : jM l yX0_feed (ws_ yX0_feed cX0_feed 5 (some .int)) 2 62 [.ref (ha G 0), .long a0, .int a1] (cWo G d) (cnx d) KK σ (jU res) (hA G) d.2 := by
  refine jj_start [(0, .ref (ha G 0)), (1, .long a0), (3, .int a1)] (by decide) (Nat.le_of_ble_eq_true rfl) rfl (fun p e R s m args below meth c hk hK hsz => ?_) hf
  have hk : jk p R s m args meth c d.2 cX0_feed 5 RX0 2 62 (some .int) := hk
  unfold f0_feed
  refine jj_iload_n hk (pc := 0) dX0_feed_0 2 rfl rfl ?_
  refine jj_iconst hk (pc := 1) (v := (1 : Int32)) dX0_feed_1 (by decide) ?_
  refine jj_bipush hk (pc := 2) (v := (8 : Int32)) dX0_feed_2 (by decide) ?_
  refine kc_X0_0_isIn hk hH hK (pc := 4) (a0 := a1) (a1 := (1 : Int32)) (a2 := (8 : Int32)) (fun r h => cc_f0_isIn l hH d σ a1 (1 : Int32) (8 : Int32) r h) dX0_feed_4 ⟨Nat.le_of_ble_eq_true rfl, Nat.le_of_ble_eq_true rfl⟩ (Nat.le_of_ble_eq_true rfl) (fun r1 => ?_)
  refine jj_if_ne_b hk (pc := 7) 12 dX0_feed_7 (by decide) ?_ ?_
  · refine jj_aload_n hk (pc := 12) dX0_feed_12 0 rfl rfl ?_
    refine jc_g_tapeMany hk hH hK (pc := 13) dX0_feed_13 ?_
    refine jj_iload_n hk (pc := 16) dX0_feed_16 2 rfl rfl ?_
    refine jj_iadd hk (pc := 17) dX0_feed_17 ?_
    refine jj_sipush hk (pc := 18) (v := (200 : Int32)) dX0_feed_18 (by decide) ?_
    refine jj_icmp_le hk (pc := 21) 27 dX0_feed_21 (by decide) ?_ ?_
    · refine jj_iconst hk (pc := 27) (v := (0 : Int32)) dX0_feed_27 (by decide) ?_
      refine jj_istore hk (pc := 28) [(4, .int (0 : Int32)), (0, .ref (ha G 0)), (1, .long a0), (3, .int a1)] dX0_feed_28 (Nat.le_of_ble_eq_true rfl) rfl ?_
      refine jj_loc [(0, .ref (ha G 0)), (1, .long a0), (3, .int a1), (4, .int (0 : Int32))] [1, 2, 3, 0] rfl ?_
      exact wb_f0_feed_L30 hk hH hK N N σ a0 a1 (0 : Int32)
    · refine jj_bipush hk (pc := 24) (v := (-2 : Int32)) dX0_feed_24 (by decide) ?_
      exact jc_retUi hk (pc := 26) dX0_feed_26
  · refine jj_iconst hk (pc := 10) (v := (-1 : Int32)) dX0_feed_10 (by decide) ?_
    exact jc_retUi hk (pc := 11) dX0_feed_11
set_option maxHeartbeats 4000000 in
theorem cc_f0_isDigit (l : Launch) {G : cG} {KK : State → Prop} (hH : cH G KK) (d : DS)  (σ : SS) (a0 : Int32) (res : Bool) (hf : f0_isDigit a0 = some res) : jM l yX0_isDigit (ws_ yX0_isDigit cX0_isDigit 1 (some .boolean)) 1 40 [.int a0] (cWo G d) (cnx d) KK σ (jRz σ res) (hA G) d.2 := by
  refine jj_start [(0, .int a0)] (by decide) (Nat.le_of_ble_eq_true rfl) rfl (fun p e R s m args below meth c hk hK hsz => ?_) hf
  have hk : jk p R s m args meth c d.2 cX0_isDigit 1 RX0 1 40 (some .boolean) := hk
  unfold f0_isDigit
  refine jj_iload_n hk (pc := 0) dX0_isDigit_0 0 rfl rfl ?_
  refine jj_bipush hk (pc := 1) (v := (48 : Int32)) dX0_isDigit_1 (by decide) ?_
  refine jj_icmp_lt hk (pc := 3) 16 dX0_isDigit_3 (by decide) ?_ ?_
  · refine jj_iconst hk (pc := 16) (v := (0 : Int32)) dX0_isDigit_16 (by decide) ?_
    exact jc_retRz hk (pc := 17) (b := false) dX0_isDigit_17
  · refine jj_iload_n hk (pc := 6) dX0_isDigit_6 0 rfl rfl ?_
    refine jj_bipush hk (pc := 7) (v := (57 : Int32)) dX0_isDigit_7 (by decide) ?_
    refine jj_icmp_gt hk (pc := 9) 16 dX0_isDigit_9 (by decide) ?_ ?_
    · refine jj_iconst hk (pc := 16) (v := (0 : Int32)) dX0_isDigit_16 (by decide) ?_
      exact jc_retRz hk (pc := 17) (b := false) dX0_isDigit_17
    · refine jj_iconst hk (pc := 12) (v := (1 : Int32)) dX0_isDigit_12 (by decide) ?_
      refine jj_goto hk (pc := 13) 17 dX0_isDigit_13 (by decide) ?_
      exact jc_retRz hk (pc := 17) (b := true) dX0_isDigit_17
set_option maxHeartbeats 4000000 in
theorem cc_f0_isLetter (l : Launch) {G : cG} {KK : State → Prop} (hH : cH G KK) (d : DS)  (σ : SS) (a0 : Int32) (res : Bool) (hf : f0_isLetter a0 = some res) : jM l yX0_isLetter (ws_ yX0_isLetter cX0_isLetter 1 (some .boolean)) 1 40 [.int a0] (cWo G d) (cnx d) KK σ (jRz σ res) (hA G) d.2 := by
  refine jj_start [(0, .int a0)] (by decide) (Nat.le_of_ble_eq_true rfl) rfl (fun p e R s m args below meth c hk hK hsz => ?_) hf
  have hk : jk p R s m args meth c d.2 cX0_isLetter 1 RX0 1 40 (some .boolean) := hk
  unfold f0_isLetter
  refine jj_iload_n hk (pc := 0) dX0_isLetter_0 0 rfl rfl ?_
  refine jj_bipush hk (pc := 1) (v := (97 : Int32)) dX0_isLetter_1 (by decide) ?_
  refine jj_icmp_lt hk (pc := 3) 16 dX0_isLetter_3 (by decide) ?_ ?_
  · refine jj_iconst hk (pc := 16) (v := (0 : Int32)) dX0_isLetter_16 (by decide) ?_
    exact jc_retRz hk (pc := 17) (b := false) dX0_isLetter_17
  · refine jj_iload_n hk (pc := 6) dX0_isLetter_6 0 rfl rfl ?_
    refine jj_bipush hk (pc := 7) (v := (122 : Int32)) dX0_isLetter_7 (by decide) ?_
    refine jj_icmp_gt hk (pc := 9) 16 dX0_isLetter_9 (by decide) ?_ ?_
    · refine jj_iconst hk (pc := 16) (v := (0 : Int32)) dX0_isLetter_16 (by decide) ?_
      exact jc_retRz hk (pc := 17) (b := false) dX0_isLetter_17
    · refine jj_iconst hk (pc := 12) (v := (1 : Int32)) dX0_isLetter_12 (by decide) ?_
      refine jj_goto hk (pc := 13) 17 dX0_isLetter_13 (by decide) ?_
      exact jc_retRz hk (pc := 17) (b := true) dX0_isLetter_17
set_option maxHeartbeats 4000000 in
theorem wb_f0_next_L98 {res : SS} (hk : jk p R s m args meth c d.2 cX0_next 4 RX0 2 60 none) (hH : cH G KK) (hK : KK s) (N : Nat) : ∀ (n : Nat) (σ : SS) (x1 : Int32) (x2 : Bool) (x3 : Bool), jj p l e R s m args below meth c (hA G) d.2 (jZ below args s (hA G) d.2 (jV res) (cWo G d) (cnx d)) (cWo G d) (cnx d) 4 σ 98 [(0, .ref (ha G 0)), (1, .int x1), (2, .int (bI x2)), (3, .int (bI x3))] [] (f0_next_L98 N n σ x1 x2 x3 = some res) := by
  intro n
  induction n with
  | zero => intro σ x1 x2 x3; exact jj_eq (fun hz => by rw [f0_next_L98] at hz; exact hz) jj_no
  | succ n ih =>
    intro σ x1 x2 x3
    rw [f0_next_L98]
    refine jj_iload_n hk (pc := 98) dX0_next_98 1 rfl rfl ?_
    refine jj_aload_n hk (pc := 99) dX0_next_99 0 rfl rfl ?_
    refine jc_g_tapeMany hk hH hK (pc := 100) dX0_next_100 ?_
    refine jj_icmp_ge hk (pc := 103) 144 dX0_next_103 (by decide) ?_ ?_
    · refine jj_aload_n hk (pc := 144) dX0_next_144 0 rfl rfl ?_
      refine jj_iload_n hk (pc := 145) dX0_next_145 1 rfl rfl ?_
      refine jc_p_end hk hH hK (pc := 146) dX0_next_146 (fun σ1 => ?_)
      exact jc_retV hk (pc := 149) dX0_next_149
    · refine jj_iload_n hk (pc := 106) dX0_next_106 2 rfl rfl ?_
      refine jj_if_eq_b hk (pc := 107) 122 dX0_next_107 (by decide) ?_ ?_
      · refine jj_iload_n hk (pc := 122) dX0_next_122 3 rfl rfl ?_
        refine jj_if_eq_b hk (pc := 123) 144 dX0_next_123 (by decide) ?_ ?_
        · refine jj_aload_n hk (pc := 144) dX0_next_144 0 rfl rfl ?_
          refine jj_iload_n hk (pc := 145) dX0_next_145 1 rfl rfl ?_
          refine jc_p_end hk hH hK (pc := 146) dX0_next_146 (fun σ2 => ?_)
          exact jc_retV hk (pc := 149) dX0_next_149
        · refine jj_aload_n hk (pc := 126) dX0_next_126 0 rfl rfl ?_
          refine jc_g_tape hk hH hK (pc := 127) dX0_next_127 ?_
          refine jj_iload_n hk (pc := 130) dX0_next_130 1 rfl rfl ?_
          refine jc_bld hk hH hK (pc := 131) dX0_next_131 (fun v3 => ?_)
          refine kc_X0_0_isDigit hk hH hK (pc := 132) (a0 := v3) (fun r h => cc_f0_isDigit l hH d σ v3 r h) dX0_next_132 ⟨Nat.le_of_ble_eq_true rfl, Nat.le_of_ble_eq_true rfl⟩ (Nat.le_of_ble_eq_true rfl) (fun r4 => ?_)
          refine jj_if_eq_b hk (pc := 135) 144 dX0_next_135 (by decide) ?_ ?_
          · refine jj_aload_n hk (pc := 144) dX0_next_144 0 rfl rfl ?_
            refine jj_iload_n hk (pc := 145) dX0_next_145 1 rfl rfl ?_
            refine jc_p_end hk hH hK (pc := 146) dX0_next_146 (fun σ5 => ?_)
            exact jc_retV hk (pc := 149) dX0_next_149
          · refine jj_iinc hk (pc := 138) [(1, .int (x1 + 1)), (0, .ref (ha G 0)), (2, .int (bI x2)), (3, .int (bI x3))] dX0_next_138 1 rfl rfl (Nat.le_of_ble_eq_true rfl) rfl ?_
            refine jj_goto hk (pc := 141) 98 dX0_next_141 (by decide) ?_
            refine jj_loc [(0, .ref (ha G 0)), (1, .int (x1 + 1)), (2, .int (bI x2)), (3, .int (bI x3))] [1, 0, 2, 3] rfl ?_
            exact ih σ (x1 + 1) x2 x3
      · refine jj_aload_n hk (pc := 110) dX0_next_110 0 rfl rfl ?_
        refine jc_g_tape hk hH hK (pc := 111) dX0_next_111 ?_
        refine jj_iload_n hk (pc := 114) dX0_next_114 1 rfl rfl ?_
        refine jc_bld hk hH hK (pc := 115) dX0_next_115 (fun v6 => ?_)
        refine kc_X0_0_isLetter hk hH hK (pc := 116) (a0 := v6) (fun r h => cc_f0_isLetter l hH d σ v6 r h) dX0_next_116 ⟨Nat.le_of_ble_eq_true rfl, Nat.le_of_ble_eq_true rfl⟩ (Nat.le_of_ble_eq_true rfl) (fun r7 => ?_)
        refine jj_if_ne_b hk (pc := 119) 138 dX0_next_119 (by decide) ?_ ?_
        · refine jj_iinc hk (pc := 138) [(1, .int (x1 + 1)), (0, .ref (ha G 0)), (2, .int (bI x2)), (3, .int (bI x3))] dX0_next_138 1 rfl rfl (Nat.le_of_ble_eq_true rfl) rfl ?_
          refine jj_goto hk (pc := 141) 98 dX0_next_141 (by decide) ?_
          refine jj_loc [(0, .ref (ha G 0)), (1, .int (x1 + 1)), (2, .int (bI x2)), (3, .int (bI x3))] [1, 0, 2, 3] rfl ?_
          exact ih σ (x1 + 1) x2 x3
        · refine jj_iload_n hk (pc := 122) dX0_next_122 3 rfl rfl ?_
          refine jj_if_eq_b hk (pc := 123) 144 dX0_next_123 (by decide) ?_ ?_
          · refine jj_aload_n hk (pc := 144) dX0_next_144 0 rfl rfl ?_
            refine jj_iload_n hk (pc := 145) dX0_next_145 1 rfl rfl ?_
            refine jc_p_end hk hH hK (pc := 146) dX0_next_146 (fun σ8 => ?_)
            exact jc_retV hk (pc := 149) dX0_next_149
          · refine jj_aload_n hk (pc := 126) dX0_next_126 0 rfl rfl ?_
            refine jc_g_tape hk hH hK (pc := 127) dX0_next_127 ?_
            refine jj_iload_n hk (pc := 130) dX0_next_130 1 rfl rfl ?_
            refine jc_bld hk hH hK (pc := 131) dX0_next_131 (fun v9 => ?_)
            refine kc_X0_0_isDigit hk hH hK (pc := 132) (a0 := v9) (fun r h => cc_f0_isDigit l hH d σ v9 r h) dX0_next_132 ⟨Nat.le_of_ble_eq_true rfl, Nat.le_of_ble_eq_true rfl⟩ (Nat.le_of_ble_eq_true rfl) (fun r10 => ?_)
            refine jj_if_eq_b hk (pc := 135) 144 dX0_next_135 (by decide) ?_ ?_
            · refine jj_aload_n hk (pc := 144) dX0_next_144 0 rfl rfl ?_
              refine jj_iload_n hk (pc := 145) dX0_next_145 1 rfl rfl ?_
              refine jc_p_end hk hH hK (pc := 146) dX0_next_146 (fun σ11 => ?_)
              exact jc_retV hk (pc := 149) dX0_next_149
            · refine jj_iinc hk (pc := 138) [(1, .int (x1 + 1)), (0, .ref (ha G 0)), (2, .int (bI x2)), (3, .int (bI x3))] dX0_next_138 1 rfl rfl (Nat.le_of_ble_eq_true rfl) rfl ?_
              refine jj_goto hk (pc := 141) 98 dX0_next_141 (by decide) ?_
              refine jj_loc [(0, .ref (ha G 0)), (1, .int (x1 + 1)), (2, .int (bI x2)), (3, .int (bI x3))] [1, 0, 2, 3] rfl ?_
              exact ih σ (x1 + 1) x2 x3
set_option maxHeartbeats 4000000 in
theorem wb_f0_next_B60 {res : SS} (hk : jk p R s m args meth c d.2 cX0_next 4 RX0 2 60 none) (hH : cH G KK) (hK : KK s) (N : Nat) (σ : SS) (x1 : Int32) (y0 : Bool) : jj p l e R s m args below meth c (hA G) d.2 (jZ below args s (hA G) d.2 (jV res) (cWo G d) (cnx d)) (cWo G d) (cnx d) 4 σ 60 [(0, .ref (ha G 0)), (1, .int x1)] [.int (bI y0)] (f0_next_B60 N σ x1 y0 = some res) := by
  unfold f0_next_B60
  refine jj_istore_n hk (pc := 60) [(2, .int (bI y0)), (0, .ref (ha G 0)), (1, .int x1)] dX0_next_60 rfl (Nat.le_of_ble_eq_true rfl) rfl ?_
  refine jj_iload_n hk (pc := 61) dX0_next_61 2 rfl rfl ?_
  refine jj_aload_n hk (pc := 62) dX0_next_62 1 rfl rfl ?_
  refine jc_g_tapeMany hk hH hK (pc := 63) dX0_next_63 ?_
  refine jj_icmp_ge hk (pc := 66) 85 dX0_next_66 (by decide) ?_ ?_
  · refine jj_iconst hk (pc := 85) (v := (0 : Int32)) dX0_next_85 (by decide) ?_
    refine jj_istore_n hk (pc := 86) [(3, .int (0 : Int32)), (2, .int (bI y0)), (0, .ref (ha G 0)), (1, .int x1)] dX0_next_86 rfl (Nat.le_of_ble_eq_true rfl) rfl ?_
    refine jj_iload_n hk (pc := 87) dX0_next_87 3 rfl rfl ?_
    refine jj_aload_n hk (pc := 88) dX0_next_88 2 rfl rfl ?_
    refine jc_g_tapeMany hk hH hK (pc := 89) dX0_next_89 ?_
    refine jj_icmp_ge hk (pc := 92) 98 dX0_next_92 (by decide) ?_ ?_
    · refine jj_loc [(0, .ref (ha G 0)), (1, .int x1), (2, .int (bI y0)), (3, .int (bI false))] [2, 3, 1, 0] rfl ?_
      exact wb_f0_next_L98 hk hH hK N N σ x1 y0 false
    · refine jj_iinc hk (pc := 95) [(1, .int (x1 + 1)), (3, .int (0 : Int32)), (2, .int (bI y0)), (0, .ref (ha G 0))] dX0_next_95 3 rfl rfl (Nat.le_of_ble_eq_true rfl) rfl ?_
      refine jj_loc [(0, .ref (ha G 0)), (1, .int (x1 + 1)), (2, .int (bI y0)), (3, .int (bI false))] [3, 0, 2, 1] rfl ?_
      exact wb_f0_next_L98 hk hH hK N N σ (x1 + 1) y0 false
  · refine jj_aload_n hk (pc := 69) dX0_next_69 1 rfl rfl ?_
    refine jc_g_tape hk hH hK (pc := 70) dX0_next_70 ?_
    refine jj_iload_n hk (pc := 73) dX0_next_73 2 rfl rfl ?_
    refine jc_bld hk hH hK (pc := 74) dX0_next_74 (fun v1 => ?_)
    refine kc_X0_0_isDigit hk hH hK (pc := 75) (a0 := v1) (fun r h => cc_f0_isDigit l hH d σ v1 r h) dX0_next_75 ⟨Nat.le_of_ble_eq_true rfl, Nat.le_of_ble_eq_true rfl⟩ (Nat.le_of_ble_eq_true rfl) (fun r2 => ?_)
    refine jj_if_eq_b hk (pc := 78) 85 dX0_next_78 (by decide) ?_ ?_
    · refine jj_iconst hk (pc := 85) (v := (0 : Int32)) dX0_next_85 (by decide) ?_
      refine jj_istore_n hk (pc := 86) [(3, .int (0 : Int32)), (2, .int (bI y0)), (0, .ref (ha G 0)), (1, .int x1)] dX0_next_86 rfl (Nat.le_of_ble_eq_true rfl) rfl ?_
      refine jj_iload_n hk (pc := 87) dX0_next_87 3 rfl rfl ?_
      refine jj_aload_n hk (pc := 88) dX0_next_88 2 rfl rfl ?_
      refine jc_g_tapeMany hk hH hK (pc := 89) dX0_next_89 ?_
      refine jj_icmp_ge hk (pc := 92) 98 dX0_next_92 (by decide) ?_ ?_
      · refine jj_loc [(0, .ref (ha G 0)), (1, .int x1), (2, .int (bI y0)), (3, .int (bI false))] [2, 3, 1, 0] rfl ?_
        exact wb_f0_next_L98 hk hH hK N N σ x1 y0 false
      · refine jj_iinc hk (pc := 95) [(1, .int (x1 + 1)), (3, .int (0 : Int32)), (2, .int (bI y0)), (0, .ref (ha G 0))] dX0_next_95 3 rfl rfl (Nat.le_of_ble_eq_true rfl) rfl ?_
        refine jj_loc [(0, .ref (ha G 0)), (1, .int (x1 + 1)), (2, .int (bI y0)), (3, .int (bI false))] [3, 0, 2, 1] rfl ?_
        exact wb_f0_next_L98 hk hH hK N N σ (x1 + 1) y0 false
    · refine jj_iconst hk (pc := 81) (v := (1 : Int32)) dX0_next_81 (by decide) ?_
      refine jj_goto hk (pc := 82) 86 dX0_next_82 (by decide) ?_
      refine jj_istore_n hk (pc := 86) [(3, .int (1 : Int32)), (2, .int (bI y0)), (0, .ref (ha G 0)), (1, .int x1)] dX0_next_86 rfl (Nat.le_of_ble_eq_true rfl) rfl ?_
      refine jj_iload_n hk (pc := 87) dX0_next_87 3 rfl rfl ?_
      refine jj_aload_n hk (pc := 88) dX0_next_88 2 rfl rfl ?_
      refine jc_g_tapeMany hk hH hK (pc := 89) dX0_next_89 ?_
      refine jj_icmp_ge hk (pc := 92) 98 dX0_next_92 (by decide) ?_ ?_
      · refine jj_loc [(0, .ref (ha G 0)), (1, .int x1), (2, .int (bI y0)), (3, .int (bI true))] [2, 3, 1, 0] rfl ?_
        exact wb_f0_next_L98 hk hH hK N N σ x1 y0 true
      · refine jj_iinc hk (pc := 95) [(1, .int (x1 + 1)), (3, .int (1 : Int32)), (2, .int (bI y0)), (0, .ref (ha G 0))] dX0_next_95 3 rfl rfl (Nat.le_of_ble_eq_true rfl) rfl ?_
        refine jj_loc [(0, .ref (ha G 0)), (1, .int (x1 + 1)), (2, .int (bI y0)), (3, .int (bI true))] [3, 0, 2, 1] rfl ?_
        exact wb_f0_next_L98 hk hH hK N N σ (x1 + 1) y0 true
set_option maxHeartbeats 4000000 in
theorem wb_f0_next_L5 {res : SS} (hk : jk p R s m args meth c d.2 cX0_next 4 RX0 2 60 none) (hH : cH G KK) (hK : KK s) (N : Nat) : ∀ (n : Nat) (σ : SS) (x1 : Int32), jj p l e R s m args below meth c (hA G) d.2 (jZ below args s (hA G) d.2 (jV res) (cWo G d) (cnx d)) (cWo G d) (cnx d) 4 σ 5 [(0, .ref (ha G 0)), (1, .int x1)] [] (f0_next_L5 N n σ x1 = some res) := by
  intro n
  induction n with
  | zero => intro σ x1; exact jj_eq (fun hz => by rw [f0_next_L5] at hz; exact hz) jj_no
  | succ n ih =>
    intro σ x1
    rw [f0_next_L5]
    refine jj_iload_n hk (pc := 5) dX0_next_5 1 rfl rfl ?_
    refine jj_aload_n hk (pc := 6) dX0_next_6 0 rfl rfl ?_
    refine jc_g_tapeMany hk hH hK (pc := 7) dX0_next_7 ?_
    refine jj_icmp_ge hk (pc := 10) 30 dX0_next_10 (by decide) ?_ ?_
    · refine jj_aload_n hk (pc := 30) dX0_next_30 0 rfl rfl ?_
      refine jj_iload_n hk (pc := 31) dX0_next_31 1 rfl rfl ?_
      refine jc_p_at hk hH hK (pc := 32) dX0_next_32 (fun σ1 => ?_)
      refine jj_iload_n hk (pc := 35) dX0_next_35 1 rfl rfl ?_
      refine jj_aload_n hk (pc := 36) dX0_next_36 0 rfl rfl ?_
      refine jc_g_tapeMany hk hH hK (pc := 37) dX0_next_37 ?_
      refine jj_icmp_ge hk (pc := 40) 59 dX0_next_40 (by decide) ?_ ?_
      · refine jj_iconst hk (pc := 59) (v := (0 : Int32)) dX0_next_59 (by decide) ?_
        refine jj_loc [(0, .ref (ha G 0)), (1, .int x1)] [0, 1] rfl ?_
        exact wb_f0_next_B60 hk hH hK N σ1 x1 false
      · refine jj_aload_n hk (pc := 43) dX0_next_43 0 rfl rfl ?_
        refine jc_g_tape hk hH hK (pc := 44) dX0_next_44 ?_
        refine jj_iload_n hk (pc := 47) dX0_next_47 1 rfl rfl ?_
        refine jc_bld hk hH hK (pc := 48) dX0_next_48 (fun v2 => ?_)
        refine kc_X0_0_isLetter hk hH hK (pc := 49) (a0 := v2) (fun r h => cc_f0_isLetter l hH d σ1 v2 r h) dX0_next_49 ⟨Nat.le_of_ble_eq_true rfl, Nat.le_of_ble_eq_true rfl⟩ (Nat.le_of_ble_eq_true rfl) (fun r3 => ?_)
        refine jj_if_eq_b hk (pc := 52) 59 dX0_next_52 (by decide) ?_ ?_
        · refine jj_iconst hk (pc := 59) (v := (0 : Int32)) dX0_next_59 (by decide) ?_
          refine jj_loc [(0, .ref (ha G 0)), (1, .int x1)] [0, 1] rfl ?_
          exact wb_f0_next_B60 hk hH hK N σ1 x1 false
        · refine jj_iconst hk (pc := 55) (v := (1 : Int32)) dX0_next_55 (by decide) ?_
          refine jj_goto hk (pc := 56) 60 dX0_next_56 (by decide) ?_
          refine jj_loc [(0, .ref (ha G 0)), (1, .int x1)] [0, 1] rfl ?_
          exact wb_f0_next_B60 hk hH hK N σ1 x1 true
    · refine jj_aload_n hk (pc := 13) dX0_next_13 0 rfl rfl ?_
      refine jc_g_tape hk hH hK (pc := 14) dX0_next_14 ?_
      refine jj_iload_n hk (pc := 17) dX0_next_17 1 rfl rfl ?_
      refine jc_bld hk hH hK (pc := 18) dX0_next_18 (fun v4 => ?_)
      refine jj_bipush hk (pc := 19) (v := (32 : Int32)) dX0_next_19 (by decide) ?_
      refine jj_icmp_ne hk (pc := 21) 30 dX0_next_21 (by decide) ?_ ?_
      · refine jj_aload_n hk (pc := 30) dX0_next_30 0 rfl rfl ?_
        refine jj_iload_n hk (pc := 31) dX0_next_31 1 rfl rfl ?_
        refine jc_p_at hk hH hK (pc := 32) dX0_next_32 (fun σ5 => ?_)
        refine jj_iload_n hk (pc := 35) dX0_next_35 1 rfl rfl ?_
        refine jj_aload_n hk (pc := 36) dX0_next_36 0 rfl rfl ?_
        refine jc_g_tapeMany hk hH hK (pc := 37) dX0_next_37 ?_
        refine jj_icmp_ge hk (pc := 40) 59 dX0_next_40 (by decide) ?_ ?_
        · refine jj_iconst hk (pc := 59) (v := (0 : Int32)) dX0_next_59 (by decide) ?_
          refine jj_loc [(0, .ref (ha G 0)), (1, .int x1)] [0, 1] rfl ?_
          exact wb_f0_next_B60 hk hH hK N σ5 x1 false
        · refine jj_aload_n hk (pc := 43) dX0_next_43 0 rfl rfl ?_
          refine jc_g_tape hk hH hK (pc := 44) dX0_next_44 ?_
          refine jj_iload_n hk (pc := 47) dX0_next_47 1 rfl rfl ?_
          refine jc_bld hk hH hK (pc := 48) dX0_next_48 (fun v6 => ?_)
          refine kc_X0_0_isLetter hk hH hK (pc := 49) (a0 := v6) (fun r h => cc_f0_isLetter l hH d σ5 v6 r h) dX0_next_49 ⟨Nat.le_of_ble_eq_true rfl, Nat.le_of_ble_eq_true rfl⟩ (Nat.le_of_ble_eq_true rfl) (fun r7 => ?_)
          refine jj_if_eq_b hk (pc := 52) 59 dX0_next_52 (by decide) ?_ ?_
          · refine jj_iconst hk (pc := 59) (v := (0 : Int32)) dX0_next_59 (by decide) ?_
            refine jj_loc [(0, .ref (ha G 0)), (1, .int x1)] [0, 1] rfl ?_
            exact wb_f0_next_B60 hk hH hK N σ5 x1 false
          · refine jj_iconst hk (pc := 55) (v := (1 : Int32)) dX0_next_55 (by decide) ?_
            refine jj_goto hk (pc := 56) 60 dX0_next_56 (by decide) ?_
            refine jj_loc [(0, .ref (ha G 0)), (1, .int x1)] [0, 1] rfl ?_
            exact wb_f0_next_B60 hk hH hK N σ5 x1 true
      · refine jj_iinc hk (pc := 24) [(1, .int (x1 + 1)), (0, .ref (ha G 0))] dX0_next_24 1 rfl rfl (Nat.le_of_ble_eq_true rfl) rfl ?_
        refine jj_goto hk (pc := 27) 5 dX0_next_27 (by decide) ?_
        refine jj_loc [(0, .ref (ha G 0)), (1, .int (x1 + 1))] [1, 0] rfl ?_
        exact ih σ (x1 + 1)
set_option maxHeartbeats 4000000 in
theorem cc_f0_next (l : Launch) {G : cG} {KK : State → Prop} (hH : cH G KK) (d : DS) (N : Nat) (σ : SS)  (res : SS) (hf : f0_next N σ = some res) : jM l yX0_next (ws_ yX0_next cX0_next 4 none) 2 60 [.ref (ha G 0)] (cWo G d) (cnx d) KK σ (jV res) (hA G) d.2 := by
  refine jj_start [(0, .ref (ha G 0))] (by decide) (Nat.le_of_ble_eq_true rfl) rfl (fun p e R s m args below meth c hk hK hsz => ?_) hf
  have hk : jk p R s m args meth c d.2 cX0_next 4 RX0 2 60 none := hk
  unfold f0_next
  refine jj_aload_n hk (pc := 0) dX0_next_0 0 rfl rfl ?_
  refine jc_g_end hk hH hK (pc := 1) dX0_next_1 ?_
  refine jj_istore_n hk (pc := 4) [(1, .int (σ.1 43)), (0, .ref (ha G 0))] dX0_next_4 rfl (Nat.le_of_ble_eq_true rfl) rfl ?_
  refine jj_loc [(0, .ref (ha G 0)), (1, .int (σ.1 43))] [1, 0] rfl ?_
  exact wb_f0_next_L5 hk hH hK N N σ (σ.1 43)
end
