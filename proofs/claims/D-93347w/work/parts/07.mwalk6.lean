/-! THE MODEL's METHODS: contracts, printed by gen/gen.py -/
set_option maxRecDepth 100000
section
variable {p : Program} {l : Launch} {e : Env} {R : Room} {s : State} {m : MethodId} {args : Array Value} {below : List Frame} {meth : Method} {c : Code}
variable {G : jG}
set_option maxHeartbeats 4000000 in
theorem wb_m_keep_L2 {res : (Int32 × MS)} (hk : jk p R s m args meth c (gn G) cX6_keep 2 RX6 0 0 (some .int)) (hK : mK G s) (N : Nat) : ∀ (n : Nat) (μ : MS) (x1 : Int32), jj p l e R s m args below meth c (gA G) (gn G) (jZ below args s (gA G) (gn G) (jU res) (mWo G) (mnx G)) (mWo G) (mnx G) 2 μ 2 [(0, .ref (gh G)), (1, .int x1)] [] (m_keep_L2 N n μ x1 = some res) := by
  intro n
  induction n with
  | zero => intro μ x1; exact jj_eq (fun hz => by rw [m_keep_L2] at hz; exact hz) jj_no
  | succ n ih =>
    intro μ x1
    rw [m_keep_L2]
    refine jj_iload_n hk (pc := 2) dX6_keep_2 1 rfl rfl ?_
    refine jj_sipush hk (pc := 3) (v := (368 : Int32)) dX6_keep_3 (by decide) ?_
    refine jj_icmp_ge hk (pc := 6) 27 dX6_keep_6 (by decide) ?_ ?_
    · refine jj_aload_n hk (pc := 27) dX6_keep_27 0 rfl rfl ?_
      refine jj_iconst hk (pc := 28) (v := (1 : Int32)) dX6_keep_28 (by decide) ?_
      refine jm_p_isKept hk hK (pc := 29) (b := true) dX6_keep_29 (fun μ1 => ?_)
      refine jj_iconst hk (pc := 32) (v := (1 : Int32)) dX6_keep_32 (by decide) ?_
      exact jm_retUi hk (pc := 33) dX6_keep_33
    · refine jj_aload_n hk (pc := 9) dX6_keep_9 0 rfl rfl ?_
      refine jm_g_kept hk hK (pc := 10) dX6_keep_10 ?_
      refine jj_iload_n hk (pc := 13) dX6_keep_13 1 rfl rfl ?_
      refine jj_aload_n hk (pc := 14) dX6_keep_14 0 rfl rfl ?_
      refine jm_g_s hk hK (pc := 15) dX6_keep_15 ?_
      refine jj_iload_n hk (pc := 18) dX6_keep_18 1 rfl rfl ?_
      refine jm_ld hk hK (pc := 19) (by decide) dX6_keep_19 (fun v2 => ?_)
      refine jm_st hk hK (pc := 20) (by decide) dX6_keep_20 (fun μ3 => ?_)
      refine jj_iinc hk (pc := 21) [(1, .int (x1 + 1)), (0, .ref (gh G))] dX6_keep_21 1 rfl rfl (Nat.le_of_ble_eq_true rfl) rfl ?_
      refine jj_goto hk (pc := 24) 2 dX6_keep_24 (by decide) ?_
      refine jj_loc [(0, .ref (gh G)), (1, .int (x1 + 1))] [1, 0] rfl ?_
      exact ih μ3 (x1 + 1)
set_option maxHeartbeats 4000000 in
theorem cc_m_keep (l : Launch) (G : jG) (N : Nat) (μ : MS)  (res : (Int32 × MS)) (hf : m_keep N μ = some res) : jM l yX6_keep (ws_ yX6_keep cX6_keep 2 (some .int)) 0 0 [.ref (gh G)] (mWo G) (mnx G) (mK G) μ (jU res) (gA G) (gn G) := by
  refine jj_start [(0, .ref (gh G))] (by decide) (Nat.le_of_ble_eq_true rfl) rfl (fun p e R s m args below meth c hk hK hsz => ?_) hf
  have hk : jk p R s m args meth c (gn G) cX6_keep 2 RX6 0 0 (some .int) := hk
  unfold m_keep
  refine jj_iconst hk (pc := 0) (v := (0 : Int32)) dX6_keep_0 (by decide) ?_
  refine jj_istore_n hk (pc := 1) [(1, .int (0 : Int32)), (0, .ref (gh G))] dX6_keep_1 rfl (Nat.le_of_ble_eq_true rfl) rfl ?_
  refine jj_loc [(0, .ref (gh G)), (1, .int (0 : Int32))] [1, 0] rfl ?_
  exact wb_m_keep_L2 hk hK N N μ (0 : Int32)
end
section
variable {p : Program} {l : Launch} {e : Env} {R : Room} {s : State} {m : MethodId} {args : Array Value} {below : List Frame} {meth : Method} {c : Code}
variable {G : jG}
set_option maxHeartbeats 4000000 in
theorem wb_m_again_L12 {res : (Int32 × MS)} (hk : jk p R s m args meth c (gn G) cX6_again 2 RX6 0 0 (some .int)) (hK : mK G s) (N : Nat) : ∀ (n : Nat) (μ : MS) (x1 : Int32), jj p l e R s m args below meth c (gA G) (gn G) (jZ below args s (gA G) (gn G) (jU res) (mWo G) (mnx G)) (mWo G) (mnx G) 2 μ 12 [(0, .ref (gh G)), (1, .int x1)] [] (m_again_L12 N n μ x1 = some res) := by
  intro n
  induction n with
  | zero => intro μ x1; exact jj_eq (fun hz => by rw [m_again_L12] at hz; exact hz) jj_no
  | succ n ih =>
    intro μ x1
    rw [m_again_L12]
    refine jj_iload_n hk (pc := 12) dX6_again_12 1 rfl rfl ?_
    refine jj_sipush hk (pc := 13) (v := (368 : Int32)) dX6_again_13 (by decide) ?_
    refine jj_icmp_ge hk (pc := 16) 37 dX6_again_16 (by decide) ?_ ?_
    · refine jj_aload_n hk (pc := 37) dX6_again_37 0 rfl rfl ?_
      refine jm_g_s hk hK (pc := 38) dX6_again_38 ?_
      refine jj_iconst hk (pc := 41) (v := (0 : Int32)) dX6_again_41 (by decide) ?_
      refine jm_ld hk hK (pc := 42) (by decide) dX6_again_42 (fun v1 => ?_)
      exact jm_retUi hk (pc := 43) dX6_again_43
    · refine jj_aload_n hk (pc := 19) dX6_again_19 0 rfl rfl ?_
      refine jm_g_s hk hK (pc := 20) dX6_again_20 ?_
      refine jj_iload_n hk (pc := 23) dX6_again_23 1 rfl rfl ?_
      refine jj_aload_n hk (pc := 24) dX6_again_24 0 rfl rfl ?_
      refine jm_g_kept hk hK (pc := 25) dX6_again_25 ?_
      refine jj_iload_n hk (pc := 28) dX6_again_28 1 rfl rfl ?_
      refine jm_ld hk hK (pc := 29) (by decide) dX6_again_29 (fun v2 => ?_)
      refine jm_st hk hK (pc := 30) (by decide) dX6_again_30 (fun μ3 => ?_)
      refine jj_iinc hk (pc := 31) [(1, .int (x1 + 1)), (0, .ref (gh G))] dX6_again_31 1 rfl rfl (Nat.le_of_ble_eq_true rfl) rfl ?_
      refine jj_goto hk (pc := 34) 12 dX6_again_34 (by decide) ?_
      refine jj_loc [(0, .ref (gh G)), (1, .int (x1 + 1))] [1, 0] rfl ?_
      exact ih μ3 (x1 + 1)
set_option maxHeartbeats 4000000 in
theorem cc_m_again (l : Launch) (G : jG) (N : Nat) (μ : MS)  (res : (Int32 × MS)) (hf : m_again N μ = some res) : jM l yX6_again (ws_ yX6_again cX6_again 2 (some .int)) 0 0 [.ref (gh G)] (mWo G) (mnx G) (mK G) μ (jU res) (gA G) (gn G) := by
  refine jj_start [(0, .ref (gh G))] (by decide) (Nat.le_of_ble_eq_true rfl) rfl (fun p e R s m args below meth c hk hK hsz => ?_) hf
  have hk : jk p R s m args meth c (gn G) cX6_again 2 RX6 0 0 (some .int) := hk
  unfold m_again
  refine jj_aload_n hk (pc := 0) dX6_again_0 0 rfl rfl ?_
  refine jm_g_isKept hk hK (pc := 1) dX6_again_1 ?_
  refine jj_if_ne hk (pc := 4) 10 dX6_again_4 (by decide) ?_ ?_
  · refine jj_iconst hk (pc := 10) (v := (0 : Int32)) dX6_again_10 (by decide) ?_
    refine jj_istore_n hk (pc := 11) [(1, .int (0 : Int32)), (0, .ref (gh G))] dX6_again_11 rfl (Nat.le_of_ble_eq_true rfl) rfl ?_
    refine jj_loc [(0, .ref (gh G)), (1, .int (0 : Int32))] [1, 0] rfl ?_
    exact wb_m_again_L12 hk hK N N μ (0 : Int32)
  · refine jj_bipush hk (pc := 7) (v := (-3 : Int32)) dX6_again_7 (by decide) ?_
    exact jm_retUi hk (pc := 9) dX6_again_9
end
