/-! WALKS OF THE CONSTRUCTORS -/
set_option maxRecDepth 100000
set_option maxHeartbeats 1000000
theorem kc_X3 (l : Launch) {G : cG} {KK : State → Prop} (hH : cH G KK) (q z : Nat) : kM l yX3_init (ws_ yX3_init cX3_init 1 none) 2 100 [.ref q] G KK [(q, .inr (2, [.int 0, .int 0, .int 0, .int 0, .int 0, .int 0, .int 0, .null, .null, .null, .null, .null, .null, .null, .null, .null, .null, .null, .null, .null, .null]))] [(q, .inr (2, [.int 0, .int 0, .int 12, .int 0, .int 0, .int 0, .int 1, .ref (z + 0), .ref (z + 1), .ref (z + 2), .ref (z + 3), .ref (z + 4), .ref (z + 5), .ref (z + 6), .ref (z + 7), .ref (z + 8), .ref (z + 9), .ref (z + 10), .ref (z + 11), .ref (z + 12), .ref (z + 13)])), ((z + 0), .inl (hT G 0, 6, .inl (fun _ => 0))), ((z + 1), .inl (hT G 0, 6, .inl (fun _ => 0))), ((z + 2), .inl (hT G 0, 6, .inl (fun _ => 0))), ((z + 3), .inl (hT G 0, 10, .inl (fun _ => 0))), ((z + 4), .inl (hT G 0, 10, .inl (fun _ => 0))), ((z + 5), .inl (hT G 0, 10, .inl (fun _ => 0))), ((z + 6), .inl (hT G 0, 10, .inl (fun _ => 0))), ((z + 7), .inl (hT G 0, 10, .inl (fun _ => 0))), ((z + 8), .inl (hT G 0, 36, .inl (fun _ => 0))), ((z + 9), .inl (hT G 0, 6, .inl (fun _ => 0))), ((z + 10), .inl (hT G 0, 6, .inl (fun _ => 0))), ((z + 11), .inl (hT G 0, 6, .inl (fun _ => 0))), ((z + 12), .inl (hT G 0, 6, .inl (fun _ => 0))), ((z + 13), .inl (hT G 8, 0, .inr (.inr (.inr (.inr (fun _ => none))))))] z 14 128 := by
  refine ke_start [(0, .ref q)] (by decide) rfl (Nat.le_of_ble_eq_true rfl) rfl (fun p e R s m args below meth c hk hK hX0 => ?_)
  refine ke_aload_n hk (pc := 0) dX3_init_0 0 rfl rfl ?_
  refine ke_objInit hk (pc := 1) q271 q159 q160 dX3_init_1 ⟨Nat.le_of_ble_eq_true rfl, Nat.le_of_ble_eq_true rfl⟩ (Nat.le_of_ble_eq_true rfl) ?_
  refine ke_aload_n hk (pc := 4) dX3_init_4 0 rfl rfl ?_
  refine ke_bipush hk (pc := 5) (v := 12) dX3_init_5 (by decide) ?_
  refine ke_put hk hH hK (pc := 7) (q0 := 0) (ci := 2) (ty := .int) in_X3 tyX3 tyX3_ok nmX3 rfl rfl (i := 2) (by decide) q278 rfl rfl rfl rfl rfl (Nat.le_of_ble_eq_true rfl) dX3_init_7 ?_
  refine ke_aload_n hk (pc := 10) dX3_init_10 0 rfl rfl ?_
  refine ke_iconst hk (pc := 11) (v := 1) dX3_init_11 (by decide) ?_
  refine ke_put hk hH hK (pc := 12) (q0 := 0) (ci := 2) (ty := .int) in_X3 tyX3 tyX3_ok nmX3 rfl rfl (i := 6) (by decide) q286 rfl rfl rfl rfl rfl (Nat.le_of_ble_eq_true rfl) dX3_init_12 ?_
  refine ke_aload_n hk (pc := 15) dX3_init_15 0 rfl rfl ?_
  refine ke_bipush hk (pc := 16) (v := 6) dX3_init_16 (by decide) ?_
  refine ke_newI (N := 6) hk hH hK (pc := 18) (by decide) (by decide) (by decide) (Nat.le_of_ble_eq_true rfl) (Nat.le_of_ble_eq_true rfl) dX3_init_18 ?_
  refine ke_num (k1 := 1) (n1 := 6) rfl rfl ?_
  refine ke_putF hk hH hK (pc := 20) (q0 := 0) (ci := 2) (ty := .array (.int)) in_X3 tyX3 tyX3_ok nmX3 rfl rfl (i := 7) (by decide) q288 rfl rfl rfl rfl rfl rfl (Nat.le_of_ble_eq_true rfl) dX3_init_20 ?_
  refine ke_norm (E' := [(q, .inr (2, [.int 0, .int 0, .int 12, .int 0, .int 0, .int 0, .int 1, .ref (z + 0), .null, .null, .null, .null, .null, .null, .null, .null, .null, .null, .null, .null, .null])), ((z + 0), .inl (hT G 0, 6, .inl (fun _ => 0)))]) rfl ?_
  refine ke_aload_n hk (pc := 23) dX3_init_23 0 rfl rfl ?_
  refine ke_bipush hk (pc := 24) (v := 6) dX3_init_24 (by decide) ?_
  refine ke_newI (N := 6) hk hH hK (pc := 26) (by decide) (by decide) (by decide) (Nat.le_of_ble_eq_true rfl) (Nat.le_of_ble_eq_true rfl) dX3_init_26 ?_
  refine ke_num (k1 := 2) (n1 := 12) rfl rfl ?_
  refine ke_putF hk hH hK (pc := 28) (q0 := 0) (ci := 2) (ty := .array (.int)) in_X3 tyX3 tyX3_ok nmX3 rfl rfl (i := 8) (by decide) q290 rfl rfl rfl rfl rfl rfl (Nat.le_of_ble_eq_true rfl) dX3_init_28 ?_
  refine ke_aload_n hk (pc := 31) dX3_init_31 0 rfl rfl ?_
  refine ke_bipush hk (pc := 32) (v := 6) dX3_init_32 (by decide) ?_
  refine ke_newI (N := 6) hk hH hK (pc := 34) (by decide) (by decide) (by decide) (Nat.le_of_ble_eq_true rfl) (Nat.le_of_ble_eq_true rfl) dX3_init_34 ?_
  refine ke_num (k1 := 3) (n1 := 18) rfl rfl ?_
  refine ke_putF hk hH hK (pc := 36) (q0 := 0) (ci := 2) (ty := .array (.int)) in_X3 tyX3 tyX3_ok nmX3 rfl rfl (i := 9) (by decide) q292 rfl rfl rfl rfl rfl rfl (Nat.le_of_ble_eq_true rfl) dX3_init_36 ?_
  refine ke_aload_n hk (pc := 39) dX3_init_39 0 rfl rfl ?_
  refine ke_bipush hk (pc := 40) (v := 10) dX3_init_40 (by decide) ?_
  refine ke_newI (N := 10) hk hH hK (pc := 42) (by decide) (by decide) (by decide) (Nat.le_of_ble_eq_true rfl) (Nat.le_of_ble_eq_true rfl) dX3_init_42 ?_
  refine ke_num (k1 := 4) (n1 := 28) rfl rfl ?_
  refine ke_putF hk hH hK (pc := 44) (q0 := 0) (ci := 2) (ty := .array (.int)) in_X3 tyX3 tyX3_ok nmX3 rfl rfl (i := 10) (by decide) q294 rfl rfl rfl rfl rfl rfl (Nat.le_of_ble_eq_true rfl) dX3_init_44 ?_
  refine ke_norm (E' := [(q, .inr (2, [.int 0, .int 0, .int 12, .int 0, .int 0, .int 0, .int 1, .ref (z + 0), .ref (z + 1), .ref (z + 2), .ref (z + 3), .null, .null, .null, .null, .null, .null, .null, .null, .null, .null])), ((z + 0), .inl (hT G 0, 6, .inl (fun _ => 0))), ((z + 1), .inl (hT G 0, 6, .inl (fun _ => 0))), ((z + 2), .inl (hT G 0, 6, .inl (fun _ => 0))), ((z + 3), .inl (hT G 0, 10, .inl (fun _ => 0)))]) rfl ?_
  refine ke_aload_n hk (pc := 47) dX3_init_47 0 rfl rfl ?_
  refine ke_bipush hk (pc := 48) (v := 10) dX3_init_48 (by decide) ?_
  refine ke_newI (N := 10) hk hH hK (pc := 50) (by decide) (by decide) (by decide) (Nat.le_of_ble_eq_true rfl) (Nat.le_of_ble_eq_true rfl) dX3_init_50 ?_
  refine ke_num (k1 := 5) (n1 := 38) rfl rfl ?_
  refine ke_putF hk hH hK (pc := 52) (q0 := 0) (ci := 2) (ty := .array (.int)) in_X3 tyX3 tyX3_ok nmX3 rfl rfl (i := 11) (by decide) q296 rfl rfl rfl rfl rfl rfl (Nat.le_of_ble_eq_true rfl) dX3_init_52 ?_
  refine ke_aload_n hk (pc := 55) dX3_init_55 0 rfl rfl ?_
  refine ke_bipush hk (pc := 56) (v := 10) dX3_init_56 (by decide) ?_
  refine ke_newI (N := 10) hk hH hK (pc := 58) (by decide) (by decide) (by decide) (Nat.le_of_ble_eq_true rfl) (Nat.le_of_ble_eq_true rfl) dX3_init_58 ?_
  refine ke_num (k1 := 6) (n1 := 48) rfl rfl ?_
  refine ke_putF hk hH hK (pc := 60) (q0 := 0) (ci := 2) (ty := .array (.int)) in_X3 tyX3 tyX3_ok nmX3 rfl rfl (i := 12) (by decide) q298 rfl rfl rfl rfl rfl rfl (Nat.le_of_ble_eq_true rfl) dX3_init_60 ?_
  refine ke_aload_n hk (pc := 63) dX3_init_63 0 rfl rfl ?_
  refine ke_bipush hk (pc := 64) (v := 10) dX3_init_64 (by decide) ?_
  refine ke_newI (N := 10) hk hH hK (pc := 66) (by decide) (by decide) (by decide) (Nat.le_of_ble_eq_true rfl) (Nat.le_of_ble_eq_true rfl) dX3_init_66 ?_
  refine ke_num (k1 := 7) (n1 := 58) rfl rfl ?_
  refine ke_putF hk hH hK (pc := 68) (q0 := 0) (ci := 2) (ty := .array (.int)) in_X3 tyX3 tyX3_ok nmX3 rfl rfl (i := 13) (by decide) q300 rfl rfl rfl rfl rfl rfl (Nat.le_of_ble_eq_true rfl) dX3_init_68 ?_
  refine ke_norm (E' := [(q, .inr (2, [.int 0, .int 0, .int 12, .int 0, .int 0, .int 0, .int 1, .ref (z + 0), .ref (z + 1), .ref (z + 2), .ref (z + 3), .ref (z + 4), .ref (z + 5), .ref (z + 6), .null, .null, .null, .null, .null, .null, .null])), ((z + 0), .inl (hT G 0, 6, .inl (fun _ => 0))), ((z + 1), .inl (hT G 0, 6, .inl (fun _ => 0))), ((z + 2), .inl (hT G 0, 6, .inl (fun _ => 0))), ((z + 3), .inl (hT G 0, 10, .inl (fun _ => 0))), ((z + 4), .inl (hT G 0, 10, .inl (fun _ => 0))), ((z + 5), .inl (hT G 0, 10, .inl (fun _ => 0))), ((z + 6), .inl (hT G 0, 10, .inl (fun _ => 0)))]) rfl ?_
  refine ke_aload_n hk (pc := 71) dX3_init_71 0 rfl rfl ?_
  refine ke_bipush hk (pc := 72) (v := 10) dX3_init_72 (by decide) ?_
  refine ke_newI (N := 10) hk hH hK (pc := 74) (by decide) (by decide) (by decide) (Nat.le_of_ble_eq_true rfl) (Nat.le_of_ble_eq_true rfl) dX3_init_74 ?_
  refine ke_num (k1 := 8) (n1 := 68) rfl rfl ?_
  refine ke_putF hk hH hK (pc := 76) (q0 := 0) (ci := 2) (ty := .array (.int)) in_X3 tyX3 tyX3_ok nmX3 rfl rfl (i := 14) (by decide) q302 rfl rfl rfl rfl rfl rfl (Nat.le_of_ble_eq_true rfl) dX3_init_76 ?_
  refine ke_aload_n hk (pc := 79) dX3_init_79 0 rfl rfl ?_
  refine ke_bipush hk (pc := 80) (v := 36) dX3_init_80 (by decide) ?_
  refine ke_newI (N := 36) hk hH hK (pc := 82) (by decide) (by decide) (by decide) (Nat.le_of_ble_eq_true rfl) (Nat.le_of_ble_eq_true rfl) dX3_init_82 ?_
  refine ke_num (k1 := 9) (n1 := 104) rfl rfl ?_
  refine ke_putF hk hH hK (pc := 84) (q0 := 0) (ci := 2) (ty := .array (.int)) in_X3 tyX3 tyX3_ok nmX3 rfl rfl (i := 15) (by decide) q304 rfl rfl rfl rfl rfl rfl (Nat.le_of_ble_eq_true rfl) dX3_init_84 ?_
  refine ke_aload_n hk (pc := 87) dX3_init_87 0 rfl rfl ?_
  refine ke_bipush hk (pc := 88) (v := 6) dX3_init_88 (by decide) ?_
  refine ke_newI (N := 6) hk hH hK (pc := 90) (by decide) (by decide) (by decide) (Nat.le_of_ble_eq_true rfl) (Nat.le_of_ble_eq_true rfl) dX3_init_90 ?_
  refine ke_num (k1 := 10) (n1 := 110) rfl rfl ?_
  refine ke_putF hk hH hK (pc := 92) (q0 := 0) (ci := 2) (ty := .array (.int)) in_X3 tyX3 tyX3_ok nmX3 rfl rfl (i := 16) (by decide) q306 rfl rfl rfl rfl rfl rfl (Nat.le_of_ble_eq_true rfl) dX3_init_92 ?_
  refine ke_norm (E' := [(q, .inr (2, [.int 0, .int 0, .int 12, .int 0, .int 0, .int 0, .int 1, .ref (z + 0), .ref (z + 1), .ref (z + 2), .ref (z + 3), .ref (z + 4), .ref (z + 5), .ref (z + 6), .ref (z + 7), .ref (z + 8), .ref (z + 9), .null, .null, .null, .null])), ((z + 0), .inl (hT G 0, 6, .inl (fun _ => 0))), ((z + 1), .inl (hT G 0, 6, .inl (fun _ => 0))), ((z + 2), .inl (hT G 0, 6, .inl (fun _ => 0))), ((z + 3), .inl (hT G 0, 10, .inl (fun _ => 0))), ((z + 4), .inl (hT G 0, 10, .inl (fun _ => 0))), ((z + 5), .inl (hT G 0, 10, .inl (fun _ => 0))), ((z + 6), .inl (hT G 0, 10, .inl (fun _ => 0))), ((z + 7), .inl (hT G 0, 10, .inl (fun _ => 0))), ((z + 8), .inl (hT G 0, 36, .inl (fun _ => 0))), ((z + 9), .inl (hT G 0, 6, .inl (fun _ => 0)))]) rfl ?_
  refine ke_aload_n hk (pc := 95) dX3_init_95 0 rfl rfl ?_
  refine ke_bipush hk (pc := 96) (v := 6) dX3_init_96 (by decide) ?_
  refine ke_newI (N := 6) hk hH hK (pc := 98) (by decide) (by decide) (by decide) (Nat.le_of_ble_eq_true rfl) (Nat.le_of_ble_eq_true rfl) dX3_init_98 ?_
  refine ke_num (k1 := 11) (n1 := 116) rfl rfl ?_
  refine ke_putF hk hH hK (pc := 100) (q0 := 0) (ci := 2) (ty := .array (.int)) in_X3 tyX3 tyX3_ok nmX3 rfl rfl (i := 17) (by decide) q308 rfl rfl rfl rfl rfl rfl (Nat.le_of_ble_eq_true rfl) dX3_init_100 ?_
  refine ke_aload_n hk (pc := 103) dX3_init_103 0 rfl rfl ?_
  refine ke_bipush hk (pc := 104) (v := 6) dX3_init_104 (by decide) ?_
  refine ke_newI (N := 6) hk hH hK (pc := 106) (by decide) (by decide) (by decide) (Nat.le_of_ble_eq_true rfl) (Nat.le_of_ble_eq_true rfl) dX3_init_106 ?_
  refine ke_num (k1 := 12) (n1 := 122) rfl rfl ?_
  refine ke_putF hk hH hK (pc := 108) (q0 := 0) (ci := 2) (ty := .array (.int)) in_X3 tyX3 tyX3_ok nmX3 rfl rfl (i := 18) (by decide) q310 rfl rfl rfl rfl rfl rfl (Nat.le_of_ble_eq_true rfl) dX3_init_108 ?_
  refine ke_aload_n hk (pc := 111) dX3_init_111 0 rfl rfl ?_
  refine ke_bipush hk (pc := 112) (v := 6) dX3_init_112 (by decide) ?_
  refine ke_newI (N := 6) hk hH hK (pc := 114) (by decide) (by decide) (by decide) (Nat.le_of_ble_eq_true rfl) (Nat.le_of_ble_eq_true rfl) dX3_init_114 ?_
  refine ke_num (k1 := 13) (n1 := 128) rfl rfl ?_
  refine ke_putF hk hH hK (pc := 116) (q0 := 0) (ci := 2) (ty := .array (.int)) in_X3 tyX3 tyX3_ok nmX3 rfl rfl (i := 19) (by decide) q312 rfl rfl rfl rfl rfl rfl (Nat.le_of_ble_eq_true rfl) dX3_init_116 ?_
  refine ke_norm (E' := [(q, .inr (2, [.int 0, .int 0, .int 12, .int 0, .int 0, .int 0, .int 1, .ref (z + 0), .ref (z + 1), .ref (z + 2), .ref (z + 3), .ref (z + 4), .ref (z + 5), .ref (z + 6), .ref (z + 7), .ref (z + 8), .ref (z + 9), .ref (z + 10), .ref (z + 11), .ref (z + 12), .null])), ((z + 0), .inl (hT G 0, 6, .inl (fun _ => 0))), ((z + 1), .inl (hT G 0, 6, .inl (fun _ => 0))), ((z + 2), .inl (hT G 0, 6, .inl (fun _ => 0))), ((z + 3), .inl (hT G 0, 10, .inl (fun _ => 0))), ((z + 4), .inl (hT G 0, 10, .inl (fun _ => 0))), ((z + 5), .inl (hT G 0, 10, .inl (fun _ => 0))), ((z + 6), .inl (hT G 0, 10, .inl (fun _ => 0))), ((z + 7), .inl (hT G 0, 10, .inl (fun _ => 0))), ((z + 8), .inl (hT G 0, 36, .inl (fun _ => 0))), ((z + 9), .inl (hT G 0, 6, .inl (fun _ => 0))), ((z + 10), .inl (hT G 0, 6, .inl (fun _ => 0))), ((z + 11), .inl (hT G 0, 6, .inl (fun _ => 0))), ((z + 12), .inl (hT G 0, 6, .inl (fun _ => 0)))]) rfl ?_
  refine ke_aload_n hk (pc := 119) dX3_init_119 0 rfl rfl ?_
  refine ke_iconst hk (pc := 120) (v := 0) dX3_init_120 (by decide) ?_
  refine ke_newR (N := 0) hk hH hK (pc := 121) "LeftUndoes$Rule" 8 (by decide) rfl q272 (by decide) (by decide) (by decide) (Nat.le_of_ble_eq_true rfl) (Nat.le_of_ble_eq_true rfl) dX3_init_121 ?_
  refine ke_num (k1 := 14) (n1 := 128) rfl rfl ?_
  refine ke_put hk hH hK (pc := 124) (q0 := 0) (ci := 2) (ty := .array (.object "LeftUndoes$Rule")) in_X3 tyX3 tyX3_ok nmX3 rfl rfl (i := 20) (by decide) q314 rfl rfl rfl rfl rfl (Nat.le_of_ble_eq_true rfl) dX3_init_124 ?_
  refine ke_norm (E' := [(q, .inr (2, [.int 0, .int 0, .int 12, .int 0, .int 0, .int 0, .int 1, .ref (z + 0), .ref (z + 1), .ref (z + 2), .ref (z + 3), .ref (z + 4), .ref (z + 5), .ref (z + 6), .ref (z + 7), .ref (z + 8), .ref (z + 9), .ref (z + 10), .ref (z + 11), .ref (z + 12), .ref (z + 13)])), ((z + 0), .inl (hT G 0, 6, .inl (fun _ => 0))), ((z + 1), .inl (hT G 0, 6, .inl (fun _ => 0))), ((z + 2), .inl (hT G 0, 6, .inl (fun _ => 0))), ((z + 3), .inl (hT G 0, 10, .inl (fun _ => 0))), ((z + 4), .inl (hT G 0, 10, .inl (fun _ => 0))), ((z + 5), .inl (hT G 0, 10, .inl (fun _ => 0))), ((z + 6), .inl (hT G 0, 10, .inl (fun _ => 0))), ((z + 7), .inl (hT G 0, 10, .inl (fun _ => 0))), ((z + 8), .inl (hT G 0, 36, .inl (fun _ => 0))), ((z + 9), .inl (hT G 0, 6, .inl (fun _ => 0))), ((z + 10), .inl (hT G 0, 6, .inl (fun _ => 0))), ((z + 11), .inl (hT G 0, 6, .inl (fun _ => 0))), ((z + 12), .inl (hT G 0, 6, .inl (fun _ => 0))), ((z + 13), .inl (hT G 8, 0, .inr (.inr (.inr (.inr (fun _ => none))))))]) rfl ?_
  exact ke_retV hk (pc := 127) dX3_init_127
