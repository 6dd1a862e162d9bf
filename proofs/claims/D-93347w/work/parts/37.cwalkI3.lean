/-! WALKS OF THE CONSTRUCTORS -/
set_option maxRecDepth 100000
set_option maxHeartbeats 1000000
theorem kc_X6 (l : Launch) {G : cG} {KK : State → Prop} (hH : cH G KK) (q z : Nat) : kM l yX6_init (ws_ yX6_init cX6_init 1 none) 2 100 [.ref q] G KK [(q, .inr (0, [.null, .null, .null, .int 0, .null, .null, .null, .null, .null, .null, .int 0, .int 0, .int 0, .int 0, .int 0, .int 0, .int 0, .int 0, .int 0, .int 0, .null, .int 0, .null, .int 0, .int 0, .int 0, .int 0, .int 0, .int 0, .int 0, .null, .null, .null, .null, .null, .null, .null, .int 0, .int 0, .int 0, .int 0, .int 0]))] [(q, .inr (0, [.ref (z + 0), .ref (z + 1), .ref (z + 2), .int 0, .ref (z + 3), .ref (z + 4), .ref (z + 5), .ref (z + 6), .ref (z + 7), .ref (z + 8), .int 0, .int 0, .int 0, .int 0, .int 0, .int 0, .int 0, .int 0, .int 0, .int 0, .ref (z + 9), .int 0, .ref (z + 10), .int 0, .int 0, .int 0, .int 0, .int 0, .int 0, .int 0, .ref (z + 11), .ref (z + 12), .ref (z + 13), .ref (z + 14), .ref (z + 15), .ref (z + 16), .ref (z + 17), .int 0, .int 0, .int 0, .int 0, .int 0])), ((z + 0), .inl (hT G 0, 368, .inl (upd (upd (fun _ => 0) (Int32.toNatClampNeg 7) 1) (Int32.toNatClampNeg 2) 12))), ((z + 1), .inl (hT G 0, 368, .inl (fun _ => 0))), ((z + 2), .inl (hT G 0, 368, .inl (fun _ => 0))), ((z + 3), .inl (hT G 0, 200, .inl (fun _ => 0))), ((z + 4), .inl (hT G 0, 64, .inl (fun _ => 0))), ((z + 5), .inl (hT G 0, 64, .inl (fun _ => 0))), ((z + 6), .inl (hT G 0, 60, .inl (fun _ => 0))), ((z + 7), .inl (hT G 0, 4, .inl (fun _ => 0))), ((z + 8), .inl (hT G 0, 4, .inl (fun _ => 0))), ((z + 9), .inl (hT G 0, 12, .inl (fun _ => 0))), ((z + 10), .inl (hT G 0, 200, .inl (fun _ => 0))), ((z + 11), .inl (hT G 0, 4, .inl (upd (upd (upd (upd (fun _ => 0) (Int32.toNatClampNeg 0) (-1)) (Int32.toNatClampNeg 1) (-1)) (Int32.toNatClampNeg 2) (-1)) (Int32.toNatClampNeg 3) (-1)))), ((z + 12), .inl (hT G 0, 4, .inl (fun _ => 0))), ((z + 13), .inl (hT G 0, 160, .inl (fun _ => 0))), ((z + 14), .inl (hT G 0, 4, .inl (fun _ => 0))), ((z + 15), .inl (hT G 0, 4, .inl (fun _ => 0))), ((z + 16), .inl (hT G 0, 4, .inl (fun _ => 0))), ((z + 17), .inl (hT G 0, 30, .inl (fun _ => 0)))] z 18 1922 := by
  refine ke_start [(0, .ref q)] (by decide) rfl (Nat.le_of_ble_eq_true rfl) rfl (fun p e R s m args below meth c hk hK hX0 => ?_)
  refine ke_aload_n hk (pc := 0) dX6_init_0 0 rfl rfl ?_
  refine ke_objInit hk (pc := 1) q1546 q159 q160 dX6_init_1 ⟨Nat.le_of_ble_eq_true rfl, Nat.le_of_ble_eq_true rfl⟩ (Nat.le_of_ble_eq_true rfl) ?_
  refine ke_aload_n hk (pc := 4) dX6_init_4 0 rfl rfl ?_
  refine ke_sipush hk (pc := 5) (v := 368) dX6_init_5 (by decide) ?_
  refine ke_newI (N := 368) hk hH hK (pc := 8) (by decide) (by decide) (by decide) (Nat.le_of_ble_eq_true rfl) (Nat.le_of_ble_eq_true rfl) dX6_init_8 ?_
  refine ke_num (k1 := 1) (n1 := 368) rfl rfl ?_
  refine ke_putF hk hH hK (pc := 10) (q0 := 0) (ci := 0) (ty := .array (.int)) in_X6 tyX6 tyX6_ok nmX6 rfl rfl (i := 0) (by decide) q1547 rfl rfl rfl rfl rfl rfl (Nat.le_of_ble_eq_true rfl) dX6_init_10 ?_
  refine ke_aload_n hk (pc := 13) dX6_init_13 0 rfl rfl ?_
  refine ke_sipush hk (pc := 14) (v := 368) dX6_init_14 (by decide) ?_
  refine ke_newI (N := 368) hk hH hK (pc := 17) (by decide) (by decide) (by decide) (Nat.le_of_ble_eq_true rfl) (Nat.le_of_ble_eq_true rfl) dX6_init_17 ?_
  refine ke_num (k1 := 2) (n1 := 736) rfl rfl ?_
  refine ke_putF hk hH hK (pc := 19) (q0 := 0) (ci := 0) (ty := .array (.int)) in_X6 tyX6 tyX6_ok nmX6 rfl rfl (i := 1) (by decide) q1548 rfl rfl rfl rfl rfl rfl (Nat.le_of_ble_eq_true rfl) dX6_init_19 ?_
  refine ke_aload_n hk (pc := 22) dX6_init_22 0 rfl rfl ?_
  refine ke_sipush hk (pc := 23) (v := 368) dX6_init_23 (by decide) ?_
  refine ke_newI (N := 368) hk hH hK (pc := 26) (by decide) (by decide) (by decide) (Nat.le_of_ble_eq_true rfl) (Nat.le_of_ble_eq_true rfl) dX6_init_26 ?_
  refine ke_num (k1 := 3) (n1 := 1104) rfl rfl ?_
  refine ke_putF hk hH hK (pc := 28) (q0 := 0) (ci := 0) (ty := .array (.int)) in_X6 tyX6 tyX6_ok nmX6 rfl rfl (i := 2) (by decide) q1549 rfl rfl rfl rfl rfl rfl (Nat.le_of_ble_eq_true rfl) dX6_init_28 ?_
  refine ke_norm (E' := [(q, .inr (0, [.ref (z + 0), .ref (z + 1), .ref (z + 2), .int 0, .null, .null, .null, .null, .null, .null, .int 0, .int 0, .int 0, .int 0, .int 0, .int 0, .int 0, .int 0, .int 0, .int 0, .null, .int 0, .null, .int 0, .int 0, .int 0, .int 0, .int 0, .int 0, .int 0, .null, .null, .null, .null, .null, .null, .null, .int 0, .int 0, .int 0, .int 0, .int 0])), ((z + 0), .inl (hT G 0, 368, .inl (fun _ => 0))), ((z + 1), .inl (hT G 0, 368, .inl (fun _ => 0))), ((z + 2), .inl (hT G 0, 368, .inl (fun _ => 0)))]) rfl ?_
  refine ke_aload_n hk (pc := 31) dX6_init_31 0 rfl rfl ?_
  refine ke_sipush hk (pc := 32) (v := 200) dX6_init_32 (by decide) ?_
  refine ke_newI (N := 200) hk hH hK (pc := 35) (by decide) (by decide) (by decide) (Nat.le_of_ble_eq_true rfl) (Nat.le_of_ble_eq_true rfl) dX6_init_35 ?_
  refine ke_num (k1 := 4) (n1 := 1304) rfl rfl ?_
  refine ke_putF hk hH hK (pc := 37) (q0 := 0) (ci := 0) (ty := .array (.int)) in_X6 tyX6 tyX6_ok nmX6 rfl rfl (i := 4) (by decide) q1551 rfl rfl rfl rfl rfl rfl (Nat.le_of_ble_eq_true rfl) dX6_init_37 ?_
  refine ke_aload_n hk (pc := 40) dX6_init_40 0 rfl rfl ?_
  refine ke_bipush hk (pc := 41) (v := 64) dX6_init_41 (by decide) ?_
  refine ke_newI (N := 64) hk hH hK (pc := 43) (by decide) (by decide) (by decide) (Nat.le_of_ble_eq_true rfl) (Nat.le_of_ble_eq_true rfl) dX6_init_43 ?_
  refine ke_num (k1 := 5) (n1 := 1368) rfl rfl ?_
  refine ke_putF hk hH hK (pc := 45) (q0 := 0) (ci := 0) (ty := .array (.int)) in_X6 tyX6 tyX6_ok nmX6 rfl rfl (i := 5) (by decide) q1552 rfl rfl rfl rfl rfl rfl (Nat.le_of_ble_eq_true rfl) dX6_init_45 ?_
  refine ke_aload_n hk (pc := 48) dX6_init_48 0 rfl rfl ?_
  refine ke_bipush hk (pc := 49) (v := 64) dX6_init_49 (by decide) ?_
  refine ke_newI (N := 64) hk hH hK (pc := 51) (by decide) (by decide) (by decide) (Nat.le_of_ble_eq_true rfl) (Nat.le_of_ble_eq_true rfl) dX6_init_51 ?_
  refine ke_num (k1 := 6) (n1 := 1432) rfl rfl ?_
  refine ke_putF hk hH hK (pc := 53) (q0 := 0) (ci := 0) (ty := .array (.int)) in_X6 tyX6 tyX6_ok nmX6 rfl rfl (i := 6) (by decide) q1553 rfl rfl rfl rfl rfl rfl (Nat.le_of_ble_eq_true rfl) dX6_init_53 ?_
  refine ke_norm (E' := [(q, .inr (0, [.ref (z + 0), .ref (z + 1), .ref (z + 2), .int 0, .ref (z + 3), .ref (z + 4), .ref (z + 5), .null, .null, .null, .int 0, .int 0, .int 0, .int 0, .int 0, .int 0, .int 0, .int 0, .int 0, .int 0, .null, .int 0, .null, .int 0, .int 0, .int 0, .int 0, .int 0, .int 0, .int 0, .null, .null, .null, .null, .null, .null, .null, .int 0, .int 0, .int 0, .int 0, .int 0])), ((z + 0), .inl (hT G 0, 368, .inl (fun _ => 0))), ((z + 1), .inl (hT G 0, 368, .inl (fun _ => 0))), ((z + 2), .inl (hT G 0, 368, .inl (fun _ => 0))), ((z + 3), .inl (hT G 0, 200, .inl (fun _ => 0))), ((z + 4), .inl (hT G 0, 64, .inl (fun _ => 0))), ((z + 5), .inl (hT G 0, 64, .inl (fun _ => 0)))]) rfl ?_
  refine ke_aload_n hk (pc := 56) dX6_init_56 0 rfl rfl ?_
  refine ke_bipush hk (pc := 57) (v := 60) dX6_init_57 (by decide) ?_
  refine ke_newI (N := 60) hk hH hK (pc := 59) (by decide) (by decide) (by decide) (Nat.le_of_ble_eq_true rfl) (Nat.le_of_ble_eq_true rfl) dX6_init_59 ?_
  refine ke_num (k1 := 7) (n1 := 1492) rfl rfl ?_
  refine ke_putF hk hH hK (pc := 61) (q0 := 0) (ci := 0) (ty := .array (.int)) in_X6 tyX6 tyX6_ok nmX6 rfl rfl (i := 7) (by decide) q1554 rfl rfl rfl rfl rfl rfl (Nat.le_of_ble_eq_true rfl) dX6_init_61 ?_
  refine ke_aload_n hk (pc := 64) dX6_init_64 0 rfl rfl ?_
  refine ke_iconst hk (pc := 65) (v := 4) dX6_init_65 (by decide) ?_
  refine ke_newI (N := 4) hk hH hK (pc := 66) (by decide) (by decide) (by decide) (Nat.le_of_ble_eq_true rfl) (Nat.le_of_ble_eq_true rfl) dX6_init_66 ?_
  refine ke_num (k1 := 8) (n1 := 1496) rfl rfl ?_
  refine ke_putF hk hH hK (pc := 68) (q0 := 0) (ci := 0) (ty := .array (.int)) in_X6 tyX6 tyX6_ok nmX6 rfl rfl (i := 8) (by decide) q1555 rfl rfl rfl rfl rfl rfl (Nat.le_of_ble_eq_true rfl) dX6_init_68 ?_
  refine ke_aload_n hk (pc := 71) dX6_init_71 0 rfl rfl ?_
  refine ke_iconst hk (pc := 72) (v := 4) dX6_init_72 (by decide) ?_
  refine ke_newI (N := 4) hk hH hK (pc := 73) (by decide) (by decide) (by decide) (Nat.le_of_ble_eq_true rfl) (Nat.le_of_ble_eq_true rfl) dX6_init_73 ?_
  refine ke_num (k1 := 9) (n1 := 1500) rfl rfl ?_
  refine ke_putF hk hH hK (pc := 75) (q0 := 0) (ci := 0) (ty := .array (.int)) in_X6 tyX6 tyX6_ok nmX6 rfl rfl (i := 9) (by decide) q1556 rfl rfl rfl rfl rfl rfl (Nat.le_of_ble_eq_true rfl) dX6_init_75 ?_
  refine ke_norm (E' := [(q, .inr (0, [.ref (z + 0), .ref (z + 1), .ref (z + 2), .int 0, .ref (z + 3), .ref (z + 4), .ref (z + 5), .ref (z + 6), .ref (z + 7), .ref (z + 8), .int 0, .int 0, .int 0, .int 0, .int 0, .int 0, .int 0, .int 0, .int 0, .int 0, .null, .int 0, .null, .int 0, .int 0, .int 0, .int 0, .int 0, .int 0, .int 0, .null, .null, .null, .null, .null, .null, .null, .int 0, .int 0, .int 0, .int 0, .int 0])), ((z + 0), .inl (hT G 0, 368, .inl (fun _ => 0))), ((z + 1), .inl (hT G 0, 368, .inl (fun _ => 0))), ((z + 2), .inl (hT G 0, 368, .inl (fun _ => 0))), ((z + 3), .inl (hT G 0, 200, .inl (fun _ => 0))), ((z + 4), .inl (hT G 0, 64, .inl (fun _ => 0))), ((z + 5), .inl (hT G 0, 64, .inl (fun _ => 0))), ((z + 6), .inl (hT G 0, 60, .inl (fun _ => 0))), ((z + 7), .inl (hT G 0, 4, .inl (fun _ => 0))), ((z + 8), .inl (hT G 0, 4, .inl (fun _ => 0)))]) rfl ?_
  refine ke_aload_n hk (pc := 78) dX6_init_78 0 rfl rfl ?_
  refine ke_bipush hk (pc := 79) (v := 12) dX6_init_79 (by decide) ?_
  refine ke_newI (N := 12) hk hH hK (pc := 81) (by decide) (by decide) (by decide) (Nat.le_of_ble_eq_true rfl) (Nat.le_of_ble_eq_true rfl) dX6_init_81 ?_
  refine ke_num (k1 := 10) (n1 := 1512) rfl rfl ?_
  refine ke_putF hk hH hK (pc := 83) (q0 := 0) (ci := 0) (ty := .array (.int)) in_X6 tyX6 tyX6_ok nmX6 rfl rfl (i := 20) (by decide) q1567 rfl rfl rfl rfl rfl rfl (Nat.le_of_ble_eq_true rfl) dX6_init_83 ?_
  refine ke_aload_n hk (pc := 86) dX6_init_86 0 rfl rfl ?_
  refine ke_sipush hk (pc := 87) (v := 200) dX6_init_87 (by decide) ?_
  refine ke_newI (N := 200) hk hH hK (pc := 90) (by decide) (by decide) (by decide) (Nat.le_of_ble_eq_true rfl) (Nat.le_of_ble_eq_true rfl) dX6_init_90 ?_
  refine ke_num (k1 := 11) (n1 := 1712) rfl rfl ?_
  refine ke_putF hk hH hK (pc := 92) (q0 := 0) (ci := 0) (ty := .array (.int)) in_X6 tyX6 tyX6_ok nmX6 rfl rfl (i := 22) (by decide) q1569 rfl rfl rfl rfl rfl rfl (Nat.le_of_ble_eq_true rfl) dX6_init_92 ?_
  refine ke_aload_n hk (pc := 95) dX6_init_95 0 rfl rfl ?_
  refine ke_iconst hk (pc := 96) (v := 4) dX6_init_96 (by decide) ?_
  refine ke_newI (N := 4) hk hH hK (pc := 97) (by decide) (by decide) (by decide) (Nat.le_of_ble_eq_true rfl) (Nat.le_of_ble_eq_true rfl) dX6_init_97 ?_
  refine ke_num (k1 := 12) (n1 := 1716) rfl rfl ?_
  refine ke_dup hk (pc := 99) dX6_init_99 rfl ?_
  refine ke_iconst hk (pc := 100) (v := 0) dX6_init_100 (by decide) ?_
  refine ke_iconst hk (pc := 101) (v := -1) dX6_init_101 (by decide) ?_
  refine ke_iast hk hH hK (pc := 102) (q0 := 12) rfl (by unfold vp_in; decide) dX6_init_102 ?_
  refine ke_norm (E' := [(q, .inr (0, [.ref (z + 0), .ref (z + 1), .ref (z + 2), .int 0, .ref (z + 3), .ref (z + 4), .ref (z + 5), .ref (z + 6), .ref (z + 7), .ref (z + 8), .int 0, .int 0, .int 0, .int 0, .int 0, .int 0, .int 0, .int 0, .int 0, .int 0, .ref (z + 9), .int 0, .ref (z + 10), .int 0, .int 0, .int 0, .int 0, .int 0, .int 0, .int 0, .null, .null, .null, .null, .null, .null, .null, .int 0, .int 0, .int 0, .int 0, .int 0])), ((z + 0), .inl (hT G 0, 368, .inl (fun _ => 0))), ((z + 1), .inl (hT G 0, 368, .inl (fun _ => 0))), ((z + 2), .inl (hT G 0, 368, .inl (fun _ => 0))), ((z + 3), .inl (hT G 0, 200, .inl (fun _ => 0))), ((z + 4), .inl (hT G 0, 64, .inl (fun _ => 0))), ((z + 5), .inl (hT G 0, 64, .inl (fun _ => 0))), ((z + 6), .inl (hT G 0, 60, .inl (fun _ => 0))), ((z + 7), .inl (hT G 0, 4, .inl (fun _ => 0))), ((z + 8), .inl (hT G 0, 4, .inl (fun _ => 0))), ((z + 9), .inl (hT G 0, 12, .inl (fun _ => 0))), ((z + 10), .inl (hT G 0, 200, .inl (fun _ => 0))), ((z + 11), .inl (hT G 0, 4, .inl (upd (fun _ => 0) (Int32.toNatClampNeg 0) (-1))))]) rfl ?_
  refine ke_dup hk (pc := 103) dX6_init_103 rfl ?_
  refine ke_iconst hk (pc := 104) (v := 1) dX6_init_104 (by decide) ?_
  refine ke_iconst hk (pc := 105) (v := -1) dX6_init_105 (by decide) ?_
  refine ke_iast hk hH hK (pc := 106) (q0 := 12) rfl (by unfold vp_in; decide) dX6_init_106 ?_
  refine ke_dup hk (pc := 107) dX6_init_107 rfl ?_
  refine ke_iconst hk (pc := 108) (v := 2) dX6_init_108 (by decide) ?_
  refine ke_iconst hk (pc := 109) (v := -1) dX6_init_109 (by decide) ?_
  refine ke_iast hk hH hK (pc := 110) (q0 := 12) rfl (by unfold vp_in; decide) dX6_init_110 ?_
  refine ke_dup hk (pc := 111) dX6_init_111 rfl ?_
  refine ke_iconst hk (pc := 112) (v := 3) dX6_init_112 (by decide) ?_
  refine ke_iconst hk (pc := 113) (v := -1) dX6_init_113 (by decide) ?_
  refine ke_iast hk hH hK (pc := 114) (q0 := 12) rfl (by unfold vp_in; decide) dX6_init_114 ?_
  refine ke_norm (E' := [(q, .inr (0, [.ref (z + 0), .ref (z + 1), .ref (z + 2), .int 0, .ref (z + 3), .ref (z + 4), .ref (z + 5), .ref (z + 6), .ref (z + 7), .ref (z + 8), .int 0, .int 0, .int 0, .int 0, .int 0, .int 0, .int 0, .int 0, .int 0, .int 0, .ref (z + 9), .int 0, .ref (z + 10), .int 0, .int 0, .int 0, .int 0, .int 0, .int 0, .int 0, .null, .null, .null, .null, .null, .null, .null, .int 0, .int 0, .int 0, .int 0, .int 0])), ((z + 0), .inl (hT G 0, 368, .inl (fun _ => 0))), ((z + 1), .inl (hT G 0, 368, .inl (fun _ => 0))), ((z + 2), .inl (hT G 0, 368, .inl (fun _ => 0))), ((z + 3), .inl (hT G 0, 200, .inl (fun _ => 0))), ((z + 4), .inl (hT G 0, 64, .inl (fun _ => 0))), ((z + 5), .inl (hT G 0, 64, .inl (fun _ => 0))), ((z + 6), .inl (hT G 0, 60, .inl (fun _ => 0))), ((z + 7), .inl (hT G 0, 4, .inl (fun _ => 0))), ((z + 8), .inl (hT G 0, 4, .inl (fun _ => 0))), ((z + 9), .inl (hT G 0, 12, .inl (fun _ => 0))), ((z + 10), .inl (hT G 0, 200, .inl (fun _ => 0))), ((z + 11), .inl (hT G 0, 4, .inl (upd (upd (upd (upd (fun _ => 0) (Int32.toNatClampNeg 0) (-1)) (Int32.toNatClampNeg 1) (-1)) (Int32.toNatClampNeg 2) (-1)) (Int32.toNatClampNeg 3) (-1))))]) rfl ?_
  refine ke_putF hk hH hK (pc := 115) (q0 := 0) (ci := 0) (ty := .array (.int)) in_X6 tyX6 tyX6_ok nmX6 rfl rfl (i := 30) (by decide) q1577 rfl rfl rfl rfl rfl rfl (Nat.le_of_ble_eq_true rfl) dX6_init_115 ?_
  refine ke_aload_n hk (pc := 118) dX6_init_118 0 rfl rfl ?_
  refine ke_iconst hk (pc := 119) (v := 4) dX6_init_119 (by decide) ?_
  refine ke_newI (N := 4) hk hH hK (pc := 120) (by decide) (by decide) (by decide) (Nat.le_of_ble_eq_true rfl) (Nat.le_of_ble_eq_true rfl) dX6_init_120 ?_
  refine ke_num (k1 := 13) (n1 := 1720) rfl rfl ?_
  refine ke_putF hk hH hK (pc := 122) (q0 := 0) (ci := 0) (ty := .array (.int)) in_X6 tyX6 tyX6_ok nmX6 rfl rfl (i := 31) (by decide) q1578 rfl rfl rfl rfl rfl rfl (Nat.le_of_ble_eq_true rfl) dX6_init_122 ?_
  refine ke_aload_n hk (pc := 125) dX6_init_125 0 rfl rfl ?_
  refine ke_sipush hk (pc := 126) (v := 160) dX6_init_126 (by decide) ?_
  refine ke_newI (N := 160) hk hH hK (pc := 129) (by decide) (by decide) (by decide) (Nat.le_of_ble_eq_true rfl) (Nat.le_of_ble_eq_true rfl) dX6_init_129 ?_
  refine ke_num (k1 := 14) (n1 := 1880) rfl rfl ?_
  refine ke_putF hk hH hK (pc := 131) (q0 := 0) (ci := 0) (ty := .array (.int)) in_X6 tyX6 tyX6_ok nmX6 rfl rfl (i := 32) (by decide) q1579 rfl rfl rfl rfl rfl rfl (Nat.le_of_ble_eq_true rfl) dX6_init_131 ?_
  refine ke_norm (E' := [(q, .inr (0, [.ref (z + 0), .ref (z + 1), .ref (z + 2), .int 0, .ref (z + 3), .ref (z + 4), .ref (z + 5), .ref (z + 6), .ref (z + 7), .ref (z + 8), .int 0, .int 0, .int 0, .int 0, .int 0, .int 0, .int 0, .int 0, .int 0, .int 0, .ref (z + 9), .int 0, .ref (z + 10), .int 0, .int 0, .int 0, .int 0, .int 0, .int 0, .int 0, .ref (z + 11), .ref (z + 12), .ref (z + 13), .null, .null, .null, .null, .int 0, .int 0, .int 0, .int 0, .int 0])), ((z + 0), .inl (hT G 0, 368, .inl (fun _ => 0))), ((z + 1), .inl (hT G 0, 368, .inl (fun _ => 0))), ((z + 2), .inl (hT G 0, 368, .inl (fun _ => 0))), ((z + 3), .inl (hT G 0, 200, .inl (fun _ => 0))), ((z + 4), .inl (hT G 0, 64, .inl (fun _ => 0))), ((z + 5), .inl (hT G 0, 64, .inl (fun _ => 0))), ((z + 6), .inl (hT G 0, 60, .inl (fun _ => 0))), ((z + 7), .inl (hT G 0, 4, .inl (fun _ => 0))), ((z + 8), .inl (hT G 0, 4, .inl (fun _ => 0))), ((z + 9), .inl (hT G 0, 12, .inl (fun _ => 0))), ((z + 10), .inl (hT G 0, 200, .inl (fun _ => 0))), ((z + 11), .inl (hT G 0, 4, .inl (upd (upd (upd (upd (fun _ => 0) (Int32.toNatClampNeg 0) (-1)) (Int32.toNatClampNeg 1) (-1)) (Int32.toNatClampNeg 2) (-1)) (Int32.toNatClampNeg 3) (-1)))), ((z + 12), .inl (hT G 0, 4, .inl (fun _ => 0))), ((z + 13), .inl (hT G 0, 160, .inl (fun _ => 0)))]) rfl ?_
  refine ke_aload_n hk (pc := 134) dX6_init_134 0 rfl rfl ?_
  refine ke_iconst hk (pc := 135) (v := 4) dX6_init_135 (by decide) ?_
  refine ke_newI (N := 4) hk hH hK (pc := 136) (by decide) (by decide) (by decide) (Nat.le_of_ble_eq_true rfl) (Nat.le_of_ble_eq_true rfl) dX6_init_136 ?_
  refine ke_num (k1 := 15) (n1 := 1884) rfl rfl ?_
  refine ke_putF hk hH hK (pc := 138) (q0 := 0) (ci := 0) (ty := .array (.int)) in_X6 tyX6 tyX6_ok nmX6 rfl rfl (i := 33) (by decide) q1580 rfl rfl rfl rfl rfl rfl (Nat.le_of_ble_eq_true rfl) dX6_init_138 ?_
  refine ke_aload_n hk (pc := 141) dX6_init_141 0 rfl rfl ?_
  refine ke_iconst hk (pc := 142) (v := 4) dX6_init_142 (by decide) ?_
  refine ke_newI (N := 4) hk hH hK (pc := 143) (by decide) (by decide) (by decide) (Nat.le_of_ble_eq_true rfl) (Nat.le_of_ble_eq_true rfl) dX6_init_143 ?_
  refine ke_num (k1 := 16) (n1 := 1888) rfl rfl ?_
  refine ke_putF hk hH hK (pc := 145) (q0 := 0) (ci := 0) (ty := .array (.int)) in_X6 tyX6 tyX6_ok nmX6 rfl rfl (i := 34) (by decide) q1581 rfl rfl rfl rfl rfl rfl (Nat.le_of_ble_eq_true rfl) dX6_init_145 ?_
  refine ke_aload_n hk (pc := 148) dX6_init_148 0 rfl rfl ?_
  refine ke_iconst hk (pc := 149) (v := 4) dX6_init_149 (by decide) ?_
  refine ke_newI (N := 4) hk hH hK (pc := 150) (by decide) (by decide) (by decide) (Nat.le_of_ble_eq_true rfl) (Nat.le_of_ble_eq_true rfl) dX6_init_150 ?_
  refine ke_num (k1 := 17) (n1 := 1892) rfl rfl ?_
  refine ke_putF hk hH hK (pc := 152) (q0 := 0) (ci := 0) (ty := .array (.int)) in_X6 tyX6 tyX6_ok nmX6 rfl rfl (i := 35) (by decide) q1582 rfl rfl rfl rfl rfl rfl (Nat.le_of_ble_eq_true rfl) dX6_init_152 ?_
  refine ke_norm (E' := [(q, .inr (0, [.ref (z + 0), .ref (z + 1), .ref (z + 2), .int 0, .ref (z + 3), .ref (z + 4), .ref (z + 5), .ref (z + 6), .ref (z + 7), .ref (z + 8), .int 0, .int 0, .int 0, .int 0, .int 0, .int 0, .int 0, .int 0, .int 0, .int 0, .ref (z + 9), .int 0, .ref (z + 10), .int 0, .int 0, .int 0, .int 0, .int 0, .int 0, .int 0, .ref (z + 11), .ref (z + 12), .ref (z + 13), .ref (z + 14), .ref (z + 15), .ref (z + 16), .null, .int 0, .int 0, .int 0, .int 0, .int 0])), ((z + 0), .inl (hT G 0, 368, .inl (fun _ => 0))), ((z + 1), .inl (hT G 0, 368, .inl (fun _ => 0))), ((z + 2), .inl (hT G 0, 368, .inl (fun _ => 0))), ((z + 3), .inl (hT G 0, 200, .inl (fun _ => 0))), ((z + 4), .inl (hT G 0, 64, .inl (fun _ => 0))), ((z + 5), .inl (hT G 0, 64, .inl (fun _ => 0))), ((z + 6), .inl (hT G 0, 60, .inl (fun _ => 0))), ((z + 7), .inl (hT G 0, 4, .inl (fun _ => 0))), ((z + 8), .inl (hT G 0, 4, .inl (fun _ => 0))), ((z + 9), .inl (hT G 0, 12, .inl (fun _ => 0))), ((z + 10), .inl (hT G 0, 200, .inl (fun _ => 0))), ((z + 11), .inl (hT G 0, 4, .inl (upd (upd (upd (upd (fun _ => 0) (Int32.toNatClampNeg 0) (-1)) (Int32.toNatClampNeg 1) (-1)) (Int32.toNatClampNeg 2) (-1)) (Int32.toNatClampNeg 3) (-1)))), ((z + 12), .inl (hT G 0, 4, .inl (fun _ => 0))), ((z + 13), .inl (hT G 0, 160, .inl (fun _ => 0))), ((z + 14), .inl (hT G 0, 4, .inl (fun _ => 0))), ((z + 15), .inl (hT G 0, 4, .inl (fun _ => 0))), ((z + 16), .inl (hT G 0, 4, .inl (fun _ => 0)))]) rfl ?_
  refine ke_aload_n hk (pc := 155) dX6_init_155 0 rfl rfl ?_
  refine ke_bipush hk (pc := 156) (v := 30) dX6_init_156 (by decide) ?_
  refine ke_newI (N := 30) hk hH hK (pc := 158) (by decide) (by decide) (by decide) (Nat.le_of_ble_eq_true rfl) (Nat.le_of_ble_eq_true rfl) dX6_init_158 ?_
  refine ke_num (k1 := 18) (n1 := 1922) rfl rfl ?_
  refine ke_putF hk hH hK (pc := 160) (q0 := 0) (ci := 0) (ty := .array (.int)) in_X6 tyX6 tyX6_ok nmX6 rfl rfl (i := 36) (by decide) q1583 rfl rfl rfl rfl rfl rfl (Nat.le_of_ble_eq_true rfl) dX6_init_160 ?_
  refine ke_aload_n hk (pc := 163) dX6_init_163 0 rfl rfl ?_
  refine ke_get hk hH hK (pc := 164) (q0 := 0) (ci := 0) (v := .ref (z + 0)) in_X6 rfl rfl (i := 0) (by decide) q1547 rfl rfl dX6_init_164 ?_
  refine ke_bipush hk (pc := 167) (v := 7) dX6_init_167 (by decide) ?_
  refine ke_iconst hk (pc := 169) (v := 1) dX6_init_169 (by decide) ?_
  refine ke_iast hk hH hK (pc := 170) (q0 := 1) rfl (by unfold vp_in; decide) dX6_init_170 ?_
  refine ke_aload_n hk (pc := 171) dX6_init_171 0 rfl rfl ?_
  refine ke_get hk hH hK (pc := 172) (q0 := 0) (ci := 0) (v := .ref (z + 0)) in_X6 rfl rfl (i := 0) (by decide) q1547 rfl rfl dX6_init_172 ?_
  refine ke_iconst hk (pc := 175) (v := 2) dX6_init_175 (by decide) ?_
  refine ke_bipush hk (pc := 176) (v := 12) dX6_init_176 (by decide) ?_
  refine ke_iast hk hH hK (pc := 178) (q0 := 1) rfl (by unfold vp_in; decide) dX6_init_178 ?_
  refine ke_norm (E' := [(q, .inr (0, [.ref (z + 0), .ref (z + 1), .ref (z + 2), .int 0, .ref (z + 3), .ref (z + 4), .ref (z + 5), .ref (z + 6), .ref (z + 7), .ref (z + 8), .int 0, .int 0, .int 0, .int 0, .int 0, .int 0, .int 0, .int 0, .int 0, .int 0, .ref (z + 9), .int 0, .ref (z + 10), .int 0, .int 0, .int 0, .int 0, .int 0, .int 0, .int 0, .ref (z + 11), .ref (z + 12), .ref (z + 13), .ref (z + 14), .ref (z + 15), .ref (z + 16), .ref (z + 17), .int 0, .int 0, .int 0, .int 0, .int 0])), ((z + 0), .inl (hT G 0, 368, .inl (upd (upd (fun _ => 0) (Int32.toNatClampNeg 7) 1) (Int32.toNatClampNeg 2) 12))), ((z + 1), .inl (hT G 0, 368, .inl (fun _ => 0))), ((z + 2), .inl (hT G 0, 368, .inl (fun _ => 0))), ((z + 3), .inl (hT G 0, 200, .inl (fun _ => 0))), ((z + 4), .inl (hT G 0, 64, .inl (fun _ => 0))), ((z + 5), .inl (hT G 0, 64, .inl (fun _ => 0))), ((z + 6), .inl (hT G 0, 60, .inl (fun _ => 0))), ((z + 7), .inl (hT G 0, 4, .inl (fun _ => 0))), ((z + 8), .inl (hT G 0, 4, .inl (fun _ => 0))), ((z + 9), .inl (hT G 0, 12, .inl (fun _ => 0))), ((z + 10), .inl (hT G 0, 200, .inl (fun _ => 0))), ((z + 11), .inl (hT G 0, 4, .inl (upd (upd (upd (upd (fun _ => 0) (Int32.toNatClampNeg 0) (-1)) (Int32.toNatClampNeg 1) (-1)) (Int32.toNatClampNeg 2) (-1)) (Int32.toNatClampNeg 3) (-1)))), ((z + 12), .inl (hT G 0, 4, .inl (fun _ => 0))), ((z + 13), .inl (hT G 0, 160, .inl (fun _ => 0))), ((z + 14), .inl (hT G 0, 4, .inl (fun _ => 0))), ((z + 15), .inl (hT G 0, 4, .inl (fun _ => 0))), ((z + 16), .inl (hT G 0, 4, .inl (fun _ => 0))), ((z + 17), .inl (hT G 0, 30, .inl (fun _ => 0)))]) rfl ?_
  refine ke_norm (E' := [(q, .inr (0, [.ref (z + 0), .ref (z + 1), .ref (z + 2), .int 0, .ref (z + 3), .ref (z + 4), .ref (z + 5), .ref (z + 6), .ref (z + 7), .ref (z + 8), .int 0, .int 0, .int 0, .int 0, .int 0, .int 0, .int 0, .int 0, .int 0, .int 0, .ref (z + 9), .int 0, .ref (z + 10), .int 0, .int 0, .int 0, .int 0, .int 0, .int 0, .int 0, .ref (z + 11), .ref (z + 12), .ref (z + 13), .ref (z + 14), .ref (z + 15), .ref (z + 16), .ref (z + 17), .int 0, .int 0, .int 0, .int 0, .int 0])), ((z + 0), .inl (hT G 0, 368, .inl (upd (upd (fun _ => 0) (Int32.toNatClampNeg 7) 1) (Int32.toNatClampNeg 2) 12))), ((z + 1), .inl (hT G 0, 368, .inl (fun _ => 0))), ((z + 2), .inl (hT G 0, 368, .inl (fun _ => 0))), ((z + 3), .inl (hT G 0, 200, .inl (fun _ => 0))), ((z + 4), .inl (hT G 0, 64, .inl (fun _ => 0))), ((z + 5), .inl (hT G 0, 64, .inl (fun _ => 0))), ((z + 6), .inl (hT G 0, 60, .inl (fun _ => 0))), ((z + 7), .inl (hT G 0, 4, .inl (fun _ => 0))), ((z + 8), .inl (hT G 0, 4, .inl (fun _ => 0))), ((z + 9), .inl (hT G 0, 12, .inl (fun _ => 0))), ((z + 10), .inl (hT G 0, 200, .inl (fun _ => 0))), ((z + 11), .inl (hT G 0, 4, .inl (upd (upd (upd (upd (fun _ => 0) (Int32.toNatClampNeg 0) (-1)) (Int32.toNatClampNeg 1) (-1)) (Int32.toNatClampNeg 2) (-1)) (Int32.toNatClampNeg 3) (-1)))), ((z + 12), .inl (hT G 0, 4, .inl (fun _ => 0))), ((z + 13), .inl (hT G 0, 160, .inl (fun _ => 0))), ((z + 14), .inl (hT G 0, 4, .inl (fun _ => 0))), ((z + 15), .inl (hT G 0, 4, .inl (fun _ => 0))), ((z + 16), .inl (hT G 0, 4, .inl (fun _ => 0))), ((z + 17), .inl (hT G 0, 30, .inl (fun _ => 0)))]) rfl ?_
  exact ke_retV hk (pc := 179) dX6_init_179
