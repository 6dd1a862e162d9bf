/-! THE COMPONENT's METHODS, printed by gen/gen2.py out of the byte code -/
set_option maxRecDepth 100000
section
variable {p : Program} {l : Launch} {e : Env} {R : Room} {s : State} {m : MethodId} {args : Array Value} {below : List Frame} {meth : Method} {c : Code}
variable {G : cG} {d : DS} {KK : State → Prop}
set_option maxHeartbeats 4000000 in
theorem cc_fJ8_bitCount (l : Launch) {G : cG} {KK : State → Prop} (hH : cH G KK) (d : DS)  (σ : SS) (a0 : Int32) (res : Int32) (hf : fJ8_bitCount a0 = some res) : jM l yJ8_bitCount (ws_ yJ8_bitCount cJ8_bitCount 1 (some .int)) 1 40 [.int a0] (cWo G d) (cnx d) KK σ (jR σ res) (hA G) d.2 := by
  refine jj_start [(0, .int a0)] (by decide) (Nat.le_of_ble_eq_true rfl) rfl (fun p e R s m args below meth c hk hK hsz => ?_) hf
  have hk : jk p R s m args meth c d.2 cJ8_bitCount 1 RJ8 1 40 (some .int) := hk
  unfold fJ8_bitCount
  refine jj_iload_n hk (pc := 0) dJ8_bitCount_0 0 rfl rfl ?_
  refine jj_iload_n hk (pc := 1) dJ8_bitCount_1 0 rfl rfl ?_
  refine jj_iconst hk (pc := 2) (v := (1 : Int32)) dJ8_bitCount_2 (by decide) ?_
  refine jj_iushr hk (pc := 3) dJ8_bitCount_3 ?_
  refine jj_ldc_w hk (pc := 4) q1052 dJ8_bitCount_4 ?_
  refine jj_iand hk (pc := 7) dJ8_bitCount_7 ?_
  refine jj_isub hk (pc := 8) dJ8_bitCount_8 ?_
  refine jj_istore_n hk (pc := 9) [(0, .int (a0 - (((a0.toUInt32 >>> ((1 : Int32).toUInt32 &&& Int32.toUInt32 31)).toInt32) &&& (1431655765 : Int32))))] dJ8_bitCount_9 rfl (Nat.le_of_ble_eq_true rfl) rfl ?_
  refine jj_iload_n hk (pc := 10) dJ8_bitCount_10 0 rfl rfl ?_
  refine jj_ldc_w hk (pc := 11) q1053 dJ8_bitCount_11 ?_
  refine jj_iand hk (pc := 14) dJ8_bitCount_14 ?_
  refine jj_iload_n hk (pc := 15) dJ8_bitCount_15 0 rfl rfl ?_
  refine jj_iconst hk (pc := 16) (v := (2 : Int32)) dJ8_bitCount_16 (by decide) ?_
  refine jj_iushr hk (pc := 17) dJ8_bitCount_17 ?_
  refine jj_ldc_w hk (pc := 18) q1053 dJ8_bitCount_18 ?_
  refine jj_iand hk (pc := 21) dJ8_bitCount_21 ?_
  refine jj_iadd hk (pc := 22) dJ8_bitCount_22 ?_
  refine jj_istore_n hk (pc := 23) [(0, .int (((a0 - (((a0.toUInt32 >>> ((1 : Int32).toUInt32 &&& Int32.toUInt32 31)).toInt32) &&& (1431655765 : Int32))) &&& (858993459 : Int32)) + ((((a0 - (((a0.toUInt32 >>> ((1 : Int32).toUInt32 &&& Int32.toUInt32 31)).toInt32) &&& (1431655765 : Int32))).toUInt32 >>> ((2 : Int32).toUInt32 &&& Int32.toUInt32 31)).toInt32) &&& (858993459 : Int32))))] dJ8_bitCount_23 rfl (Nat.le_of_ble_eq_true rfl) rfl ?_
  refine jj_iload_n hk (pc := 24) dJ8_bitCount_24 0 rfl rfl ?_
  refine jj_iload_n hk (pc := 25) dJ8_bitCount_25 0 rfl rfl ?_
  refine jj_iconst hk (pc := 26) (v := (4 : Int32)) dJ8_bitCount_26 (by decide) ?_
  refine jj_iushr hk (pc := 27) dJ8_bitCount_27 ?_
  refine jj_iadd hk (pc := 28) dJ8_bitCount_28 ?_
  refine jj_ldc_w hk (pc := 29) q1054 dJ8_bitCount_29 ?_
  refine jj_iand hk (pc := 32) dJ8_bitCount_32 ?_
  refine jj_istore_n hk (pc := 33) [(0, .int (((((a0 - (((a0.toUInt32 >>> ((1 : Int32).toUInt32 &&& Int32.toUInt32 31)).toInt32) &&& (1431655765 : Int32))) &&& (858993459 : Int32)) + ((((a0 - (((a0.toUInt32 >>> ((1 : Int32).toUInt32 &&& Int32.toUInt32 31)).toInt32) &&& (1431655765 : Int32))).toUInt32 >>> ((2 : Int32).toUInt32 &&& Int32.toUInt32 31)).toInt32) &&& (858993459 : Int32))) + (((((a0 - (((a0.toUInt32 >>> ((1 : Int32).toUInt32 &&& Int32.toUInt32 31)).toInt32) &&& (1431655765 : Int32))) &&& (858993459 : Int32)) + ((((a0 - (((a0.toUInt32 >>> ((1 : Int32).toUInt32 &&& Int32.toUInt32 31)).toInt32) &&& (1431655765 : Int32))).toUInt32 >>> ((2 : Int32).toUInt32 &&& Int32.toUInt32 31)).toInt32) &&& (858993459 : Int32))).toUInt32 >>> ((4 : Int32).toUInt32 &&& Int32.toUInt32 31)).toInt32)) &&& (252645135 : Int32)))] dJ8_bitCount_33 rfl (Nat.le_of_ble_eq_true rfl) rfl ?_
  refine jj_iload_n hk (pc := 34) dJ8_bitCount_34 0 rfl rfl ?_
  refine jj_iload_n hk (pc := 35) dJ8_bitCount_35 0 rfl rfl ?_
  refine jj_bipush hk (pc := 36) (v := (8 : Int32)) dJ8_bitCount_36 (by decide) ?_
  refine jj_iushr hk (pc := 38) dJ8_bitCount_38 ?_
  refine jj_iadd hk (pc := 39) dJ8_bitCount_39 ?_
  refine jj_istore_n hk (pc := 40) [(0, .int ((((((a0 - (((a0.toUInt32 >>> ((1 : Int32).toUInt32 &&& Int32.toUInt32 31)).toInt32) &&& (1431655765 : Int32))) &&& (858993459 : Int32)) + ((((a0 - (((a0.toUInt32 >>> ((1 : Int32).toUInt32 &&& Int32.toUInt32 31)).toInt32) &&& (1431655765 : Int32))).toUInt32 >>> ((2 : Int32).toUInt32 &&& Int32.toUInt32 31)).toInt32) &&& (858993459 : Int32))) + (((((a0 - (((a0.toUInt32 >>> ((1 : Int32).toUInt32 &&& Int32.toUInt32 31)).toInt32) &&& (1431655765 : Int32))) &&& (858993459 : Int32)) + ((((a0 - (((a0.toUInt32 >>> ((1 : Int32).toUInt32 &&& Int32.toUInt32 31)).toInt32) &&& (1431655765 : Int32))).toUInt32 >>> ((2 : Int32).toUInt32 &&& Int32.toUInt32 31)).toInt32) &&& (858993459 : Int32))).toUInt32 >>> ((4 : Int32).toUInt32 &&& Int32.toUInt32 31)).toInt32)) &&& (252645135 : Int32)) + (((((((a0 - (((a0.toUInt32 >>> ((1 : Int32).toUInt32 &&& Int32.toUInt32 31)).toInt32) &&& (1431655765 : Int32))) &&& (858993459 : Int32)) + ((((a0 - (((a0.toUInt32 >>> ((1 : Int32).toUInt32 &&& Int32.toUInt32 31)).toInt32) &&& (1431655765 : Int32))).toUInt32 >>> ((2 : Int32).toUInt32 &&& Int32.toUInt32 31)).toInt32) &&& (858993459 : Int32))) + (((((a0 - (((a0.toUInt32 >>> ((1 : Int32).toUInt32 &&& Int32.toUInt32 31)).toInt32) &&& (1431655765 : Int32))) &&& (858993459 : Int32)) + ((((a0 - (((a0.toUInt32 >>> ((1 : Int32).toUInt32 &&& Int32.toUInt32 31)).toInt32) &&& (1431655765 : Int32))).toUInt32 >>> ((2 : Int32).toUInt32 &&& Int32.toUInt32 31)).toInt32) &&& (858993459 : Int32))).toUInt32 >>> ((4 : Int32).toUInt32 &&& Int32.toUInt32 31)).toInt32)) &&& (252645135 : Int32)).toUInt32 >>> ((8 : Int32).toUInt32 &&& Int32.toUInt32 31)).toInt32)))] dJ8_bitCount_40 rfl (Nat.le_of_ble_eq_true rfl) rfl ?_
  refine jj_iload_n hk (pc := 41) dJ8_bitCount_41 0 rfl rfl ?_
  refine jj_iload_n hk (pc := 42) dJ8_bitCount_42 0 rfl rfl ?_
  refine jj_bipush hk (pc := 43) (v := (16 : Int32)) dJ8_bitCount_43 (by decide) ?_
  refine jj_iushr hk (pc := 45) dJ8_bitCount_45 ?_
  refine jj_iadd hk (pc := 46) dJ8_bitCount_46 ?_
  refine jj_istore_n hk (pc := 47) [(0, .int (((((((a0 - (((a0.toUInt32 >>> ((1 : Int32).toUInt32 &&& Int32.toUInt32 31)).toInt32) &&& (1431655765 : Int32))) &&& (858993459 : Int32)) + ((((a0 - (((a0.toUInt32 >>> ((1 : Int32).toUInt32 &&& Int32.toUInt32 31)).toInt32) &&& (1431655765 : Int32))).toUInt32 >>> ((2 : Int32).toUInt32 &&& Int32.toUInt32 31)).toInt32) &&& (858993459 : Int32))) + (((((a0 - (((a0.toUInt32 >>> ((1 : Int32).toUInt32 &&& Int32.toUInt32 31)).toInt32) &&& (1431655765 : Int32))) &&& (858993459 : Int32)) + ((((a0 - (((a0.toUInt32 >>> ((1 : Int32).toUInt32 &&& Int32.toUInt32 31)).toInt32) &&& (1431655765 : Int32))).toUInt32 >>> ((2 : Int32).toUInt32 &&& Int32.toUInt32 31)).toInt32) &&& (858993459 : Int32))).toUInt32 >>> ((4 : Int32).toUInt32 &&& Int32.toUInt32 31)).toInt32)) &&& (252645135 : Int32)) + (((((((a0 - (((a0.toUInt32 >>> ((1 : Int32).toUInt32 &&& Int32.toUInt32 31)).toInt32) &&& (1431655765 : Int32))) &&& (858993459 : Int32)) + ((((a0 - (((a0.toUInt32 >>> ((1 : Int32).toUInt32 &&& Int32.toUInt32 31)).toInt32) &&& (1431655765 : Int32))).toUInt32 >>> ((2 : Int32).toUInt32 &&& Int32.toUInt32 31)).toInt32) &&& (858993459 : Int32))) + (((((a0 - (((a0.toUInt32 >>> ((1 : Int32).toUInt32 &&& Int32.toUInt32 31)).toInt32) &&& (1431655765 : Int32))) &&& (858993459 : Int32)) + ((((a0 - (((a0.toUInt32 >>> ((1 : Int32).toUInt32 &&& Int32.toUInt32 31)).toInt32) &&& (1431655765 : Int32))).toUInt32 >>> ((2 : Int32).toUInt32 &&& Int32.toUInt32 31)).toInt32) &&& (858993459 : Int32))).toUInt32 >>> ((4 : Int32).toUInt32 &&& Int32.toUInt32 31)).toInt32)) &&& (252645135 : Int32)).toUInt32 >>> ((8 : Int32).toUInt32 &&& Int32.toUInt32 31)).toInt32)) + ((((((((a0 - (((a0.toUInt32 >>> ((1 : Int32).toUInt32 &&& Int32.toUInt32 31)).toInt32) &&& (1431655765 : Int32))) &&& (858993459 : Int32)) + ((((a0 - (((a0.toUInt32 >>> ((1 : Int32).toUInt32 &&& Int32.toUInt32 31)).toInt32) &&& (1431655765 : Int32))).toUInt32 >>> ((2 : Int32).toUInt32 &&& Int32.toUInt32 31)).toInt32) &&& (858993459 : Int32))) + (((((a0 - (((a0.toUInt32 >>> ((1 : Int32).toUInt32 &&& Int32.toUInt32 31)).toInt32) &&& (1431655765 : Int32))) &&& (858993459 : Int32)) + ((((a0 - (((a0.toUInt32 >>> ((1 : Int32).toUInt32 &&& Int32.toUInt32 31)).toInt32) &&& (1431655765 : Int32))).toUInt32 >>> ((2 : Int32).toUInt32 &&& Int32.toUInt32 31)).toInt32) &&& (858993459 : Int32))).toUInt32 >>> ((4 : Int32).toUInt32 &&& Int32.toUInt32 31)).toInt32)) &&& (252645135 : Int32)) + (((((((a0 - (((a0.toUInt32 >>> ((1 : Int32).toUInt32 &&& Int32.toUInt32 31)).toInt32) &&& (1431655765 : Int32))) &&& (858993459 : Int32)) + ((((a0 - (((a0.toUInt32 >>> ((1 : Int32).toUInt32 &&& Int32.toUInt32 31)).toInt32) &&& (1431655765 : Int32))).toUInt32 >>> ((2 : Int32).toUInt32 &&& Int32.toUInt32 31)).toInt32) &&& (858993459 : Int32))) + (((((a0 - (((a0.toUInt32 >>> ((1 : Int32).toUInt32 &&& Int32.toUInt32 31)).toInt32) &&& (1431655765 : Int32))) &&& (858993459 : Int32)) + ((((a0 - (((a0.toUInt32 >>> ((1 : Int32).toUInt32 &&& Int32.toUInt32 31)).toInt32) &&& (1431655765 : Int32))).toUInt32 >>> ((2 : Int32).toUInt32 &&& Int32.toUInt32 31)).toInt32) &&& (858993459 : Int32))).toUInt32 >>> ((4 : Int32).toUInt32 &&& Int32.toUInt32 31)).toInt32)) &&& (252645135 : Int32)).toUInt32 >>> ((8 : Int32).toUInt32 &&& Int32.toUInt32 31)).toInt32)).toUInt32 >>> ((16 : Int32).toUInt32 &&& Int32.toUInt32 31)).toInt32)))] dJ8_bitCount_47 rfl (Nat.le_of_ble_eq_true rfl) rfl ?_
  refine jj_iload_n hk (pc := 48) dJ8_bitCount_48 0 rfl rfl ?_
  refine jj_bipush hk (pc := 49) (v := (63 : Int32)) dJ8_bitCount_49 (by decide) ?_
  refine jj_iand hk (pc := 51) dJ8_bitCount_51 ?_
  exact jc_retRi hk (pc := 52) dJ8_bitCount_52
set_option maxHeartbeats 4000000 in
theorem wb_fJ8_numberOfTrailingZeros_B49 {res : Int32} (hk : jk p R s m args meth c d.2 cJ8_numberOfTrailingZeros 2 RJ8 1 40 (some .int)) (hH : cH G KK) (hK : KK s)  (σ : SS) (x0 : Int32) (x1 : Int32) : jj p l e R s m args below meth c (hA G) d.2 (jZ below args s (hA G) d.2 (jR σ res) (cWo G d) (cnx d)) (cWo G d) (cnx d) 2 σ 49 [(0, .int x0), (1, .int x1)] [] (fJ8_numberOfTrailingZeros_B49 x0 x1 = some res) := by
  unfold fJ8_numberOfTrailingZeros_B49
  refine jj_iload_n hk (pc := 49) dJ8_numberOfTrailingZeros_49 0 rfl rfl ?_
  refine jj_bipush hk (pc := 50) (v := (16 : Int32)) dJ8_numberOfTrailingZeros_50 (by decide) ?_
  refine jj_icmp_le hk (pc := 52) 62 dJ8_numberOfTrailingZeros_52 (by decide) ?_ ?_
  · refine jj_iload_n hk (pc := 62) dJ8_numberOfTrailingZeros_62 0 rfl rfl ?_
    refine jj_iconst hk (pc := 63) (v := (4 : Int32)) dJ8_numberOfTrailingZeros_63 (by decide) ?_
    refine jj_icmp_le hk (pc := 64) 74 dJ8_numberOfTrailingZeros_64 (by decide) ?_ ?_
    · refine jj_iload_n hk (pc := 74) dJ8_numberOfTrailingZeros_74 1 rfl rfl ?_
      refine jj_iload_n hk (pc := 75) dJ8_numberOfTrailingZeros_75 0 rfl rfl ?_
      refine jj_iconst hk (pc := 76) (v := (1 : Int32)) dJ8_numberOfTrailingZeros_76 (by decide) ?_
      refine jj_iushr hk (pc := 77) dJ8_numberOfTrailingZeros_77 ?_
      refine jj_iadd hk (pc := 78) dJ8_numberOfTrailingZeros_78 ?_
      exact jc_retRi hk (pc := 79) dJ8_numberOfTrailingZeros_79
    · refine jj_iinc hk (pc := 67) [(1, .int (x1 + 2)), (0, .int x0)] dJ8_numberOfTrailingZeros_67 1 rfl rfl (Nat.le_of_ble_eq_true rfl) rfl ?_
      refine jj_iload_n hk (pc := 70) dJ8_numberOfTrailingZeros_70 1 rfl rfl ?_
      refine jj_iconst hk (pc := 71) (v := (2 : Int32)) dJ8_numberOfTrailingZeros_71 (by decide) ?_
      refine jj_iushr hk (pc := 72) dJ8_numberOfTrailingZeros_72 ?_
      refine jj_istore_n hk (pc := 73) [(0, .int ((x0.toUInt32 >>> ((2 : Int32).toUInt32 &&& Int32.toUInt32 31)).toInt32)), (1, .int (x1 + 2))] dJ8_numberOfTrailingZeros_73 rfl (Nat.le_of_ble_eq_true rfl) rfl ?_
      refine jj_iload_n hk (pc := 74) dJ8_numberOfTrailingZeros_74 1 rfl rfl ?_
      refine jj_iload_n hk (pc := 75) dJ8_numberOfTrailingZeros_75 0 rfl rfl ?_
      refine jj_iconst hk (pc := 76) (v := (1 : Int32)) dJ8_numberOfTrailingZeros_76 (by decide) ?_
      refine jj_iushr hk (pc := 77) dJ8_numberOfTrailingZeros_77 ?_
      refine jj_iadd hk (pc := 78) dJ8_numberOfTrailingZeros_78 ?_
      exact jc_retRi hk (pc := 79) dJ8_numberOfTrailingZeros_79
  · refine jj_iinc hk (pc := 55) [(1, .int (x1 + 4)), (0, .int x0)] dJ8_numberOfTrailingZeros_55 1 rfl rfl (Nat.le_of_ble_eq_true rfl) rfl ?_
    refine jj_iload_n hk (pc := 58) dJ8_numberOfTrailingZeros_58 1 rfl rfl ?_
    refine jj_iconst hk (pc := 59) (v := (4 : Int32)) dJ8_numberOfTrailingZeros_59 (by decide) ?_
    refine jj_iushr hk (pc := 60) dJ8_numberOfTrailingZeros_60 ?_
    refine jj_istore_n hk (pc := 61) [(0, .int ((x0.toUInt32 >>> ((4 : Int32).toUInt32 &&& Int32.toUInt32 31)).toInt32)), (1, .int (x1 + 4))] dJ8_numberOfTrailingZeros_61 rfl (Nat.le_of_ble_eq_true rfl) rfl ?_
    refine jj_iload_n hk (pc := 62) dJ8_numberOfTrailingZeros_62 0 rfl rfl ?_
    refine jj_iconst hk (pc := 63) (v := (4 : Int32)) dJ8_numberOfTrailingZeros_63 (by decide) ?_
    refine jj_icmp_le hk (pc := 64) 74 dJ8_numberOfTrailingZeros_64 (by decide) ?_ ?_
    · refine jj_iload_n hk (pc := 74) dJ8_numberOfTrailingZeros_74 1 rfl rfl ?_
      refine jj_iload_n hk (pc := 75) dJ8_numberOfTrailingZeros_75 0 rfl rfl ?_
      refine jj_iconst hk (pc := 76) (v := (1 : Int32)) dJ8_numberOfTrailingZeros_76 (by decide) ?_
      refine jj_iushr hk (pc := 77) dJ8_numberOfTrailingZeros_77 ?_
      refine jj_iadd hk (pc := 78) dJ8_numberOfTrailingZeros_78 ?_
      exact jc_retRi hk (pc := 79) dJ8_numberOfTrailingZeros_79
    · refine jj_iinc hk (pc := 67) [(1, .int ((x1 + 4) + 2)), (0, .int ((x0.toUInt32 >>> ((4 : Int32).toUInt32 &&& Int32.toUInt32 31)).toInt32))] dJ8_numberOfTrailingZeros_67 1 rfl rfl (Nat.le_of_ble_eq_true rfl) rfl ?_
      refine jj_iload_n hk (pc := 70) dJ8_numberOfTrailingZeros_70 1 rfl rfl ?_
      refine jj_iconst hk (pc := 71) (v := (2 : Int32)) dJ8_numberOfTrailingZeros_71 (by decide) ?_
      refine jj_iushr hk (pc := 72) dJ8_numberOfTrailingZeros_72 ?_
      refine jj_istore_n hk (pc := 73) [(0, .int ((((x0.toUInt32 >>> ((4 : Int32).toUInt32 &&& Int32.toUInt32 31)).toInt32).toUInt32 >>> ((2 : Int32).toUInt32 &&& Int32.toUInt32 31)).toInt32)), (1, .int ((x1 + 4) + 2))] dJ8_numberOfTrailingZeros_73 rfl (Nat.le_of_ble_eq_true rfl) rfl ?_
      refine jj_iload_n hk (pc := 74) dJ8_numberOfTrailingZeros_74 1 rfl rfl ?_
      refine jj_iload_n hk (pc := 75) dJ8_numberOfTrailingZeros_75 0 rfl rfl ?_
      refine jj_iconst hk (pc := 76) (v := (1 : Int32)) dJ8_numberOfTrailingZeros_76 (by decide) ?_
      refine jj_iushr hk (pc := 77) dJ8_numberOfTrailingZeros_77 ?_
      refine jj_iadd hk (pc := 78) dJ8_numberOfTrailingZeros_78 ?_
      exact jc_retRi hk (pc := 79) dJ8_numberOfTrailingZeros_79
set_option maxHeartbeats 4000000 in
theorem cc_fJ8_numberOfTrailingZeros (l : Launch) {G : cG} {KK : State → Prop} (hH : cH G KK) (d : DS)  (σ : SS) (a0 : Int32) (res : Int32) (hf : fJ8_numberOfTrailingZeros a0 = some res) : jM l yJ8_numberOfTrailingZeros (ws_ yJ8_numberOfTrailingZeros cJ8_numberOfTrailingZeros 2 (some .int)) 1 40 [.int a0] (cWo G d) (cnx d) KK σ (jR σ res) (hA G) d.2 := by
  refine jj_start [(0, .int a0)] (by decide) (Nat.le_of_ble_eq_true rfl) rfl (fun p e R s m args below meth c hk hK hsz => ?_) hf
  have hk : jk p R s m args meth c d.2 cJ8_numberOfTrailingZeros 2 RJ8 1 40 (some .int) := hk
  unfold fJ8_numberOfTrailingZeros
  refine jj_iload_n hk (pc := 0) dJ8_numberOfTrailingZeros_0 0 rfl rfl ?_
  refine jj_iconst hk (pc := 1) (v := (-1 : Int32)) dJ8_numberOfTrailingZeros_1 (by decide) ?_
  refine jj_ixor hk (pc := 2) dJ8_numberOfTrailingZeros_2 ?_
  refine jj_iload_n hk (pc := 3) dJ8_numberOfTrailingZeros_3 0 rfl rfl ?_
  refine jj_iconst hk (pc := 4) (v := (1 : Int32)) dJ8_numberOfTrailingZeros_4 (by decide) ?_
  refine jj_isub hk (pc := 5) dJ8_numberOfTrailingZeros_5 ?_
  refine jj_iand hk (pc := 6) dJ8_numberOfTrailingZeros_6 ?_
  refine jj_istore_n hk (pc := 7) [(0, .int ((a0 ^^^ (-1 : Int32)) &&& (a0 - (1 : Int32))))] dJ8_numberOfTrailingZeros_7 rfl (Nat.le_of_ble_eq_true rfl) rfl ?_
  refine jj_iload_n hk (pc := 8) dJ8_numberOfTrailingZeros_8 0 rfl rfl ?_
  refine jj_if_gt hk (pc := 9) 17 dJ8_numberOfTrailingZeros_9 (by decide) ?_ ?_
  · refine jj_iconst hk (pc := 17) (v := (1 : Int32)) dJ8_numberOfTrailingZeros_17 (by decide) ?_
    refine jj_istore_n hk (pc := 18) [(1, .int (1 : Int32)), (0, .int ((a0 ^^^ (-1 : Int32)) &&& (a0 - (1 : Int32))))] dJ8_numberOfTrailingZeros_18 rfl (Nat.le_of_ble_eq_true rfl) rfl ?_
    refine jj_iload_n hk (pc := 19) dJ8_numberOfTrailingZeros_19 1 rfl rfl ?_
    refine jj_ldc_w hk (pc := 20) q1105 dJ8_numberOfTrailingZeros_20 ?_
    refine jj_icmp_le hk (pc := 23) 34 dJ8_numberOfTrailingZeros_23 (by decide) ?_ ?_
    · refine jj_iload_n hk (pc := 34) dJ8_numberOfTrailingZeros_34 1 rfl rfl ?_
      refine jj_sipush hk (pc := 35) (v := (256 : Int32)) dJ8_numberOfTrailingZeros_35 (by decide) ?_
      refine jj_icmp_le hk (pc := 38) 49 dJ8_numberOfTrailingZeros_38 (by decide) ?_ ?_
      · refine jj_loc [(0, .int ((a0 ^^^ (-1 : Int32)) &&& (a0 - (1 : Int32)))), (1, .int (1 : Int32))] [1, 0] rfl ?_
        exact wb_fJ8_numberOfTrailingZeros_B49 hk hH hK σ ((a0 ^^^ (-1 : Int32)) &&& (a0 - (1 : Int32))) (1 : Int32)
      · refine jj_iinc hk (pc := 41) [(1, .int ((1 : Int32) + 8)), (0, .int ((a0 ^^^ (-1 : Int32)) &&& (a0 - (1 : Int32))))] dJ8_numberOfTrailingZeros_41 0 rfl rfl (Nat.le_of_ble_eq_true rfl) rfl ?_
        refine jj_iload_n hk (pc := 44) dJ8_numberOfTrailingZeros_44 1 rfl rfl ?_
        refine jj_bipush hk (pc := 45) (v := (8 : Int32)) dJ8_numberOfTrailingZeros_45 (by decide) ?_
        refine jj_iushr hk (pc := 47) dJ8_numberOfTrailingZeros_47 ?_
        refine jj_istore_n hk (pc := 48) [(0, .int ((((a0 ^^^ (-1 : Int32)) &&& (a0 - (1 : Int32))).toUInt32 >>> ((8 : Int32).toUInt32 &&& Int32.toUInt32 31)).toInt32)), (1, .int ((1 : Int32) + 8))] dJ8_numberOfTrailingZeros_48 rfl (Nat.le_of_ble_eq_true rfl) rfl ?_
        refine jj_loc [(0, .int ((((a0 ^^^ (-1 : Int32)) &&& (a0 - (1 : Int32))).toUInt32 >>> ((8 : Int32).toUInt32 &&& Int32.toUInt32 31)).toInt32)), (1, .int ((1 : Int32) + 8))] [0, 1] rfl ?_
        exact wb_fJ8_numberOfTrailingZeros_B49 hk hH hK σ ((((a0 ^^^ (-1 : Int32)) &&& (a0 - (1 : Int32))).toUInt32 >>> ((8 : Int32).toUInt32 &&& Int32.toUInt32 31)).toInt32) ((1 : Int32) + 8)
    · refine jj_iinc hk (pc := 26) [(1, .int ((1 : Int32) + 16)), (0, .int ((a0 ^^^ (-1 : Int32)) &&& (a0 - (1 : Int32))))] dJ8_numberOfTrailingZeros_26 0 rfl rfl (Nat.le_of_ble_eq_true rfl) rfl ?_
      refine jj_iload_n hk (pc := 29) dJ8_numberOfTrailingZeros_29 1 rfl rfl ?_
      refine jj_bipush hk (pc := 30) (v := (16 : Int32)) dJ8_numberOfTrailingZeros_30 (by decide) ?_
      refine jj_iushr hk (pc := 32) dJ8_numberOfTrailingZeros_32 ?_
      refine jj_istore_n hk (pc := 33) [(0, .int ((((a0 ^^^ (-1 : Int32)) &&& (a0 - (1 : Int32))).toUInt32 >>> ((16 : Int32).toUInt32 &&& Int32.toUInt32 31)).toInt32)), (1, .int ((1 : Int32) + 16))] dJ8_numberOfTrailingZeros_33 rfl (Nat.le_of_ble_eq_true rfl) rfl ?_
      refine jj_iload_n hk (pc := 34) dJ8_numberOfTrailingZeros_34 0 rfl rfl ?_
      refine jj_sipush hk (pc := 35) (v := (256 : Int32)) dJ8_numberOfTrailingZeros_35 (by decide) ?_
      refine jj_icmp_le hk (pc := 38) 49 dJ8_numberOfTrailingZeros_38 (by decide) ?_ ?_
      · refine jj_loc [(0, .int ((((a0 ^^^ (-1 : Int32)) &&& (a0 - (1 : Int32))).toUInt32 >>> ((16 : Int32).toUInt32 &&& Int32.toUInt32 31)).toInt32)), (1, .int ((1 : Int32) + 16))] [0, 1] rfl ?_
        exact wb_fJ8_numberOfTrailingZeros_B49 hk hH hK σ ((((a0 ^^^ (-1 : Int32)) &&& (a0 - (1 : Int32))).toUInt32 >>> ((16 : Int32).toUInt32 &&& Int32.toUInt32 31)).toInt32) ((1 : Int32) + 16)
      · refine jj_iinc hk (pc := 41) [(1, .int (((1 : Int32) + 16) + 8)), (0, .int ((((a0 ^^^ (-1 : Int32)) &&& (a0 - (1 : Int32))).toUInt32 >>> ((16 : Int32).toUInt32 &&& Int32.toUInt32 31)).toInt32))] dJ8_numberOfTrailingZeros_41 1 rfl rfl (Nat.le_of_ble_eq_true rfl) rfl ?_
        refine jj_iload_n hk (pc := 44) dJ8_numberOfTrailingZeros_44 1 rfl rfl ?_
        refine jj_bipush hk (pc := 45) (v := (8 : Int32)) dJ8_numberOfTrailingZeros_45 (by decide) ?_
        refine jj_iushr hk (pc := 47) dJ8_numberOfTrailingZeros_47 ?_
        refine jj_istore_n hk (pc := 48) [(0, .int ((((((a0 ^^^ (-1 : Int32)) &&& (a0 - (1 : Int32))).toUInt32 >>> ((16 : Int32).toUInt32 &&& Int32.toUInt32 31)).toInt32).toUInt32 >>> ((8 : Int32).toUInt32 &&& Int32.toUInt32 31)).toInt32)), (1, .int (((1 : Int32) + 16) + 8))] dJ8_numberOfTrailingZeros_48 rfl (Nat.le_of_ble_eq_true rfl) rfl ?_
        refine jj_loc [(0, .int ((((((a0 ^^^ (-1 : Int32)) &&& (a0 - (1 : Int32))).toUInt32 >>> ((16 : Int32).toUInt32 &&& Int32.toUInt32 31)).toInt32).toUInt32 >>> ((8 : Int32).toUInt32 &&& Int32.toUInt32 31)).toInt32)), (1, .int (((1 : Int32) + 16) + 8))] [0, 1] rfl ?_
        exact wb_fJ8_numberOfTrailingZeros_B49 hk hH hK σ ((((((a0 ^^^ (-1 : Int32)) &&& (a0 - (1 : Int32))).toUInt32 >>> ((16 : Int32).toUInt32 &&& Int32.toUInt32 31)).toInt32).toUInt32 >>> ((8 : Int32).toUInt32 &&& Int32.toUInt32 31)).toInt32) (((1 : Int32) + 16) + 8)
  · refine jj_iload_n hk (pc := 12) dJ8_numberOfTrailingZeros_12 0 rfl rfl ?_
    refine jj_bipush hk (pc := 13) (v := (32 : Int32)) dJ8_numberOfTrailingZeros_13 (by decide) ?_
    refine jj_iand hk (pc := 15) dJ8_numberOfTrailingZeros_15 ?_
    exact jc_retRi hk (pc := 16) dJ8_numberOfTrailingZeros_16
set_option maxHeartbeats 4000000 in
theorem cc_f0_isOf (l : Launch) {G : cG} {KK : State → Prop} (hH : cH G KK) (d : DS)  (σ : SS) (a0 : Int32) (a1 : Int32) (res : Bool) (hf : f0_isOf a0 a1 = some res) : jM l yX0_isOf (ws_ yX0_isOf cX0_isOf 2 (some .boolean)) 1 40 [.int a0, .int a1] (cWo G d) (cnx d) KK σ (jRz σ res) (hA G) d.2 := by
  refine jj_start [(0, .int a0), (1, .int a1)] (by decide) (Nat.le_of_ble_eq_true rfl) rfl (fun p e R s m args below meth c hk hK hsz => ?_) hf
  have hk : jk p R s m args meth c d.2 cX0_isOf 2 RX0 1 40 (some .boolean) := hk
  unfold f0_isOf
  refine jj_iload_n hk (pc := 0) dX0_isOf_0 1 rfl rfl ?_
  refine jj_if_eq hk (pc := 1) 29 dX0_isOf_1 (by decide) ?_ ?_
  · refine jj_iconst hk (pc := 29) (v := (1 : Int32)) dX0_isOf_29 (by decide) ?_
    refine jj_goto hk (pc := 30) 34 dX0_isOf_30 (by decide) ?_
    exact jc_retRz hk (pc := 34) (b := true) dX0_isOf_34
  · refine jj_iload_n hk (pc := 4) dX0_isOf_4 1 rfl rfl ?_
    refine jj_iload_n hk (pc := 5) dX0_isOf_5 0 rfl rfl ?_
    refine jj_icmp_eq hk (pc := 6) 29 dX0_isOf_6 (by decide) ?_ ?_
    · refine jj_iconst hk (pc := 29) (v := (1 : Int32)) dX0_isOf_29 (by decide) ?_
      refine jj_goto hk (pc := 30) 34 dX0_isOf_30 (by decide) ?_
      exact jc_retRz hk (pc := 34) (b := true) dX0_isOf_34
    · refine jj_iload_n hk (pc := 9) dX0_isOf_9 1 rfl rfl ?_
      refine jj_iconst hk (pc := 10) (v := (2 : Int32)) dX0_isOf_10 (by decide) ?_
      refine jj_icmp_ne hk (pc := 11) 19 dX0_isOf_11 (by decide) ?_ ?_
      · refine jj_iload_n hk (pc := 19) dX0_isOf_19 1 rfl rfl ?_
        refine jj_iconst hk (pc := 20) (v := (4 : Int32)) dX0_isOf_20 (by decide) ?_
        refine jj_icmp_ne hk (pc := 21) 33 dX0_isOf_21 (by decide) ?_ ?_
        · refine jj_iconst hk (pc := 33) (v := (0 : Int32)) dX0_isOf_33 (by decide) ?_
          exact jc_retRz hk (pc := 34) (b := false) dX0_isOf_34
        · refine jj_iload_n hk (pc := 24) dX0_isOf_24 0 rfl rfl ?_
          refine jj_iconst hk (pc := 25) (v := (5 : Int32)) dX0_isOf_25 (by decide) ?_
          refine jj_icmp_ne hk (pc := 26) 33 dX0_isOf_26 (by decide) ?_ ?_
          · refine jj_iconst hk (pc := 33) (v := (0 : Int32)) dX0_isOf_33 (by decide) ?_
            exact jc_retRz hk (pc := 34) (b := false) dX0_isOf_34
          · refine jj_iconst hk (pc := 29) (v := (1 : Int32)) dX0_isOf_29 (by decide) ?_
            refine jj_goto hk (pc := 30) 34 dX0_isOf_30 (by decide) ?_
            exact jc_retRz hk (pc := 34) (b := true) dX0_isOf_34
      · refine jj_iload_n hk (pc := 14) dX0_isOf_14 0 rfl rfl ?_
        refine jj_iconst hk (pc := 15) (v := (3 : Int32)) dX0_isOf_15 (by decide) ?_
        refine jj_icmp_eq hk (pc := 16) 29 dX0_isOf_16 (by decide) ?_ ?_
        · refine jj_iconst hk (pc := 29) (v := (1 : Int32)) dX0_isOf_29 (by decide) ?_
          refine jj_goto hk (pc := 30) 34 dX0_isOf_30 (by decide) ?_
          exact jc_retRz hk (pc := 34) (b := true) dX0_isOf_34
        · refine jj_iload_n hk (pc := 19) dX0_isOf_19 1 rfl rfl ?_
          refine jj_iconst hk (pc := 20) (v := (4 : Int32)) dX0_isOf_20 (by decide) ?_
          refine jj_icmp_ne hk (pc := 21) 33 dX0_isOf_21 (by decide) ?_ ?_
          · refine jj_iconst hk (pc := 33) (v := (0 : Int32)) dX0_isOf_33 (by decide) ?_
            exact jc_retRz hk (pc := 34) (b := false) dX0_isOf_34
          · refine jj_iload_n hk (pc := 24) dX0_isOf_24 0 rfl rfl ?_
            refine jj_iconst hk (pc := 25) (v := (5 : Int32)) dX0_isOf_25 (by decide) ?_
            refine jj_icmp_ne hk (pc := 26) 33 dX0_isOf_26 (by decide) ?_ ?_
            · refine jj_iconst hk (pc := 33) (v := (0 : Int32)) dX0_isOf_33 (by decide) ?_
              exact jc_retRz hk (pc := 34) (b := false) dX0_isOf_34
            · refine jj_iconst hk (pc := 29) (v := (1 : Int32)) dX0_isOf_29 (by decide) ?_
              refine jj_goto hk (pc := 30) 34 dX0_isOf_30 (by decide) ?_
              exact jc_retRz hk (pc := 34) (b := true) dX0_isOf_34
set_option maxHeartbeats 4000000 in
theorem cc_f19_isFor (l : Launch) {G : cG} {KK : State → Prop} (hH : cH G KK) (d : DS)  (σ : SS) (q0 : Nat) (a0 : Int32) (res : Bool) (hf : f19_isFor d σ q0 a0 = some res) : jM l yX19_isFor (ws_ yX19_isFor cX19_isFor 3 (some .boolean)) 481 12040 [.ref q0, .int a0, .ref (ha G 54)] (cWo G d) (cnx d) KK σ (jRz σ res) (hA G) d.2 := by
  refine jj_start [(0, .ref q0), (1, .int a0), (2, .ref (ha G 54))] (by decide) (Nat.le_of_ble_eq_true rfl) rfl (fun p e R s m args below meth c hk hK hsz => ?_) hf
  have hk : jk p R s m args meth c d.2 cX19_isFor 3 RX19 481 12040 (some .boolean) := hk
  unfold f19_isFor
  refine jj_iload_n hk (pc := 0) dX19_isFor_0 1 rfl rfl ?_
  refine jj_aload_n hk (pc := 1) dX19_isFor_1 0 rfl rfl ?_
  refine jd_X19_kind hk hH hK (pc := 2) dX19_isFor_2 (fun q1 => ?_)
  refine kc_X19_0_isOf hk hH hK (pc := 5) (a0 := a0) (a1 := q1) (fun r h => cc_f0_isOf l hH d σ a0 q1 r h) dX19_isFor_5 ⟨Nat.le_of_ble_eq_true rfl, Nat.le_of_ble_eq_true rfl⟩ (Nat.le_of_ble_eq_true rfl) (fun r2 => ?_)
  refine jj_if_eq_b hk (pc := 8) 33 dX19_isFor_8 (by decide) ?_ ?_
  · refine jj_iconst hk (pc := 33) (v := (0 : Int32)) dX19_isFor_33 (by decide) ?_
    exact jc_retRz hk (pc := 34) (b := false) dX19_isFor_34
  · refine jj_aload_n hk (pc := 11) dX19_isFor_11 0 rfl rfl ?_
    refine jd_X19_condo hk hH hK (pc := 12) dX19_isFor_12 (fun q3 => ?_)
    refine jc_ifnull hk hH hK (pc := 15) 29 dX19_isFor_15 (by decide) ?_ ?_
    · refine jj_iconst hk (pc := 29) (v := (1 : Int32)) dX19_isFor_29 (by decide) ?_
      refine jj_goto hk (pc := 30) 34 dX19_isFor_30 (by decide) ?_
      exact jc_retRz hk (pc := 34) (b := true) dX19_isFor_34
    · refine jj_aload_n hk (pc := 18) dX19_isFor_18 0 rfl rfl ?_
      refine jd_X19_cond hk hH hK (pc := 19) dX19_isFor_19 (fun q4 => ?_)
      refine jj_aload_n hk (pc := 22) dX19_isFor_22 2 rfl rfl ?_
      refine kc_X19_HOLDS hk hH hK (pc := 23) (q0 := q4) (fun r h => hHolds_ok l hH d 80 σ q4 r h) dX19_isFor_23 ⟨Nat.le_of_ble_eq_true rfl, Nat.le_of_ble_eq_true rfl⟩ (Nat.le_of_ble_eq_true rfl) (fun r5 => ?_)
      refine jj_if_eq_b hk (pc := 26) 33 dX19_isFor_26 (by decide) ?_ ?_
      · refine jj_iconst hk (pc := 33) (v := (0 : Int32)) dX19_isFor_33 (by decide) ?_
        exact jc_retRz hk (pc := 34) (b := false) dX19_isFor_34
      · refine jj_iconst hk (pc := 29) (v := (1 : Int32)) dX19_isFor_29 (by decide) ?_
        refine jj_goto hk (pc := 30) 34 dX19_isFor_30 (by decide) ?_
        exact jc_retRz hk (pc := 34) (b := true) dX19_isFor_34
set_option maxHeartbeats 4000000 in
theorem cc_f19_reaches (l : Launch) {G : cG} {KK : State → Prop} (hH : cH G KK) (d : DS)  (σ : SS) (q0 : Nat) (a0 : Int32) (res : Int32) (hf : f19_reaches d q0 a0 = some res) : jM l yX19_reaches (ws_ yX19_reaches cX19_reaches 2 (some .int)) 1 40 [.ref q0, .int a0] (cWo G d) (cnx d) KK σ (jR σ res) (hA G) d.2 := by
  refine jj_start [(0, .ref q0), (1, .int a0)] (by decide) (Nat.le_of_ble_eq_true rfl) rfl (fun p e R s m args below meth c hk hK hsz => ?_) hf
  have hk : jk p R s m args meth c d.2 cX19_reaches 2 RX19 1 40 (some .int) := hk
  unfold f19_reaches
  refine jj_aload_n hk (pc := 0) dX19_reaches_0 0 rfl rfl ?_
  refine jd_X19_does hk hH hK (pc := 1) dX19_reaches_1 (fun q1 => ?_)
  refine jj_if_ne hk (pc := 4) 16 dX19_reaches_4 (by decide) ?_ ?_
  · refine jj_iload_n hk (pc := 16) dX19_reaches_16 1 rfl rfl ?_
    refine jj_aload_n hk (pc := 17) dX19_reaches_17 0 rfl rfl ?_
    refine jd_X19_n hk hH hK (pc := 18) dX19_reaches_18 (fun q2 => ?_)
    refine jj_isub hk (pc := 21) dX19_reaches_21 ?_
    exact jc_retRi hk (pc := 22) dX19_reaches_22
  · refine jj_iload_n hk (pc := 7) dX19_reaches_7 1 rfl rfl ?_
    refine jj_aload_n hk (pc := 8) dX19_reaches_8 0 rfl rfl ?_
    refine jd_X19_n hk hH hK (pc := 9) dX19_reaches_9 (fun q3 => ?_)
    refine jj_iadd hk (pc := 12) dX19_reaches_12 ?_
    refine jj_goto hk (pc := 13) 22 dX19_reaches_13 (by decide) ?_
    exact jc_retRi hk (pc := 22) dX19_reaches_22
set_option maxHeartbeats 4000000 in
theorem cc_f0_isIn (l : Launch) {G : cG} {KK : State → Prop} (hH : cH G KK) (d : DS)  (σ : SS) (a0 : Int32) (a1 : Int32) (a2 : Int32) (res : Bool) (hf : f0_isIn a0 a1 a2 = some res) : jM l yX0_isIn (ws_ yX0_isIn cX0_isIn 3 (some .boolean)) 1 40 [.int a0, .int a1, .int a2] (cWo G d) (cnx d) KK σ (jRz σ res) (hA G) d.2 := by
  refine jj_start [(0, .int a0), (1, .int a1), (2, .int a2)] (by decide) (Nat.le_of_ble_eq_true rfl) rfl (fun p e R s m args below meth c hk hK hsz => ?_) hf
  have hk : jk p R s m args meth c d.2 cX0_isIn 3 RX0 1 40 (some .boolean) := hk
  unfold f0_isIn
  refine jj_iload_n hk (pc := 0) dX0_isIn_0 0 rfl rfl ?_
  refine jj_iload_n hk (pc := 1) dX0_isIn_1 1 rfl rfl ?_
  refine jj_icmp_lt hk (pc := 2) 14 dX0_isIn_2 (by decide) ?_ ?_
  · refine jj_iconst hk (pc := 14) (v := (0 : Int32)) dX0_isIn_14 (by decide) ?_
    exact jc_retRz hk (pc := 15) (b := false) dX0_isIn_15
  · refine jj_iload_n hk (pc := 5) dX0_isIn_5 0 rfl rfl ?_
    refine jj_iload_n hk (pc := 6) dX0_isIn_6 2 rfl rfl ?_
    refine jj_icmp_gt hk (pc := 7) 14 dX0_isIn_7 (by decide) ?_ ?_
    · refine jj_iconst hk (pc := 14) (v := (0 : Int32)) dX0_isIn_14 (by decide) ?_
      exact jc_retRz hk (pc := 15) (b := false) dX0_isIn_15
    · refine jj_iconst hk (pc := 10) (v := (1 : Int32)) dX0_isIn_10 (by decide) ?_
      refine jj_goto hk (pc := 11) 15 dX0_isIn_11 (by decide) ?_
      exact jc_retRz hk (pc := 15) (b := true) dX0_isIn_15
set_option maxHeartbeats 4000000 in
theorem cc_f0_isPerson (l : Launch) {G : cG} {KK : State → Prop} (hH : cH G KK) (d : DS)  (σ : SS) (a0 : Int32) (res : Bool) (hf : f0_isPerson σ a0 = some res) : jM l yX0_isPerson (ws_ yX0_isPerson cX0_isPerson 2 (some .boolean)) 2 62 [.ref (ha G 0), .int a0] (cWo G d) (cnx d) KK σ (jRz σ res) (hA G) d.2 := by
  refine jj_start [(0, .ref (ha G 0)), (1, .int a0)] (by decide) (Nat.le_of_ble_eq_true rfl) rfl (fun p e R s m args below meth c hk hK hsz => ?_) hf
  have hk : jk p R s m args meth c d.2 cX0_isPerson 2 RX0 2 62 (some .boolean) := hk
  unfold f0_isPerson
  refine jj_iload_n hk (pc := 0) dX0_isPerson_0 1 rfl rfl ?_
  refine jj_iconst hk (pc := 1) (v := (0 : Int32)) dX0_isPerson_1 (by decide) ?_
  refine jj_aload_n hk (pc := 2) dX0_isPerson_2 0 rfl rfl ?_
  refine jc_g_now hk hH hK (pc := 3) dX0_isPerson_3 ?_
  refine jc_t_people hk hH hK (pc := 6) dX0_isPerson_6 ?_
  refine jj_iconst hk (pc := 9) (v := (1 : Int32)) dX0_isPerson_9 (by decide) ?_
  refine jj_isub hk (pc := 10) dX0_isPerson_10 ?_
  refine kc_X0_0_isIn hk hH hK (pc := 11) (a0 := a0) (a1 := (0 : Int32)) (a2 := ((σ.1 0) - (1 : Int32))) (fun r h => cc_f0_isIn l hH d σ a0 (0 : Int32) ((σ.1 0) - (1 : Int32)) r h) dX0_isPerson_11 ⟨Nat.le_of_ble_eq_true rfl, Nat.le_of_ble_eq_true rfl⟩ (Nat.le_of_ble_eq_true rfl) (fun r1 => ?_)
  exact jc_retRz hk (pc := 14) (b := r1) dX0_isPerson_14
set_option maxHeartbeats 4000000 in
theorem cc_f0_isDeed (l : Launch) {G : cG} {KK : State → Prop} (hH : cH G KK) (d : DS)  (σ : SS) (a0 : Int32) (res : Bool) (hf : f0_isDeed σ a0 = some res) : jM l yX0_isDeed (ws_ yX0_isDeed cX0_isDeed 2 (some .boolean)) 2 62 [.ref (ha G 0), .int a0] (cWo G d) (cnx d) KK σ (jRz σ res) (hA G) d.2 := by
  refine jj_start [(0, .ref (ha G 0)), (1, .int a0)] (by decide) (Nat.le_of_ble_eq_true rfl) rfl (fun p e R s m args below meth c hk hK hsz => ?_) hf
  have hk : jk p R s m args meth c d.2 cX0_isDeed 2 RX0 2 62 (some .boolean) := hk
  unfold f0_isDeed
  refine jj_iload_n hk (pc := 0) dX0_isDeed_0 1 rfl rfl ?_
  refine jj_iconst hk (pc := 1) (v := (0 : Int32)) dX0_isDeed_1 (by decide) ?_
  refine jj_aload_n hk (pc := 2) dX0_isDeed_2 0 rfl rfl ?_
  refine jc_g_now hk hH hK (pc := 3) dX0_isDeed_3 ?_
  refine jc_t_deeds hk hH hK (pc := 6) dX0_isDeed_6 ?_
  refine jj_iconst hk (pc := 9) (v := (1 : Int32)) dX0_isDeed_9 (by decide) ?_
  refine jj_isub hk (pc := 10) dX0_isDeed_10 ?_
  refine kc_X0_0_isIn hk hH hK (pc := 11) (a0 := a0) (a1 := (0 : Int32)) (a2 := ((σ.1 1) - (1 : Int32))) (fun r h => cc_f0_isIn l hH d σ a0 (0 : Int32) ((σ.1 1) - (1 : Int32)) r h) dX0_isDeed_11 ⟨Nat.le_of_ble_eq_true rfl, Nat.le_of_ble_eq_true rfl⟩ (Nat.le_of_ble_eq_true rfl) (fun r1 => ?_)
  exact jc_retRz hk (pc := 14) (b := r1) dX0_isDeed_14
set_option maxHeartbeats 4000000 in
theorem cc_f0_isKind (l : Launch) {G : cG} {KK : State → Prop} (hH : cH G KK) (d : DS)  (σ : SS) (a0 : Int32) (res : Bool) (hf : f0_isKind a0 = some res) : jM l yX0_isKind (ws_ yX0_isKind cX0_isKind 1 (some .boolean)) 2 62 [.int a0] (cWo G d) (cnx d) KK σ (jRz σ res) (hA G) d.2 := by
  refine jj_start [(0, .int a0)] (by decide) (Nat.le_of_ble_eq_true rfl) rfl (fun p e R s m args below meth c hk hK hsz => ?_) hf
  have hk : jk p R s m args meth c d.2 cX0_isKind 1 RX0 2 62 (some .boolean) := hk
  unfold f0_isKind
  refine jj_iload_n hk (pc := 0) dX0_isKind_0 0 rfl rfl ?_
  refine jj_iconst hk (pc := 1) (v := (1 : Int32)) dX0_isKind_1 (by decide) ?_
  refine jj_iconst hk (pc := 2) (v := (5 : Int32)) dX0_isKind_2 (by decide) ?_
  refine kc_X0_0_isIn hk hH hK (pc := 3) (a0 := a0) (a1 := (1 : Int32)) (a2 := (5 : Int32)) (fun r h => cc_f0_isIn l hH d σ a0 (1 : Int32) (5 : Int32) r h) dX0_isKind_3 ⟨Nat.le_of_ble_eq_true rfl, Nat.le_of_ble_eq_true rfl⟩ (Nat.le_of_ble_eq_true rfl) (fun r1 => ?_)
  exact jc_retRz hk (pc := 6) (b := r1) dX0_isKind_6
set_option maxHeartbeats 4000000 in
theorem cc_f0_isPart (l : Launch) {G : cG} {KK : State → Prop} (hH : cH G KK) (d : DS)  (σ : SS) (a0 : Int32) (res : Bool) (hf : f0_isPart a0 = some res) : jM l yX0_isPart (ws_ yX0_isPart cX0_isPart 1 (some .boolean)) 2 62 [.int a0] (cWo G d) (cnx d) KK σ (jRz σ res) (hA G) d.2 := by
  refine jj_start [(0, .int a0)] (by decide) (Nat.le_of_ble_eq_true rfl) rfl (fun p e R s m args below meth c hk hK hsz => ?_) hf
  have hk : jk p R s m args meth c d.2 cX0_isPart 1 RX0 2 62 (some .boolean) := hk
  unfold f0_isPart
  refine jj_iload_n hk (pc := 0) dX0_isPart_0 0 rfl rfl ?_
  refine jj_iconst hk (pc := 1) (v := (1 : Int32)) dX0_isPart_1 (by decide) ?_
  refine jj_bipush hk (pc := 2) (v := (9 : Int32)) dX0_isPart_2 (by decide) ?_
  refine kc_X0_0_isIn hk hH hK (pc := 4) (a0 := a0) (a1 := (1 : Int32)) (a2 := (9 : Int32)) (fun r h => cc_f0_isIn l hH d σ a0 (1 : Int32) (9 : Int32) r h) dX0_isPart_4 ⟨Nat.le_of_ble_eq_true rfl, Nat.le_of_ble_eq_true rfl⟩ (Nat.le_of_ble_eq_true rfl) (fun r1 => ?_)
  exact jc_retRz hk (pc := 7) (b := r1) dX0_isPart_7
set_option maxHeartbeats 4000000 in
theorem wb_f0_standsOf_L4 {res : Int32} (hk : jk p R s m args meth c d.2 cX0_standsOf 4 RX0 1 40 (some .int)) (hH : cH G KK) (hK : KK s) (N : Nat) (σ : SS) : ∀ (n : Nat) (x1 : Int32) (x2 : Int32) (x3 : Int32), jj p l e R s m args below meth c (hA G) d.2 (jZ below args s (hA G) d.2 (jR σ res) (cWo G d) (cnx d)) (cWo G d) (cnx d) 4 σ 4 [(0, .ref (ha G 0)), (1, .int x1), (2, .int x2), (3, .int x3)] [] (f0_standsOf_L4 N σ n x1 x2 x3 = some res) := by
  intro n
  induction n with
  | zero => intro x1 x2 x3; exact jj_eq (fun hz => by rw [f0_standsOf_L4] at hz; exact hz) jj_no
  | succ n ih =>
    intro x1 x2 x3
    rw [f0_standsOf_L4]
    refine jj_iload_n hk (pc := 4) dX0_standsOf_4 3 rfl rfl ?_
    refine jj_aload_n hk (pc := 5) dX0_standsOf_5 0 rfl rfl ?_
    refine jc_g_now hk hH hK (pc := 6) dX0_standsOf_6 ?_
    refine jc_t_deeds hk hH hK (pc := 9) dX0_standsOf_9 ?_
    refine jj_icmp_ge hk (pc := 12) 63 dX0_standsOf_12 (by decide) ?_ ?_
    · refine jj_iload_n hk (pc := 63) dX0_standsOf_63 2 rfl rfl ?_
      exact jc_retRi hk (pc := 64) dX0_standsOf_64
    · refine jj_iload_n hk (pc := 15) dX0_standsOf_15 2 rfl rfl ?_
      refine jj_aload_n hk (pc := 16) dX0_standsOf_16 0 rfl rfl ?_
      refine jc_g_now hk hH hK (pc := 17) dX0_standsOf_17 ?_
      refine jc_t_whose hk hH hK (pc := 20) dX0_standsOf_20 ?_
      refine jj_iload_n hk (pc := 23) dX0_standsOf_23 3 rfl rfl ?_
      refine jc_ld (j := 3) hk hH hK (pc := 24) (by decide) dX0_standsOf_24 (fun v1 => ?_)
      refine jj_iload_n hk (pc := 25) dX0_standsOf_25 1 rfl rfl ?_
      refine jj_icmp_ne hk (pc := 26) 54 dX0_standsOf_26 (by decide) ?_ ?_
      · refine jj_iconst hk (pc := 54) (v := (0 : Int32)) dX0_standsOf_54 (by decide) ?_
        refine jj_iadd hk (pc := 55) dX0_standsOf_55 ?_
        refine jj_istore_n hk (pc := 56) [(2, .int (x2 + (0 : Int32))), (0, .ref (ha G 0)), (1, .int x1), (3, .int x3)] dX0_standsOf_56 rfl (Nat.le_of_ble_eq_true rfl) rfl ?_
        refine jj_iinc hk (pc := 57) [(3, .int (x3 + 1)), (2, .int (x2 + (0 : Int32))), (0, .ref (ha G 0)), (1, .int x1)] dX0_standsOf_57 3 rfl rfl (Nat.le_of_ble_eq_true rfl) rfl ?_
        refine jj_goto hk (pc := 60) 4 dX0_standsOf_60 (by decide) ?_
        refine jj_loc [(0, .ref (ha G 0)), (1, .int x1), (2, .int (x2 + (0 : Int32))), (3, .int (x3 + 1))] [2, 3, 1, 0] rfl ?_
        exact ih x1 (x2 + (0 : Int32)) (x3 + 1)
      · refine jj_aload_n hk (pc := 29) dX0_standsOf_29 0 rfl rfl ?_
        refine jc_g_now hk hH hK (pc := 30) dX0_standsOf_30 ?_
        refine jc_t_so hk hH hK (pc := 33) dX0_standsOf_33 ?_
        refine jj_iload_n hk (pc := 36) dX0_standsOf_36 3 rfl rfl ?_
        refine jc_ld (j := 7) hk hH hK (pc := 37) (by decide) dX0_standsOf_37 (fun v2 => ?_)
        refine jj_iconst hk (pc := 38) (v := (1 : Int32)) dX0_standsOf_38 (by decide) ?_
        refine jj_icmp_ne hk (pc := 39) 54 dX0_standsOf_39 (by decide) ?_ ?_
        · refine jj_iconst hk (pc := 54) (v := (0 : Int32)) dX0_standsOf_54 (by decide) ?_
          refine jj_iadd hk (pc := 55) dX0_standsOf_55 ?_
          refine jj_istore_n hk (pc := 56) [(2, .int (x2 + (0 : Int32))), (0, .ref (ha G 0)), (1, .int x1), (3, .int x3)] dX0_standsOf_56 rfl (Nat.le_of_ble_eq_true rfl) rfl ?_
          refine jj_iinc hk (pc := 57) [(3, .int (x3 + 1)), (2, .int (x2 + (0 : Int32))), (0, .ref (ha G 0)), (1, .int x1)] dX0_standsOf_57 3 rfl rfl (Nat.le_of_ble_eq_true rfl) rfl ?_
          refine jj_goto hk (pc := 60) 4 dX0_standsOf_60 (by decide) ?_
          refine jj_loc [(0, .ref (ha G 0)), (1, .int x1), (2, .int (x2 + (0 : Int32))), (3, .int (x3 + 1))] [2, 3, 1, 0] rfl ?_
          exact ih x1 (x2 + (0 : Int32)) (x3 + 1)
        · refine jj_aload_n hk (pc := 42) dX0_standsOf_42 0 rfl rfl ?_
          refine jc_g_now hk hH hK (pc := 43) dX0_standsOf_43 ?_
          refine jc_t_weight hk hH hK (pc := 46) dX0_standsOf_46 ?_
          refine jj_iload_n hk (pc := 49) dX0_standsOf_49 3 rfl rfl ?_
          refine jc_ld (j := 5) hk hH hK (pc := 50) (by decide) dX0_standsOf_50 (fun v3 => ?_)
          refine jj_goto hk (pc := 51) 55 dX0_standsOf_51 (by decide) ?_
          refine jj_iadd hk (pc := 55) dX0_standsOf_55 ?_
          refine jj_istore_n hk (pc := 56) [(2, .int (x2 + v3)), (0, .ref (ha G 0)), (1, .int x1), (3, .int x3)] dX0_standsOf_56 rfl (Nat.le_of_ble_eq_true rfl) rfl ?_
          refine jj_iinc hk (pc := 57) [(3, .int (x3 + 1)), (2, .int (x2 + v3)), (0, .ref (ha G 0)), (1, .int x1)] dX0_standsOf_57 3 rfl rfl (Nat.le_of_ble_eq_true rfl) rfl ?_
          refine jj_goto hk (pc := 60) 4 dX0_standsOf_60 (by decide) ?_
          refine jj_loc [(0, .ref (ha G 0)), (1, .int x1), (2, .int (x2 + v3)), (3, .int (x3 + 1))] [2, 3, 1, 0] rfl ?_
          exact ih x1 (x2 + v3) (x3 + 1)
set_option maxHeartbeats 4000000 in
theorem cc_f0_standsOf (l : Launch) {G : cG} {KK : State → Prop} (hH : cH G KK) (d : DS) (N : Nat) (σ : SS) (a0 : Int32) (res : Int32) (hf : f0_standsOf N σ a0 = some res) : jM l yX0_standsOf (ws_ yX0_standsOf cX0_standsOf 4 (some .int)) 1 40 [.ref (ha G 0), .int a0] (cWo G d) (cnx d) KK σ (jR σ res) (hA G) d.2 := by
  refine jj_start [(0, .ref (ha G 0)), (1, .int a0)] (by decide) (Nat.le_of_ble_eq_true rfl) rfl (fun p e R s m args below meth c hk hK hsz => ?_) hf
  have hk : jk p R s m args meth c d.2 cX0_standsOf 4 RX0 1 40 (some .int) := hk
  unfold f0_standsOf
  refine jj_iconst hk (pc := 0) (v := (0 : Int32)) dX0_standsOf_0 (by decide) ?_
  refine jj_istore_n hk (pc := 1) [(2, .int (0 : Int32)), (0, .ref (ha G 0)), (1, .int a0)] dX0_standsOf_1 rfl (Nat.le_of_ble_eq_true rfl) rfl ?_
  refine jj_iconst hk (pc := 2) (v := (0 : Int32)) dX0_standsOf_2 (by decide) ?_
  refine jj_istore_n hk (pc := 3) [(3, .int (0 : Int32)), (2, .int (0 : Int32)), (0, .ref (ha G 0)), (1, .int a0)] dX0_standsOf_3 rfl (Nat.le_of_ble_eq_true rfl) rfl ?_
  refine jj_loc [(0, .ref (ha G 0)), (1, .int a0), (2, .int (0 : Int32)), (3, .int (0 : Int32))] [2, 3, 1, 0] rfl ?_
  exact wb_f0_standsOf_L4 hk hH hK N σ N a0 (0 : Int32) (0 : Int32)
set_option maxHeartbeats 4000000 in
theorem cc_f0_dueOf (l : Launch) {G : cG} {KK : State → Prop} (hH : cH G KK) (d : DS)  (σ : SS) (a0 : Int32) (res : Int32) (hf : f0_dueOf d σ a0 = some res) : jM l yX0_dueOf (ws_ yX0_dueOf cX0_dueOf 2 (some .int)) 5 200 [.ref (ha G 0), .int a0] (cWo G d) (cnx d) KK σ (jR σ res) (hA G) d.2 := by
  refine jj_start [(0, .ref (ha G 0)), (1, .int a0)] (by decide) (Nat.le_of_ble_eq_true rfl) rfl (fun p e R s m args below meth c hk hK hsz => ?_) hf
  have hk : jk p R s m args meth c d.2 cX0_dueOf 2 RX0 5 200 (some .int) := hk
  unfold f0_dueOf
  refine jj_aload_n hk (pc := 0) dX0_dueOf_0 0 rfl rfl ?_
  refine jc_g_now hk hH hK (pc := 1) dX0_dueOf_1 ?_
  refine jc_t_when hk hH hK (pc := 4) dX0_dueOf_4 ?_
  refine jj_iload_n hk (pc := 7) dX0_dueOf_7 1 rfl rfl ?_
  refine jc_ld (j := 4) hk hH hK (pc := 8) (by decide) dX0_dueOf_8 (fun v1 => ?_)
  refine jj_aload_n hk (pc := 9) dX0_dueOf_9 0 rfl rfl ?_
  refine jc_g_hands hk hH hK (pc := 10) dX0_dueOf_10 ?_
  refine jj_aload_n hk (pc := 13) dX0_dueOf_13 0 rfl rfl ?_
  refine jc_g_now hk hH hK (pc := 14) dX0_dueOf_14 ?_
  refine jc_t_whose hk hH hK (pc := 17) dX0_dueOf_17 ?_
  refine jj_iload_n hk (pc := 20) dX0_dueOf_20 1 rfl rfl ?_
  refine jc_ld (j := 3) hk hH hK (pc := 21) (by decide) dX0_dueOf_21 (fun v2 => ?_)
  refine jc_ldN0 hk hH hK (pc := 22) dX0_dueOf_22 (fun q3 => ?_)
  refine kc_X0_term hk hH hK (pc := 23) (q0 := q3)  dX0_dueOf_23 ⟨Nat.le_of_ble_eq_true rfl, Nat.le_of_ble_eq_true rfl⟩ (Nat.le_of_ble_eq_true rfl) (fun r4 => ?_)
  refine jj_iadd hk (pc := 26) dX0_dueOf_26 ?_
  exact jc_retRi hk (pc := 27) dX0_dueOf_27
set_option maxHeartbeats 4000000 in
theorem wb_f0_reachOf_L63 {res : (Int32 × SS)} (hk : jk p R s m args meth c d.2 cX0_reachOf 4 RX0 482 12062 (some .int)) (hH : cH G KK) (hK : KK s) (N : Nat) : ∀ (n : Nat) (σ : SS) (x1 : Int32) (x2 : Int32), jj p l e R s m args below meth c (hA G) d.2 (jZ below args s (hA G) d.2 (jU res) (cWo G d) (cnx d)) (cWo G d) (cnx d) 4 σ 63 [(0, .ref (ha G 0)), (1, .int x1), (2, .int x2)] [] (f0_reachOf_L63 N d n σ x1 x2 = some res) := by
  intro n
  induction n with
  | zero => intro σ x1 x2; exact jj_eq (fun hz => by rw [f0_reachOf_L63] at hz; exact hz) jj_no
  | succ n ih =>
    intro σ x1 x2
    rw [f0_reachOf_L63]
    refine jj_iload_n hk (pc := 63) dX0_reachOf_63 2 rfl rfl ?_
    refine jj_aload_n hk (pc := 64) dX0_reachOf_64 0 rfl rfl ?_
    refine jc_g_now hk hH hK (pc := 65) dX0_reachOf_65 ?_
    refine jc_t_rules hk hH hK (pc := 68) dX0_reachOf_68 (fun q1 => ?_)
    refine jc_dlnR hk hH hK (pc := 71) dX0_reachOf_71 (fun v2 => ?_)
    refine jj_icmp_ge hk (pc := 72) 138 dX0_reachOf_72 (by decide) ?_ ?_
    · refine jj_aload_n hk (pc := 138) dX0_reachOf_138 0 rfl rfl ?_
      refine jc_g_now hk hH hK (pc := 139) dX0_reachOf_139 ?_
      refine jc_t_year hk hH hK (pc := 142) dX0_reachOf_142 ?_
      exact jc_retUi hk (pc := 145) dX0_reachOf_145
    · refine jj_aload_n hk (pc := 75) dX0_reachOf_75 0 rfl rfl ?_
      refine jc_g_now hk hH hK (pc := 76) dX0_reachOf_76 ?_
      refine jc_t_rules hk hH hK (pc := 79) dX0_reachOf_79 (fun q3 => ?_)
      refine jj_iload_n hk (pc := 82) dX0_reachOf_82 2 rfl rfl ?_
      refine jc_dldR hk hH hK (pc := 83) dX0_reachOf_83 (fun q4 => ?_)
      refine jj_astore_n hk (pc := 84) [(3, .ref q4), (0, .ref (ha G 0)), (1, .int x1), (2, .int x2)] dX0_reachOf_84 rfl (Nat.le_of_ble_eq_true rfl) rfl ?_
      refine jj_aload_n hk (pc := 85) dX0_reachOf_85 0 rfl rfl ?_
      refine jj_aload_n hk (pc := 86) dX0_reachOf_86 1 rfl rfl ?_
      refine jc_g_now hk hH hK (pc := 87) dX0_reachOf_87 ?_
      refine jc_t_kind hk hH hK (pc := 90) dX0_reachOf_90 ?_
      refine jj_iload_n hk (pc := 93) dX0_reachOf_93 2 rfl rfl ?_
      refine jc_ld (j := 0) hk hH hK (pc := 94) (by decide) dX0_reachOf_94 (fun v5 => ?_)
      refine jj_aload_n hk (pc := 95) dX0_reachOf_95 1 rfl rfl ?_
      refine jc_g_facts hk hH hK (pc := 96) dX0_reachOf_96 ?_
      refine kc_X0_19_isFor hk hH hK (pc := 99) (q0 := q4) (a0 := v5) (fun r h => cc_f19_isFor l hH d σ q4 v5 r h) dX0_reachOf_99 ⟨Nat.le_of_ble_eq_true rfl, Nat.le_of_ble_eq_true rfl⟩ (Nat.le_of_ble_eq_true rfl) (fun r6 => ?_)
      refine jj_if_ne_b hk (pc := 102) 108 dX0_reachOf_102 (by decide) ?_ ?_
      · refine jj_aload_n hk (pc := 108) dX0_reachOf_108 0 rfl rfl ?_
        refine jd_X0_does hk hH hK (pc := 109) dX0_reachOf_109 (fun q7 => ?_)
        refine jj_iconst hk (pc := 112) (v := (2 : Int32)) dX0_reachOf_112 (by decide) ?_
        refine jj_icmp_ne hk (pc := 113) 120 dX0_reachOf_113 (by decide) ?_ ?_
        · refine jj_aload_n hk (pc := 120) dX0_reachOf_120 0 rfl rfl ?_
          refine jj_aload_n hk (pc := 121) dX0_reachOf_121 1 rfl rfl ?_
          refine jc_g_now hk hH hK (pc := 122) dX0_reachOf_122 ?_
          refine jc_t_year hk hH hK (pc := 125) dX0_reachOf_125 ?_
          refine kc_X0_19_reaches hk hH hK (pc := 128) (q0 := q4) (a0 := (σ.1 3)) (fun r h => cc_f19_reaches l hH d σ q4 (σ.1 3) r h) dX0_reachOf_128 ⟨Nat.le_of_ble_eq_true rfl, Nat.le_of_ble_eq_true rfl⟩ (Nat.le_of_ble_eq_true rfl) (fun r8 => ?_)
          exact jc_retUi hk (pc := 131) dX0_reachOf_131
        · refine jj_iconst hk (pc := 116) (v := (-1 : Int32)) dX0_reachOf_116 (by decide) ?_
          refine jj_goto hk (pc := 117) 131 dX0_reachOf_117 (by decide) ?_
          exact jc_retUi hk (pc := 131) dX0_reachOf_131
      · refine jj_goto hk (pc := 105) 132 dX0_reachOf_105 (by decide) ?_
        refine jj_iinc hk (pc := 132) [(2, .int (x2 + 1)), (3, .ref q4), (0, .ref (ha G 0)), (1, .int x1)] dX0_reachOf_132 3 rfl rfl (Nat.le_of_ble_eq_true rfl) rfl ?_
        refine jj_goto hk (pc := 135) 63 dX0_reachOf_135 (by decide) ?_
        refine jj_loc [(0, .ref (ha G 0)), (1, .int x1), (2, .int (x2 + 1))] [2, 3, 0] rfl ?_
        exact ih σ x1 (x2 + 1)
set_option maxHeartbeats 4000000 in
theorem cc_f0_reachOf (l : Launch) {G : cG} {KK : State → Prop} (hH : cH G KK) (d : DS) (N : Nat) (σ : SS) (a0 : Int32) (res : (Int32 × SS)) (hf : f0_reachOf N d σ a0 = some res) : jM l yX0_reachOf (ws_ yX0_reachOf cX0_reachOf 4 (some .int)) 482 12062 [.ref (ha G 0), .int a0] (cWo G d) (cnx d) KK σ (jU res) (hA G) d.2 := by
  refine jj_start [(0, .ref (ha G 0)), (1, .int a0)] (by decide) (Nat.le_of_ble_eq_true rfl) rfl (fun p e R s m args below meth c hk hK hsz => ?_) hf
  have hk : jk p R s m args meth c d.2 cX0_reachOf 4 RX0 482 12062 (some .int) := hk
  unfold f0_reachOf
  refine jj_aload_n hk (pc := 0) dX0_reachOf_0 0 rfl rfl ?_
  refine jc_g_facts hk hH hK (pc := 1) dX0_reachOf_1 ?_
  refine jj_iconst hk (pc := 4) (v := (0 : Int32)) dX0_reachOf_4 (by decide) ?_
  refine jj_aload_n hk (pc := 5) dX0_reachOf_5 0 rfl rfl ?_
  refine jc_g_now hk hH hK (pc := 6) dX0_reachOf_6 ?_
  refine jc_t_year hk hH hK (pc := 9) dX0_reachOf_9 ?_
  refine jc_st (j := 39) hk hH hK (pc := 12) (by decide) dX0_reachOf_12 (fun σ1 => ?_)
  refine jj_aload_n hk (pc := 13) dX0_reachOf_13 0 rfl rfl ?_
  refine jc_g_facts hk hH hK (pc := 14) dX0_reachOf_14 ?_
  refine jj_iconst hk (pc := 17) (v := (1 : Int32)) dX0_reachOf_17 (by decide) ?_
  refine jj_aload_n hk (pc := 18) dX0_reachOf_18 0 rfl rfl ?_
  refine jj_iload_n hk (pc := 19) dX0_reachOf_19 1 rfl rfl ?_
  refine kc_X0_0_standsOf hk hH hK (pc := 20) (a0 := a0) (fun r h => cc_f0_standsOf l hH d N σ1 a0 r h) dX0_reachOf_20 ⟨Nat.le_of_ble_eq_true rfl, Nat.le_of_ble_eq_true rfl⟩ (Nat.le_of_ble_eq_true rfl) (fun r2 => ?_)
  refine jc_st (j := 39) hk hH hK (pc := 23) (by decide) dX0_reachOf_23 (fun σ3 => ?_)
  refine jj_aload_n hk (pc := 24) dX0_reachOf_24 0 rfl rfl ?_
  refine jc_g_facts hk hH hK (pc := 25) dX0_reachOf_25 ?_
  refine jj_iconst hk (pc := 28) (v := (2 : Int32)) dX0_reachOf_28 (by decide) ?_
  refine jj_aload_n hk (pc := 29) dX0_reachOf_29 0 rfl rfl ?_
  refine jc_g_now hk hH hK (pc := 30) dX0_reachOf_30 ?_
  refine jc_t_grace hk hH hK (pc := 33) dX0_reachOf_33 ?_
  refine jj_iload_n hk (pc := 36) dX0_reachOf_36 1 rfl rfl ?_
  refine jc_ld (j := 1) hk hH hK (pc := 37) (by decide) dX0_reachOf_37 (fun v4 => ?_)
  refine jc_st (j := 39) hk hH hK (pc := 38) (by decide) dX0_reachOf_38 (fun σ5 => ?_)
  refine jj_aload_n hk (pc := 39) dX0_reachOf_39 0 rfl rfl ?_
  refine jc_g_facts hk hH hK (pc := 40) dX0_reachOf_40 ?_
  refine jj_iconst hk (pc := 43) (v := (3 : Int32)) dX0_reachOf_43 (by decide) ?_
  refine jj_aload_n hk (pc := 44) dX0_reachOf_44 0 rfl rfl ?_
  refine jc_g_now hk hH hK (pc := 45) dX0_reachOf_45 ?_
  refine jc_t_strength hk hH hK (pc := 48) dX0_reachOf_48 ?_
  refine jj_iload_n hk (pc := 51) dX0_reachOf_51 1 rfl rfl ?_
  refine jc_ld (j := 2) hk hH hK (pc := 52) (by decide) dX0_reachOf_52 (fun v6 => ?_)
  refine jc_st (j := 39) hk hH hK (pc := 53) (by decide) dX0_reachOf_53 (fun σ7 => ?_)
  refine jj_aload_n hk (pc := 54) dX0_reachOf_54 0 rfl rfl ?_
  refine jc_g_facts hk hH hK (pc := 55) dX0_reachOf_55 ?_
  refine jj_iconst hk (pc := 58) (v := (4 : Int32)) dX0_reachOf_58 (by decide) ?_
  refine jj_iload_n hk (pc := 59) dX0_reachOf_59 1 rfl rfl ?_
  refine jc_st (j := 39) hk hH hK (pc := 60) (by decide) dX0_reachOf_60 (fun σ8 => ?_)
  refine jj_iconst hk (pc := 61) (v := (0 : Int32)) dX0_reachOf_61 (by decide) ?_
  refine jj_istore_n hk (pc := 62) [(2, .int (0 : Int32)), (0, .ref (ha G 0)), (1, .int a0)] dX0_reachOf_62 rfl (Nat.le_of_ble_eq_true rfl) rfl ?_
  refine jj_loc [(0, .ref (ha G 0)), (1, .int a0), (2, .int (0 : Int32))] [1, 2, 0] rfl ?_
  exact wb_f0_reachOf_L63 hk hH hK N N σ8 a0 (0 : Int32)
set_option maxHeartbeats 4000000 in
theorem wb_f0_choiceOf_L39 {res : (Int32 × SS)} (hk : jk p R s m args meth c d.2 cX0_choiceOf 6 RX0 483 12085 (some .int)) (hH : cH G KK) (hK : KK s) (N : Nat) : ∀ (n : Nat) (σ : SS) (x1 : Int32) (x2 : Int32) (x3 : Int32) (x4 : Int32) (x5 : Int32), jj p l e R s m args below meth c (hA G) d.2 (jZ below args s (hA G) d.2 (jU res) (cWo G d) (cnx d)) (cWo G d) (cnx d) 6 σ 39 [(0, .ref (ha G 0)), (1, .int x1), (2, .int x2), (3, .int x3), (4, .int x4), (5, .int x5)] [] (f0_choiceOf_L39 N d n σ x1 x2 x3 x4 x5 = some res) := by
  intro n
  induction n with
  | zero => intro σ x1 x2 x3 x4 x5; exact jj_eq (fun hz => by rw [f0_choiceOf_L39] at hz; exact hz) jj_no
  | succ n ih =>
    intro σ x1 x2 x3 x4 x5
    rw [f0_choiceOf_L39]
    refine jj_iload hk (pc := 39) dX0_choiceOf_39 5 rfl ?_
    refine jj_aload_n hk (pc := 41) dX0_choiceOf_41 0 rfl rfl ?_
    refine jc_g_now hk hH hK (pc := 42) dX0_choiceOf_42 ?_
    refine jc_t_deeds hk hH hK (pc := 45) dX0_choiceOf_45 ?_
    refine jj_icmp_ge hk (pc := 48) 141 dX0_choiceOf_48 (by decide) ?_ ?_
    · refine jj_iload hk (pc := 141) dX0_choiceOf_141 4 rfl ?_
      exact jc_retUi hk (pc := 143) dX0_choiceOf_143
    · refine jj_aload_n hk (pc := 51) dX0_choiceOf_51 0 rfl rfl ?_
      refine jc_g_now hk hH hK (pc := 52) dX0_choiceOf_52 ?_
      refine jc_t_whose hk hH hK (pc := 55) dX0_choiceOf_55 ?_
      refine jj_iload hk (pc := 58) dX0_choiceOf_58 5 rfl ?_
      refine jc_ld (j := 3) hk hH hK (pc := 60) (by decide) dX0_choiceOf_60 (fun v1 => ?_)
      refine jj_iload_n hk (pc := 61) dX0_choiceOf_61 1 rfl rfl ?_
      refine jj_icmp_ne hk (pc := 62) 135 dX0_choiceOf_62 (by decide) ?_ ?_
      · refine jj_iinc hk (pc := 135) [(5, .int (x5 + 1)), (0, .ref (ha G 0)), (1, .int x1), (2, .int x2), (3, .int x3), (4, .int x4)] dX0_choiceOf_135 5 rfl rfl (Nat.le_of_ble_eq_true rfl) rfl ?_
        refine jj_goto hk (pc := 138) 39 dX0_choiceOf_138 (by decide) ?_
        refine jj_loc [(0, .ref (ha G 0)), (1, .int x1), (2, .int x2), (3, .int x3), (4, .int x4), (5, .int (x5 + 1))] [1, 2, 3, 4, 5, 0] rfl ?_
        exact ih σ x1 x2 x3 x4 (x5 + 1)
      · refine jj_aload_n hk (pc := 65) dX0_choiceOf_65 0 rfl rfl ?_
        refine jc_g_now hk hH hK (pc := 66) dX0_choiceOf_66 ?_
        refine jc_t_so hk hH hK (pc := 69) dX0_choiceOf_69 ?_
        refine jj_iload hk (pc := 72) dX0_choiceOf_72 5 rfl ?_
        refine jc_ld (j := 7) hk hH hK (pc := 74) (by decide) dX0_choiceOf_74 (fun v2 => ?_)
        refine jj_iconst hk (pc := 75) (v := (1 : Int32)) dX0_choiceOf_75 (by decide) ?_
        refine jj_icmp_ne hk (pc := 76) 135 dX0_choiceOf_76 (by decide) ?_ ?_
        · refine jj_iinc hk (pc := 135) [(5, .int (x5 + 1)), (0, .ref (ha G 0)), (1, .int x1), (2, .int x2), (3, .int x3), (4, .int x4)] dX0_choiceOf_135 5 rfl rfl (Nat.le_of_ble_eq_true rfl) rfl ?_
          refine jj_goto hk (pc := 138) 39 dX0_choiceOf_138 (by decide) ?_
          refine jj_loc [(0, .ref (ha G 0)), (1, .int x1), (2, .int x2), (3, .int x3), (4, .int x4), (5, .int (x5 + 1))] [1, 2, 3, 4, 5, 0] rfl ?_
          exact ih σ x1 x2 x3 x4 (x5 + 1)
        · refine jj_aload_n hk (pc := 79) dX0_choiceOf_79 0 rfl rfl ?_
          refine jc_g_now hk hH hK (pc := 80) dX0_choiceOf_80 ?_
          refine jc_t_weight hk hH hK (pc := 83) dX0_choiceOf_83 ?_
          refine jj_iload hk (pc := 86) dX0_choiceOf_86 5 rfl ?_
          refine jc_ld (j := 5) hk hH hK (pc := 88) (by decide) dX0_choiceOf_88 (fun v3 => ?_)
          refine jj_iload_n hk (pc := 89) dX0_choiceOf_89 3 rfl rfl ?_
          refine jj_icmp_gt hk (pc := 90) 135 dX0_choiceOf_90 (by decide) ?_ ?_
          · refine jj_iinc hk (pc := 135) [(5, .int (x5 + 1)), (0, .ref (ha G 0)), (1, .int x1), (2, .int x2), (3, .int x3), (4, .int x4)] dX0_choiceOf_135 5 rfl rfl (Nat.le_of_ble_eq_true rfl) rfl ?_
            refine jj_goto hk (pc := 138) 39 dX0_choiceOf_138 (by decide) ?_
            refine jj_loc [(0, .ref (ha G 0)), (1, .int x1), (2, .int x2), (3, .int x3), (4, .int x4), (5, .int (x5 + 1))] [1, 2, 3, 4, 5, 0] rfl ?_
            exact ih σ x1 x2 x3 x4 (x5 + 1)
          · refine jj_aload_n hk (pc := 93) dX0_choiceOf_93 0 rfl rfl ?_
            refine jj_iload hk (pc := 94) dX0_choiceOf_94 5 rfl ?_
            refine kc_X0_0_dueOf hk hH hK (pc := 96) (a0 := x5) (fun r h => cc_f0_dueOf l hH d σ x5 r h) dX0_choiceOf_96 ⟨Nat.le_of_ble_eq_true rfl, Nat.le_of_ble_eq_true rfl⟩ (Nat.le_of_ble_eq_true rfl) (fun r4 => ?_)
            refine jj_iload_n hk (pc := 99) dX0_choiceOf_99 2 rfl rfl ?_
            refine jj_icmp_le hk (pc := 100) 106 dX0_choiceOf_100 (by decide) ?_ ?_
            · refine jj_iload hk (pc := 106) dX0_choiceOf_106 4 rfl ?_
              refine jj_if_lt hk (pc := 108) 131 dX0_choiceOf_108 (by decide) ?_ ?_
              · refine jj_iload hk (pc := 131) dX0_choiceOf_131 5 rfl ?_
                refine jj_istore hk (pc := 133) [(4, .int x5), (0, .ref (ha G 0)), (1, .int x1), (2, .int x2), (3, .int x3), (5, .int x5)] dX0_choiceOf_133 (Nat.le_of_ble_eq_true rfl) rfl ?_
                refine jj_iinc hk (pc := 135) [(5, .int (x5 + 1)), (4, .int x5), (0, .ref (ha G 0)), (1, .int x1), (2, .int x2), (3, .int x3)] dX0_choiceOf_135 5 rfl rfl (Nat.le_of_ble_eq_true rfl) rfl ?_
                refine jj_goto hk (pc := 138) 39 dX0_choiceOf_138 (by decide) ?_
                refine jj_loc [(0, .ref (ha G 0)), (1, .int x1), (2, .int x2), (3, .int x3), (4, .int x5), (5, .int (x5 + 1))] [2, 3, 4, 5, 1, 0] rfl ?_
                exact ih σ x1 x2 x3 x5 (x5 + 1)
              · refine jj_aload_n hk (pc := 111) dX0_choiceOf_111 0 rfl rfl ?_
                refine jj_iload hk (pc := 112) dX0_choiceOf_112 4 rfl ?_
                refine kc_X0_0_dueOf hk hH hK (pc := 114) (a0 := x4) (fun r h => cc_f0_dueOf l hH d σ x4 r h) dX0_choiceOf_114 ⟨Nat.le_of_ble_eq_true rfl, Nat.le_of_ble_eq_true rfl⟩ (Nat.le_of_ble_eq_true rfl) (fun r5 => ?_)
                refine jj_aload_n hk (pc := 117) dX0_choiceOf_117 0 rfl rfl ?_
                refine jj_iload hk (pc := 118) dX0_choiceOf_118 5 rfl ?_
                refine kc_X0_0_dueOf hk hH hK (pc := 120) (a0 := x5) (fun r h => cc_f0_dueOf l hH d σ x5 r h) dX0_choiceOf_120 ⟨Nat.le_of_ble_eq_true rfl, Nat.le_of_ble_eq_true rfl⟩ (Nat.le_of_ble_eq_true rfl) (fun r6 => ?_)
                refine jj_icmp_gt hk (pc := 123) 131 dX0_choiceOf_123 (by decide) ?_ ?_
                · refine jj_iload hk (pc := 131) dX0_choiceOf_131 5 rfl ?_
                  refine jj_istore hk (pc := 133) [(4, .int x5), (0, .ref (ha G 0)), (1, .int x1), (2, .int x2), (3, .int x3), (5, .int x5)] dX0_choiceOf_133 (Nat.le_of_ble_eq_true rfl) rfl ?_
                  refine jj_iinc hk (pc := 135) [(5, .int (x5 + 1)), (4, .int x5), (0, .ref (ha G 0)), (1, .int x1), (2, .int x2), (3, .int x3)] dX0_choiceOf_135 5 rfl rfl (Nat.le_of_ble_eq_true rfl) rfl ?_
                  refine jj_goto hk (pc := 138) 39 dX0_choiceOf_138 (by decide) ?_
                  refine jj_loc [(0, .ref (ha G 0)), (1, .int x1), (2, .int x2), (3, .int x3), (4, .int x5), (5, .int (x5 + 1))] [2, 3, 4, 5, 1, 0] rfl ?_
                  exact ih σ x1 x2 x3 x5 (x5 + 1)
                · refine jj_iload hk (pc := 126) dX0_choiceOf_126 4 rfl ?_
                  refine jj_goto hk (pc := 128) 133 dX0_choiceOf_128 (by decide) ?_
                  refine jj_istore hk (pc := 133) [(4, .int x4), (0, .ref (ha G 0)), (1, .int x1), (2, .int x2), (3, .int x3), (5, .int x5)] dX0_choiceOf_133 (Nat.le_of_ble_eq_true rfl) rfl ?_
                  refine jj_iinc hk (pc := 135) [(5, .int (x5 + 1)), (4, .int x4), (0, .ref (ha G 0)), (1, .int x1), (2, .int x2), (3, .int x3)] dX0_choiceOf_135 5 rfl rfl (Nat.le_of_ble_eq_true rfl) rfl ?_
                  refine jj_goto hk (pc := 138) 39 dX0_choiceOf_138 (by decide) ?_
                  refine jj_loc [(0, .ref (ha G 0)), (1, .int x1), (2, .int x2), (3, .int x3), (4, .int x4), (5, .int (x5 + 1))] [2, 3, 4, 5, 1, 0] rfl ?_
                  exact ih σ x1 x2 x3 x4 (x5 + 1)
            · refine jj_goto hk (pc := 103) 135 dX0_choiceOf_103 (by decide) ?_
              refine jj_iinc hk (pc := 135) [(5, .int (x5 + 1)), (0, .ref (ha G 0)), (1, .int x1), (2, .int x2), (3, .int x3), (4, .int x4)] dX0_choiceOf_135 5 rfl rfl (Nat.le_of_ble_eq_true rfl) rfl ?_
              refine jj_goto hk (pc := 138) 39 dX0_choiceOf_138 (by decide) ?_
              refine jj_loc [(0, .ref (ha G 0)), (1, .int x1), (2, .int x2), (3, .int x3), (4, .int x4), (5, .int (x5 + 1))] [1, 2, 3, 4, 5, 0] rfl ?_
              exact ih σ x1 x2 x3 x4 (x5 + 1)
set_option maxHeartbeats 4000000 in
theorem cc_f0_choiceOf (l : Launch) {G : cG} {KK : State → Prop} (hH : cH G KK) (d : DS) (N : Nat) (σ : SS) (a0 : Int32) (res : (Int32 × SS)) (hf : f0_choiceOf N d σ a0 = some res) : jM l yX0_choiceOf (ws_ yX0_choiceOf cX0_choiceOf 6 (some .int)) 483 12085 [.ref (ha G 0), .int a0] (cWo G d) (cnx d) KK σ (jU res) (hA G) d.2 := by
  refine jj_start [(0, .ref (ha G 0)), (1, .int a0)] (by decide) (Nat.le_of_ble_eq_true rfl) rfl (fun p e R s m args below meth c hk hK hsz => ?_) hf
  have hk : jk p R s m args meth c d.2 cX0_choiceOf 6 RX0 483 12085 (some .int) := hk
  unfold f0_choiceOf
  refine jj_aload_n hk (pc := 0) dX0_choiceOf_0 0 rfl rfl ?_
  refine jj_iload_n hk (pc := 1) dX0_choiceOf_1 1 rfl rfl ?_
  refine kc_X0_0_reachOf hk hH hK (pc := 2) (a0 := a0) (fun r h => cc_f0_reachOf l hH d N σ a0 r h) dX0_choiceOf_2 ⟨Nat.le_of_ble_eq_true rfl, Nat.le_of_ble_eq_true rfl⟩ (Nat.le_of_ble_eq_true rfl) (fun r1 => ?_)
  refine jj_istore_n hk (pc := 5) [(2, .int r1.1), (0, .ref (ha G 0)), (1, .int a0)] dX0_choiceOf_5 rfl (Nat.le_of_ble_eq_true rfl) rfl ?_
  refine jj_aload_n hk (pc := 6) dX0_choiceOf_6 1 rfl rfl ?_
  refine jc_g_hands hk hH hK (pc := 7) dX0_choiceOf_7 ?_
  refine jj_iload_n hk (pc := 10) dX0_choiceOf_10 2 rfl rfl ?_
  refine jc_ldN0 hk hH hK (pc := 11) dX0_choiceOf_11 (fun q2 => ?_)
  refine jj_aload_n hk (pc := 12) dX0_choiceOf_12 1 rfl rfl ?_
  refine jc_g_now hk hH hK (pc := 13) dX0_choiceOf_13 ?_
  refine jc_t_strength hk hH hK (pc := 16) dX0_choiceOf_16 ?_
  refine jj_iload_n hk (pc := 19) dX0_choiceOf_19 2 rfl rfl ?_
  refine jc_ld (j := 2) hk hH hK (pc := 20) (by decide) dX0_choiceOf_20 (fun v3 => ?_)
  refine jj_aload_n hk (pc := 21) dX0_choiceOf_21 1 rfl rfl ?_
  refine jc_g_now hk hH hK (pc := 22) dX0_choiceOf_22 ?_
  refine jc_t_year hk hH hK (pc := 25) dX0_choiceOf_25 ?_
  refine kc_X0_pull hk hH hK (pc := 28) (q0 := q2) (a0 := v3) (a1 := (r1.2.1 3))  dX0_choiceOf_28 ⟨Nat.le_of_ble_eq_true rfl, Nat.le_of_ble_eq_true rfl⟩ (Nat.le_of_ble_eq_true rfl) (fun r4 => ?_)
  refine jj_istore_n hk (pc := 31) [(3, .int r4), (2, .int r1.1), (0, .ref (ha G 0)), (1, .int a0)] dX0_choiceOf_31 rfl (Nat.le_of_ble_eq_true rfl) rfl ?_
  refine jj_bipush hk (pc := 32) (v := (-3 : Int32)) dX0_choiceOf_32 (by decide) ?_
  refine jj_istore hk (pc := 34) [(4, .int (-3 : Int32)), (3, .int r4), (2, .int r1.1), (0, .ref (ha G 0)), (1, .int a0)] dX0_choiceOf_34 (Nat.le_of_ble_eq_true rfl) rfl ?_
  refine jj_iconst hk (pc := 36) (v := (0 : Int32)) dX0_choiceOf_36 (by decide) ?_
  refine jj_istore hk (pc := 37) [(5, .int (0 : Int32)), (4, .int (-3 : Int32)), (3, .int r4), (2, .int r1.1), (0, .ref (ha G 0)), (1, .int a0)] dX0_choiceOf_37 (Nat.le_of_ble_eq_true rfl) rfl ?_
  refine jj_loc [(0, .ref (ha G 0)), (1, .int a0), (2, .int r1.1), (3, .int r4), (4, .int (-3 : Int32)), (5, .int (0 : Int32))] [4, 5, 3, 2, 1, 0] rfl ?_
  exact wb_f0_choiceOf_L39 hk hH hK N N r1.2 a0 r1.1 r4 (-3 : Int32) (0 : Int32)
set_option maxHeartbeats 4000000 in
theorem cc_f0_personOf (l : Launch) {G : cG} {KK : State → Prop} (hH : cH G KK) (d : DS) (N : Nat) (σ : SS) (a0 : Int32) (a1 : Int32) (res : (Int32 × SS)) (hf : f0_personOf N d σ a0 a1 = some res) : jM l yX0_personOf (ws_ yX0_personOf cX0_personOf 3 (some .int)) 484 12110 [.ref (ha G 0), .int a0, .int a1] (cWo G d) (cnx d) KK σ (jU res) (hA G) d.2 := by
  refine jj_start [(0, .ref (ha G 0)), (1, .int a0), (2, .int a1)] (by decide) (Nat.le_of_ble_eq_true rfl) rfl (fun p e R s m args below meth c hk hK hsz => ?_) hf
  have hk : jk p R s m args meth c d.2 cX0_personOf 3 RX0 484 12110 (some .int) := hk
  unfold f0_personOf
  refine jj_aload_n hk (pc := 0) dX0_personOf_0 0 rfl rfl ?_
  refine jj_iload_n hk (pc := 1) dX0_personOf_1 1 rfl rfl ?_
  refine kc_X0_0_isPerson hk hH hK (pc := 2) (a0 := a0) (fun r h => cc_f0_isPerson l hH d σ a0 r h) dX0_personOf_2 ⟨Nat.le_of_ble_eq_true rfl, Nat.le_of_ble_eq_true rfl⟩ (Nat.le_of_ble_eq_true rfl) (fun r1 => ?_)
  refine jj_if_ne_b hk (pc := 5) 10 dX0_personOf_5 (by decide) ?_ ?_
  · refine jj_iload_n hk (pc := 10) dX0_personOf_10 2 rfl rfl ?_
    refine jj_ite (fun c_11_0 => ?_) (fun c_11_0 => ?_)
    · refine jj_tIn hk (pc := 11) (k := (0 : Int32)) (t := 0) 48 c_11_0 dX0_personOf_11 (by decide) rfl rfl (by decide) ?_
      refine jj_aload_n hk (pc := 48) dX0_personOf_48 0 rfl rfl ?_
      refine jc_g_now hk hH hK (pc := 49) dX0_personOf_49 ?_
      refine jc_t_kind hk hH hK (pc := 52) dX0_personOf_52 ?_
      refine jj_iload_n hk (pc := 55) dX0_personOf_55 1 rfl rfl ?_
      refine jc_ld (j := 0) hk hH hK (pc := 56) (by decide) dX0_personOf_56 (fun v2 => ?_)
      exact jc_retUi hk (pc := 57) dX0_personOf_57
    refine jj_ite (fun c_11_1 => ?_) (fun c_11_1 => ?_)
    · refine jj_tIn hk (pc := 11) (k := (1 : Int32)) (t := 1) 58 c_11_1 dX0_personOf_11 (by decide) rfl rfl (by decide) ?_
      refine jj_aload_n hk (pc := 58) dX0_personOf_58 0 rfl rfl ?_
      refine jc_g_now hk hH hK (pc := 59) dX0_personOf_59 ?_
      refine jc_t_grace hk hH hK (pc := 62) dX0_personOf_62 ?_
      refine jj_iload_n hk (pc := 65) dX0_personOf_65 1 rfl rfl ?_
      refine jc_ld (j := 1) hk hH hK (pc := 66) (by decide) dX0_personOf_66 (fun v3 => ?_)
      exact jc_retUi hk (pc := 67) dX0_personOf_67
    refine jj_ite (fun c_11_2 => ?_) (fun c_11_2 => ?_)
    · refine jj_tIn hk (pc := 11) (k := (2 : Int32)) (t := 2) 68 c_11_2 dX0_personOf_11 (by decide) rfl rfl (by decide) ?_
      refine jj_aload_n hk (pc := 68) dX0_personOf_68 0 rfl rfl ?_
      refine jc_g_now hk hH hK (pc := 69) dX0_personOf_69 ?_
      refine jc_t_strength hk hH hK (pc := 72) dX0_personOf_72 ?_
      refine jj_iload_n hk (pc := 75) dX0_personOf_75 1 rfl rfl ?_
      refine jc_ld (j := 2) hk hH hK (pc := 76) (by decide) dX0_personOf_76 (fun v4 => ?_)
      exact jc_retUi hk (pc := 77) dX0_personOf_77
    refine jj_ite (fun c_11_3 => ?_) (fun c_11_3 => ?_)
    · refine jj_tIn hk (pc := 11) (k := (3 : Int32)) (t := 3) 78 c_11_3 dX0_personOf_11 (by decide) rfl rfl (by decide) ?_
      refine jj_aload_n hk (pc := 78) dX0_personOf_78 0 rfl rfl ?_
      refine jj_iload_n hk (pc := 79) dX0_personOf_79 1 rfl rfl ?_
      refine kc_X0_0_standsOf hk hH hK (pc := 80) (a0 := a0) (fun r h => cc_f0_standsOf l hH d N σ a0 r h) dX0_personOf_80 ⟨Nat.le_of_ble_eq_true rfl, Nat.le_of_ble_eq_true rfl⟩ (Nat.le_of_ble_eq_true rfl) (fun r5 => ?_)
      exact jc_retUi hk (pc := 83) dX0_personOf_83
    refine jj_ite (fun c_11_4 => ?_) (fun c_11_4 => ?_)
    · refine jj_tIn hk (pc := 11) (k := (4 : Int32)) (t := 4) 84 c_11_4 dX0_personOf_11 (by decide) rfl rfl (by decide) ?_
      refine jj_aload_n hk (pc := 84) dX0_personOf_84 0 rfl rfl ?_
      refine jc_g_hands hk hH hK (pc := 85) dX0_personOf_85 ?_
      refine jj_iload_n hk (pc := 88) dX0_personOf_88 1 rfl rfl ?_
      refine jc_ldN0 hk hH hK (pc := 89) dX0_personOf_89 (fun q6 => ?_)
      refine jj_aload_n hk (pc := 90) dX0_personOf_90 0 rfl rfl ?_
      refine jc_g_now hk hH hK (pc := 91) dX0_personOf_91 ?_
      refine jc_t_strength hk hH hK (pc := 94) dX0_personOf_94 ?_
      refine jj_iload_n hk (pc := 97) dX0_personOf_97 1 rfl rfl ?_
      refine jc_ld (j := 2) hk hH hK (pc := 98) (by decide) dX0_personOf_98 (fun v7 => ?_)
      refine jj_aload_n hk (pc := 99) dX0_personOf_99 0 rfl rfl ?_
      refine jc_g_now hk hH hK (pc := 100) dX0_personOf_100 ?_
      refine jc_t_year hk hH hK (pc := 103) dX0_personOf_103 ?_
      refine kc_X0_pull hk hH hK (pc := 106) (q0 := q6) (a0 := v7) (a1 := (σ.1 3))  dX0_personOf_106 ⟨Nat.le_of_ble_eq_true rfl, Nat.le_of_ble_eq_true rfl⟩ (Nat.le_of_ble_eq_true rfl) (fun r8 => ?_)
      exact jc_retUi hk (pc := 109) dX0_personOf_109
    refine jj_ite (fun c_11_5 => ?_) (fun c_11_5 => ?_)
    · refine jj_tIn hk (pc := 11) (k := (5 : Int32)) (t := 5) 110 c_11_5 dX0_personOf_11 (by decide) rfl rfl (by decide) ?_
      refine jj_aload_n hk (pc := 110) dX0_personOf_110 0 rfl rfl ?_
      refine jj_iload_n hk (pc := 111) dX0_personOf_111 1 rfl rfl ?_
      refine kc_X0_0_choiceOf hk hH hK (pc := 112) (a0 := a0) (fun r h => cc_f0_choiceOf l hH d N σ a0 r h) dX0_personOf_112 ⟨Nat.le_of_ble_eq_true rfl, Nat.le_of_ble_eq_true rfl⟩ (Nat.le_of_ble_eq_true rfl) (fun r9 => ?_)
      refine jj_if_ge hk (pc := 115) 123 dX0_personOf_115 (by decide) ?_ ?_
      · refine jj_aload_n hk (pc := 123) dX0_personOf_123 0 rfl rfl ?_
        refine jj_iload_n hk (pc := 124) dX0_personOf_124 1 rfl rfl ?_
        refine kc_X0_0_choiceOf hk hH hK (pc := 125) (a0 := a0) (fun r h => cc_f0_choiceOf l hH d N r9.2 a0 r h) dX0_personOf_125 ⟨Nat.le_of_ble_eq_true rfl, Nat.le_of_ble_eq_true rfl⟩ (Nat.le_of_ble_eq_true rfl) (fun r10 => ?_)
        exact jc_retUi hk (pc := 128) dX0_personOf_128
      · refine jj_bipush hk (pc := 118) (v := (10 : Int32)) dX0_personOf_118 (by decide) ?_
        refine jj_goto hk (pc := 120) 128 dX0_personOf_120 (by decide) ?_
        exact jc_retUi hk (pc := 128) dX0_personOf_128
    refine jj_tOut hk (pc := 11) 129 dX0_personOf_11 ?_ (by decide) ?_
    · have q0 := lv_neT (a := 0) c_11_0 (by decide); have q1 := lv_neT (a := 1) c_11_1 (by decide); have q2 := lv_neT (a := 2) c_11_2 (by decide); have q3 := lv_neT (a := 3) c_11_3 (by decide); have q4 := lv_neT (a := 4) c_11_4 (by decide); have q5 := lv_neT (a := 5) c_11_5 (by decide); omega
    refine jj_iconst hk (pc := 129) (v := (-1 : Int32)) dX0_personOf_129 (by decide) ?_
    exact jc_retUi hk (pc := 130) dX0_personOf_130
  · refine jj_iconst hk (pc := 8) (v := (-1 : Int32)) dX0_personOf_8 (by decide) ?_
    exact jc_retUi hk (pc := 9) dX0_personOf_9
set_option maxHeartbeats 4000000 in
theorem wb_f0_deed_B42 {res : (Int32 × SS)} (hk : jk p R s m args meth c d.2 cX0_deed 6 RX0 3 83 (some .int)) (hH : cH G KK) (hK : KK s)  (σ : SS) (x1 : Int32) (x2 : Int32) (x3 : Int32) (x4 : Int32) : jj p l e R s m args below meth c (hA G) d.2 (jZ below args s (hA G) d.2 (jU res) (cWo G d) (cnx d)) (cWo G d) (cnx d) 6 σ 42 [(0, .ref (ha G 0)), (1, .int x1), (2, .int x2), (3, .int x3), (4, .int x4)] [] (f0_deed_B42 σ x1 x2 x3 x4 = some res) := by
  unfold f0_deed_B42
  refine jj_aload_n hk (pc := 42) dX0_deed_42 0 rfl rfl ?_
  refine jc_g_now hk hH hK (pc := 43) dX0_deed_43 ?_
  refine jc_t_deeds hk hH hK (pc := 46) dX0_deed_46 ?_
  refine jj_bipush hk (pc := 49) (v := (10 : Int32)) dX0_deed_49 (by decide) ?_
  refine jj_icmp_ne hk (pc := 51) 57 dX0_deed_51 (by decide) ?_ ?_
  · refine jj_iload_n hk (pc := 57) dX0_deed_57 2 rfl rfl ?_
    refine jj_aload_n hk (pc := 58) dX0_deed_58 0 rfl rfl ?_
    refine jc_g_now hk hH hK (pc := 59) dX0_deed_59 ?_
    refine jc_t_year hk hH hK (pc := 62) dX0_deed_62 ?_
    refine jj_icmp_ge hk (pc := 65) 71 dX0_deed_65 (by decide) ?_ ?_
    · refine jj_aload_n hk (pc := 71) dX0_deed_71 0 rfl rfl ?_
      refine jc_g_now hk hH hK (pc := 72) dX0_deed_72 ?_
      refine jc_t_deeds hk hH hK (pc := 75) dX0_deed_75 ?_
      refine jj_istore hk (pc := 78) [(5, .int (σ.1 1)), (0, .ref (ha G 0)), (1, .int x1), (2, .int x2), (3, .int x3), (4, .int x4)] dX0_deed_78 (Nat.le_of_ble_eq_true rfl) rfl ?_
      refine jj_aload_n hk (pc := 80) dX0_deed_80 1 rfl rfl ?_
      refine jc_g_now hk hH hK (pc := 81) dX0_deed_81 ?_
      refine jc_t_whose hk hH hK (pc := 84) dX0_deed_84 ?_
      refine jj_iload hk (pc := 87) dX0_deed_87 0 rfl ?_
      refine jj_iload_n hk (pc := 89) dX0_deed_89 2 rfl rfl ?_
      refine jc_st (j := 3) hk hH hK (pc := 90) (by decide) dX0_deed_90 (fun σ1 => ?_)
      refine jj_aload_n hk (pc := 91) dX0_deed_91 1 rfl rfl ?_
      refine jc_g_now hk hH hK (pc := 92) dX0_deed_92 ?_
      refine jc_t_when hk hH hK (pc := 95) dX0_deed_95 ?_
      refine jj_iload hk (pc := 98) dX0_deed_98 0 rfl ?_
      refine jj_iload_n hk (pc := 100) dX0_deed_100 3 rfl rfl ?_
      refine jc_st (j := 4) hk hH hK (pc := 101) (by decide) dX0_deed_101 (fun σ2 => ?_)
      refine jj_aload_n hk (pc := 102) dX0_deed_102 1 rfl rfl ?_
      refine jc_g_now hk hH hK (pc := 103) dX0_deed_103 ?_
      refine jc_t_weight hk hH hK (pc := 106) dX0_deed_106 ?_
      refine jj_iload hk (pc := 109) dX0_deed_109 0 rfl ?_
      refine jj_iload_n hk (pc := 111) dX0_deed_111 4 rfl rfl ?_
      refine jc_st (j := 5) hk hH hK (pc := 112) (by decide) dX0_deed_112 (fun σ3 => ?_)
      refine jj_aload_n hk (pc := 113) dX0_deed_113 1 rfl rfl ?_
      refine jc_g_now hk hH hK (pc := 114) dX0_deed_114 ?_
      refine jc_t_need hk hH hK (pc := 117) dX0_deed_117 ?_
      refine jj_iload hk (pc := 120) dX0_deed_120 0 rfl ?_
      refine jj_iload hk (pc := 122) dX0_deed_122 5 rfl ?_
      refine jc_st (j := 6) hk hH hK (pc := 124) (by decide) dX0_deed_124 (fun σ4 => ?_)
      refine jj_aload_n hk (pc := 125) dX0_deed_125 1 rfl rfl ?_
      refine jc_g_now hk hH hK (pc := 126) dX0_deed_126 ?_
      refine jc_t_so hk hH hK (pc := 129) dX0_deed_129 ?_
      refine jj_iload hk (pc := 132) dX0_deed_132 0 rfl ?_
      refine jj_iconst hk (pc := 134) (v := (0 : Int32)) dX0_deed_134 (by decide) ?_
      refine jc_st (j := 7) hk hH hK (pc := 135) (by decide) dX0_deed_135 (fun σ5 => ?_)
      refine jj_aload_n hk (pc := 136) dX0_deed_136 1 rfl rfl ?_
      refine jc_g_now hk hH hK (pc := 137) dX0_deed_137 ?_
      refine jj_dup hk (pc := 140) dX0_deed_140 rfl ?_
      refine jc_t_deeds hk hH hK (pc := 141) dX0_deed_141 ?_
      refine jj_iconst hk (pc := 144) (v := (1 : Int32)) dX0_deed_144 (by decide) ?_
      refine jj_iadd hk (pc := 145) dX0_deed_145 ?_
      refine jc_tp_deeds hk hH hK (pc := 146) dX0_deed_146 (fun σ6 => ?_)
      refine jj_iload hk (pc := 149) dX0_deed_149 0 rfl ?_
      exact jc_retUi hk (pc := 151) dX0_deed_151
    · refine jj_bipush hk (pc := 68) (v := (-4 : Int32)) dX0_deed_68 (by decide) ?_
      exact jc_retUi hk (pc := 70) dX0_deed_70
  · refine jj_bipush hk (pc := 54) (v := (-2 : Int32)) dX0_deed_54 (by decide) ?_
    exact jc_retUi hk (pc := 56) dX0_deed_56
set_option maxHeartbeats 4000000 in
theorem cc_f0_deed (l : Launch) {G : cG} {KK : State → Prop} (hH : cH G KK) (d : DS)  (σ : SS) (a0 : Int32) (a1 : Int32) (a2 : Int32) (a3 : Int32) (res : (Int32 × SS)) (hf : f0_deed σ a0 a1 a2 a3 = some res) : jM l yX0_deed (ws_ yX0_deed cX0_deed 6 (some .int)) 3 83 [.ref (ha G 0), .int a0, .int a1, .int a2, .int a3] (cWo G d) (cnx d) KK σ (jU res) (hA G) d.2 := by
  refine jj_start [(0, .ref (ha G 0)), (1, .int a0), (2, .int a1), (3, .int a2), (4, .int a3)] (by decide) (Nat.le_of_ble_eq_true rfl) rfl (fun p e R s m args below meth c hk hK hsz => ?_) hf
  have hk : jk p R s m args meth c d.2 cX0_deed 6 RX0 3 83 (some .int) := hk
  unfold f0_deed
  refine jj_aload_n hk (pc := 0) dX0_deed_0 0 rfl rfl ?_
  refine jj_iload_n hk (pc := 1) dX0_deed_1 1 rfl rfl ?_
  refine kc_X0_0_isPerson hk hH hK (pc := 2) (a0 := a0) (fun r h => cc_f0_isPerson l hH d σ a0 r h) dX0_deed_2 ⟨Nat.le_of_ble_eq_true rfl, Nat.le_of_ble_eq_true rfl⟩ (Nat.le_of_ble_eq_true rfl) (fun r1 => ?_)
  refine jj_if_eq_b hk (pc := 5) 40 dX0_deed_5 (by decide) ?_ ?_
  · refine jj_iconst hk (pc := 40) (v := (-1 : Int32)) dX0_deed_40 (by decide) ?_
    exact jc_retUi hk (pc := 41) dX0_deed_41
  · refine jj_iload_n hk (pc := 8) dX0_deed_8 2 rfl rfl ?_
    refine jj_iconst hk (pc := 9) (v := (0 : Int32)) dX0_deed_9 (by decide) ?_
    refine jj_bipush hk (pc := 10) (v := (15 : Int32)) dX0_deed_10 (by decide) ?_
    refine kc_X0_0_isIn hk hH hK (pc := 12) (a0 := a1) (a1 := (0 : Int32)) (a2 := (15 : Int32)) (fun r h => cc_f0_isIn l hH d σ a1 (0 : Int32) (15 : Int32) r h) dX0_deed_12 ⟨Nat.le_of_ble_eq_true rfl, Nat.le_of_ble_eq_true rfl⟩ (Nat.le_of_ble_eq_true rfl) (fun r2 => ?_)
    refine jj_if_eq_b hk (pc := 15) 40 dX0_deed_15 (by decide) ?_ ?_
    · refine jj_iconst hk (pc := 40) (v := (-1 : Int32)) dX0_deed_40 (by decide) ?_
      exact jc_retUi hk (pc := 41) dX0_deed_41
    · refine jj_iload_n hk (pc := 18) dX0_deed_18 3 rfl rfl ?_
      refine kc_X0_0_isPart hk hH hK (pc := 19) (a0 := a2) (fun r h => cc_f0_isPart l hH d σ a2 r h) dX0_deed_19 ⟨Nat.le_of_ble_eq_true rfl, Nat.le_of_ble_eq_true rfl⟩ (Nat.le_of_ble_eq_true rfl) (fun r3 => ?_)
      refine jj_if_eq_b hk (pc := 22) 40 dX0_deed_22 (by decide) ?_ ?_
      · refine jj_iconst hk (pc := 40) (v := (-1 : Int32)) dX0_deed_40 (by decide) ?_
        exact jc_retUi hk (pc := 41) dX0_deed_41
      · refine jj_iload hk (pc := 25) dX0_deed_25 4 rfl ?_
        refine jj_iconst hk (pc := 27) (v := (-1 : Int32)) dX0_deed_27 (by decide) ?_
        refine jj_icmp_eq hk (pc := 28) 42 dX0_deed_28 (by decide) ?_ ?_
        · refine jj_loc [(0, .ref (ha G 0)), (1, .int a0), (2, .int a1), (3, .int a2), (4, .int a3)] [0, 1, 2, 3, 4] rfl ?_
          exact wb_f0_deed_B42 hk hH hK σ a0 a1 a2 a3
        · refine jj_aload_n hk (pc := 31) dX0_deed_31 0 rfl rfl ?_
          refine jj_iload hk (pc := 32) dX0_deed_32 4 rfl ?_
          refine kc_X0_0_isDeed hk hH hK (pc := 34) (a0 := a3) (fun r h => cc_f0_isDeed l hH d σ a3 r h) dX0_deed_34 ⟨Nat.le_of_ble_eq_true rfl, Nat.le_of_ble_eq_true rfl⟩ (Nat.le_of_ble_eq_true rfl) (fun r4 => ?_)
          refine jj_if_ne_b hk (pc := 37) 42 dX0_deed_37 (by decide) ?_ ?_
          · refine jj_loc [(0, .ref (ha G 0)), (1, .int a0), (2, .int a1), (3, .int a2), (4, .int a3)] [0, 1, 2, 3, 4] rfl ?_
            exact wb_f0_deed_B42 hk hH hK σ a0 a1 a2 a3
          · refine jj_iconst hk (pc := 40) (v := (-1 : Int32)) dX0_deed_40 (by decide) ?_
            exact jc_retUi hk (pc := 41) dX0_deed_41
set_option maxHeartbeats 4000000 in
theorem cc_f0_deedOf (l : Launch) {G : cG} {KK : State → Prop} (hH : cH G KK) (d : DS)  (σ : SS) (a0 : Int32) (a1 : Int32) (res : Int32) (hf : f0_deedOf d σ a0 a1 = some res) : jM l yX0_deedOf (ws_ yX0_deedOf cX0_deedOf 3 (some .int)) 6 221 [.ref (ha G 0), .int a0, .int a1] (cWo G d) (cnx d) KK σ (jR σ res) (hA G) d.2 := by
  refine jj_start [(0, .ref (ha G 0)), (1, .int a0), (2, .int a1)] (by decide) (Nat.le_of_ble_eq_true rfl) rfl (fun p e R s m args below meth c hk hK hsz => ?_) hf
  have hk : jk p R s m args meth c d.2 cX0_deedOf 3 RX0 6 221 (some .int) := hk
  unfold f0_deedOf
  refine jj_aload_n hk (pc := 0) dX0_deedOf_0 0 rfl rfl ?_
  refine jj_iload_n hk (pc := 1) dX0_deedOf_1 1 rfl rfl ?_
  refine kc_X0_0_isDeed hk hH hK (pc := 2) (a0 := a0) (fun r h => cc_f0_isDeed l hH d σ a0 r h) dX0_deedOf_2 ⟨Nat.le_of_ble_eq_true rfl, Nat.le_of_ble_eq_true rfl⟩ (Nat.le_of_ble_eq_true rfl) (fun r1 => ?_)
  refine jj_if_ne_b hk (pc := 5) 10 dX0_deedOf_5 (by decide) ?_ ?_
  · refine jj_iload_n hk (pc := 10) dX0_deedOf_10 2 rfl rfl ?_
    refine jj_ite (fun c_11_0 => ?_) (fun c_11_0 => ?_)
    · refine jj_tIn hk (pc := 11) (k := (0 : Int32)) (t := 0) 48 c_11_0 dX0_deedOf_11 (by decide) rfl rfl (by decide) ?_
      refine jj_aload_n hk (pc := 48) dX0_deedOf_48 0 rfl rfl ?_
      refine jc_g_now hk hH hK (pc := 49) dX0_deedOf_49 ?_
      refine jc_t_whose hk hH hK (pc := 52) dX0_deedOf_52 ?_
      refine jj_iload_n hk (pc := 55) dX0_deedOf_55 1 rfl rfl ?_
      refine jc_ld (j := 3) hk hH hK (pc := 56) (by decide) dX0_deedOf_56 (fun v2 => ?_)
      exact jc_retRi hk (pc := 57) dX0_deedOf_57
    refine jj_ite (fun c_11_1 => ?_) (fun c_11_1 => ?_)
    · refine jj_tIn hk (pc := 11) (k := (1 : Int32)) (t := 1) 58 c_11_1 dX0_deedOf_11 (by decide) rfl rfl (by decide) ?_
      refine jj_aload_n hk (pc := 58) dX0_deedOf_58 0 rfl rfl ?_
      refine jc_g_now hk hH hK (pc := 59) dX0_deedOf_59 ?_
      refine jc_t_when hk hH hK (pc := 62) dX0_deedOf_62 ?_
      refine jj_iload_n hk (pc := 65) dX0_deedOf_65 1 rfl rfl ?_
      refine jc_ld (j := 4) hk hH hK (pc := 66) (by decide) dX0_deedOf_66 (fun v3 => ?_)
      exact jc_retRi hk (pc := 67) dX0_deedOf_67
    refine jj_ite (fun c_11_2 => ?_) (fun c_11_2 => ?_)
    · refine jj_tIn hk (pc := 11) (k := (2 : Int32)) (t := 2) 68 c_11_2 dX0_deedOf_11 (by decide) rfl rfl (by decide) ?_
      refine jj_aload_n hk (pc := 68) dX0_deedOf_68 0 rfl rfl ?_
      refine jc_g_now hk hH hK (pc := 69) dX0_deedOf_69 ?_
      refine jc_t_weight hk hH hK (pc := 72) dX0_deedOf_72 ?_
      refine jj_iload_n hk (pc := 75) dX0_deedOf_75 1 rfl rfl ?_
      refine jc_ld (j := 5) hk hH hK (pc := 76) (by decide) dX0_deedOf_76 (fun v4 => ?_)
      exact jc_retRi hk (pc := 77) dX0_deedOf_77
    refine jj_ite (fun c_11_3 => ?_) (fun c_11_3 => ?_)
    · refine jj_tIn hk (pc := 11) (k := (3 : Int32)) (t := 3) 78 c_11_3 dX0_deedOf_11 (by decide) rfl rfl (by decide) ?_
      refine jj_aload_n hk (pc := 78) dX0_deedOf_78 0 rfl rfl ?_
      refine jc_g_now hk hH hK (pc := 79) dX0_deedOf_79 ?_
      refine jc_t_need hk hH hK (pc := 82) dX0_deedOf_82 ?_
      refine jj_iload_n hk (pc := 85) dX0_deedOf_85 1 rfl rfl ?_
      refine jc_ld (j := 6) hk hH hK (pc := 86) (by decide) dX0_deedOf_86 (fun v5 => ?_)
      exact jc_retRi hk (pc := 87) dX0_deedOf_87
    refine jj_ite (fun c_11_4 => ?_) (fun c_11_4 => ?_)
    · refine jj_tIn hk (pc := 11) (k := (4 : Int32)) (t := 4) 88 c_11_4 dX0_deedOf_11 (by decide) rfl rfl (by decide) ?_
      refine jj_aload_n hk (pc := 88) dX0_deedOf_88 0 rfl rfl ?_
      refine jc_g_now hk hH hK (pc := 89) dX0_deedOf_89 ?_
      refine jc_t_so hk hH hK (pc := 92) dX0_deedOf_92 ?_
      refine jj_iload_n hk (pc := 95) dX0_deedOf_95 1 rfl rfl ?_
      refine jc_ld (j := 7) hk hH hK (pc := 96) (by decide) dX0_deedOf_96 (fun v6 => ?_)
      exact jc_retRi hk (pc := 97) dX0_deedOf_97
    refine jj_ite (fun c_11_5 => ?_) (fun c_11_5 => ?_)
    · refine jj_tIn hk (pc := 11) (k := (5 : Int32)) (t := 5) 98 c_11_5 dX0_deedOf_11 (by decide) rfl rfl (by decide) ?_
      refine jj_aload_n hk (pc := 98) dX0_deedOf_98 0 rfl rfl ?_
      refine jj_iload_n hk (pc := 99) dX0_deedOf_99 1 rfl rfl ?_
      refine kc_X0_0_dueOf hk hH hK (pc := 100) (a0 := a0) (fun r h => cc_f0_dueOf l hH d σ a0 r h) dX0_deedOf_100 ⟨Nat.le_of_ble_eq_true rfl, Nat.le_of_ble_eq_true rfl⟩ (Nat.le_of_ble_eq_true rfl) (fun r7 => ?_)
      exact jc_retRi hk (pc := 103) dX0_deedOf_103
    refine jj_tOut hk (pc := 11) 104 dX0_deedOf_11 ?_ (by decide) ?_
    · have q0 := lv_neT (a := 0) c_11_0 (by decide); have q1 := lv_neT (a := 1) c_11_1 (by decide); have q2 := lv_neT (a := 2) c_11_2 (by decide); have q3 := lv_neT (a := 3) c_11_3 (by decide); have q4 := lv_neT (a := 4) c_11_4 (by decide); have q5 := lv_neT (a := 5) c_11_5 (by decide); omega
    refine jj_iconst hk (pc := 104) (v := (-1 : Int32)) dX0_deedOf_104 (by decide) ?_
    exact jc_retRi hk (pc := 105) dX0_deedOf_105
  · refine jj_iconst hk (pc := 8) (v := (-1 : Int32)) dX0_deedOf_8 (by decide) ?_
    exact jc_retRi hk (pc := 9) dX0_deedOf_9
set_option maxHeartbeats 4000000 in
theorem cc_f0_ends (l : Launch) {G : cG} {KK : State → Prop} (hH : cH G KK) (d : DS)  (σ : SS) (a0 : Int32) (res : (Int32 × SS)) (hf : f0_ends σ a0 = some res) : jM l yX0_ends (ws_ yX0_ends cX0_ends 3 (some .int)) 2 62 [.ref (ha G 0), .int a0] (cWo G d) (cnx d) KK σ (jU res) (hA G) d.2 := by
  refine jj_start [(0, .ref (ha G 0)), (1, .int a0)] (by decide) (Nat.le_of_ble_eq_true rfl) rfl (fun p e R s m args below meth c hk hK hsz => ?_) hf
  have hk : jk p R s m args meth c d.2 cX0_ends 3 RX0 2 62 (some .int) := hk
  unfold f0_ends
  refine jj_iload_n hk (pc := 0) dX0_ends_0 1 rfl rfl ?_
  refine jj_iconst hk (pc := 1) (v := (1 : Int32)) dX0_ends_1 (by decide) ?_
  refine jj_bipush hk (pc := 2) (v := (16 : Int32)) dX0_ends_2 (by decide) ?_
  refine kc_X0_0_isIn hk hH hK (pc := 4) (a0 := a0) (a1 := (1 : Int32)) (a2 := (16 : Int32)) (fun r h => cc_f0_isIn l hH d σ a0 (1 : Int32) (16 : Int32) r h) dX0_ends_4 ⟨Nat.le_of_ble_eq_true rfl, Nat.le_of_ble_eq_true rfl⟩ (Nat.le_of_ble_eq_true rfl) (fun r1 => ?_)
  refine jj_if_ne_b hk (pc := 7) 12 dX0_ends_7 (by decide) ?_ ?_
  · refine jj_iload_n hk (pc := 12) dX0_ends_12 1 rfl rfl ?_
    refine jj_aload_n hk (pc := 13) dX0_ends_13 0 rfl rfl ?_
    refine jc_g_now hk hH hK (pc := 14) dX0_ends_14 ?_
    refine jc_t_year hk hH hK (pc := 17) dX0_ends_17 ?_
    refine jj_icmp_ge hk (pc := 20) 26 dX0_ends_20 (by decide) ?_ ?_
    · refine jj_aload_n hk (pc := 26) dX0_ends_26 0 rfl rfl ?_
      refine jc_g_now hk hH hK (pc := 27) dX0_ends_27 ?_
      refine jc_t_end hk hH hK (pc := 30) dX0_ends_30 ?_
      refine jj_istore_n hk (pc := 33) [(2, .int (σ.1 2)), (0, .ref (ha G 0)), (1, .int a0)] dX0_ends_33 rfl (Nat.le_of_ble_eq_true rfl) rfl ?_
      refine jj_aload_n hk (pc := 34) dX0_ends_34 1 rfl rfl ?_
      refine jc_g_now hk hH hK (pc := 35) dX0_ends_35 ?_
      refine jj_iload_n hk (pc := 38) dX0_ends_38 2 rfl rfl ?_
      refine jc_tp_end hk hH hK (pc := 39) dX0_ends_39 (fun σ2 => ?_)
      refine jj_iload_n hk (pc := 42) dX0_ends_42 0 rfl rfl ?_
      exact jc_retUi hk (pc := 43) dX0_ends_43
    · refine jj_bipush hk (pc := 23) (v := (-4 : Int32)) dX0_ends_23 (by decide) ?_
      exact jc_retUi hk (pc := 25) dX0_ends_25
  · refine jj_iconst hk (pc := 10) (v := (-1 : Int32)) dX0_ends_10 (by decide) ?_
    exact jc_retUi hk (pc := 11) dX0_ends_11
set_option maxHeartbeats 4000000 in
theorem wb_f0_anew_L26 {res : (Int32 × SS)} (hk : jk p R s m args meth c d.2 cX0_anew 3 RX0 1 40 (some .int)) (hH : cH G KK) (hK : KK s) (N : Nat) : ∀ (n : Nat) (σ : SS) (x1 : Int32) (x2 : Int32), jj p l e R s m args below meth c (hA G) d.2 (jZ below args s (hA G) d.2 (jU res) (cWo G d) (cnx d)) (cWo G d) (cnx d) 3 σ 26 [(0, .ref (ha G 0)), (1, .int x1), (2, .int x2)] [] (f0_anew_L26 N n σ x1 x2 = some res) := by
  intro n
  induction n with
  | zero => intro σ x1 x2; exact jj_eq (fun hz => by rw [f0_anew_L26] at hz; exact hz) jj_no
  | succ n ih =>
    intro σ x1 x2
    rw [f0_anew_L26]
    refine jj_iload_n hk (pc := 26) dX0_anew_26 2 rfl rfl ?_
    refine jj_aload_n hk (pc := 27) dX0_anew_27 0 rfl rfl ?_
    refine jc_g_now hk hH hK (pc := 28) dX0_anew_28 ?_
    refine jc_t_deeds hk hH hK (pc := 31) dX0_anew_31 ?_
    refine jj_icmp_ge hk (pc := 34) 53 dX0_anew_34 (by decide) ?_ ?_
    · refine jj_iload_n hk (pc := 53) dX0_anew_53 1 rfl rfl ?_
      exact jc_retUi hk (pc := 54) dX0_anew_54
    · refine jj_aload_n hk (pc := 37) dX0_anew_37 0 rfl rfl ?_
      refine jc_g_now hk hH hK (pc := 38) dX0_anew_38 ?_
      refine jc_t_so hk hH hK (pc := 41) dX0_anew_41 ?_
      refine jj_iload_n hk (pc := 44) dX0_anew_44 2 rfl rfl ?_
      refine jj_iconst hk (pc := 45) (v := (0 : Int32)) dX0_anew_45 (by decide) ?_
      refine jc_st (j := 7) hk hH hK (pc := 46) (by decide) dX0_anew_46 (fun σ1 => ?_)
      refine jj_iinc hk (pc := 47) [(2, .int (x2 + 1)), (0, .ref (ha G 0)), (1, .int x1)] dX0_anew_47 2 rfl rfl (Nat.le_of_ble_eq_true rfl) rfl ?_
      refine jj_goto hk (pc := 50) 26 dX0_anew_50 (by decide) ?_
      refine jj_loc [(0, .ref (ha G 0)), (1, .int x1), (2, .int (x2 + 1))] [1, 2, 0] rfl ?_
      exact ih σ1 x1 (x2 + 1)
set_option maxHeartbeats 4000000 in
theorem cc_f0_anew (l : Launch) {G : cG} {KK : State → Prop} (hH : cH G KK) (d : DS) (N : Nat) (σ : SS)  (res : (Int32 × SS)) (hf : f0_anew N σ = some res) : jM l yX0_anew (ws_ yX0_anew cX0_anew 3 (some .int)) 1 40 [.ref (ha G 0)] (cWo G d) (cnx d) KK σ (jU res) (hA G) d.2 := by
  refine jj_start [(0, .ref (ha G 0))] (by decide) (Nat.le_of_ble_eq_true rfl) rfl (fun p e R s m args below meth c hk hK hsz => ?_) hf
  have hk : jk p R s m args meth c d.2 cX0_anew 3 RX0 1 40 (some .int) := hk
  unfold f0_anew
  refine jj_aload_n hk (pc := 0) dX0_anew_0 0 rfl rfl ?_
  refine jc_g_now hk hH hK (pc := 1) dX0_anew_1 ?_
  refine jc_t_year hk hH hK (pc := 4) dX0_anew_4 ?_
  refine jj_istore_n hk (pc := 7) [(1, .int (σ.1 3)), (0, .ref (ha G 0))] dX0_anew_7 rfl (Nat.le_of_ble_eq_true rfl) rfl ?_
  refine jj_aload_n hk (pc := 8) dX0_anew_8 1 rfl rfl ?_
  refine jc_g_now hk hH hK (pc := 9) dX0_anew_9 ?_
  refine jj_iconst hk (pc := 12) (v := (0 : Int32)) dX0_anew_12 (by decide) ?_
  refine jc_tp_year hk hH hK (pc := 13) dX0_anew_13 (fun σ1 => ?_)
  refine jj_aload_n hk (pc := 16) dX0_anew_16 1 rfl rfl ?_
  refine jc_g_now hk hH hK (pc := 17) dX0_anew_17 ?_
  refine jj_iconst hk (pc := 20) (v := (0 : Int32)) dX0_anew_20 (by decide) ?_
  refine jc_tp_score hk hH hK (pc := 21) dX0_anew_21 (fun σ2 => ?_)
  refine jj_iconst hk (pc := 24) (v := (0 : Int32)) dX0_anew_24 (by decide) ?_
  refine jj_istore_n hk (pc := 25) [(2, .int (0 : Int32)), (1, .int (σ.1 3)), (0, .ref (ha G 0))] dX0_anew_25 rfl (Nat.le_of_ble_eq_true rfl) rfl ?_
  refine jj_loc [(0, .ref (ha G 0)), (1, .int (σ.1 3)), (2, .int (0 : Int32))] [2, 1, 0] rfl ?_
  exact wb_f0_anew_L26 hk hH hK N N σ2 (σ.1 3) (0 : Int32)
set_option maxHeartbeats 4000000 in
theorem cc_f0_state (l : Launch) {G : cG} {KK : State → Prop} (hH : cH G KK) (d : DS)  (σ : SS) (a0 : Int32) (res : Int32) (hf : f0_state σ a0 = some res) : jM l yX0_state (ws_ yX0_state cX0_state 2 (some .int)) 2 60 [.ref (ha G 0), .int a0] (cWo G d) (cnx d) KK σ (jR σ res) (hA G) d.2 := by
  refine jj_start [(0, .ref (ha G 0)), (1, .int a0)] (by decide) (Nat.le_of_ble_eq_true rfl) rfl (fun p e R s m args below meth c hk hK hsz => ?_) hf
  have hk : jk p R s m args meth c d.2 cX0_state 2 RX0 2 60 (some .int) := hk
  unfold f0_state
  refine jj_iload_n hk (pc := 0) dX0_state_0 1 rfl rfl ?_
  refine jj_ite (fun c_1_0 => ?_) (fun c_1_0 => ?_)
  · refine jj_tIn hk (pc := 1) (k := (0 : Int32)) (t := 0) 32 c_1_0 dX0_state_1 (by decide) rfl rfl (by decide) ?_
    refine jj_aload_n hk (pc := 32) dX0_state_32 0 rfl rfl ?_
    refine jc_g_now hk hH hK (pc := 33) dX0_state_33 ?_
    refine jc_t_year hk hH hK (pc := 36) dX0_state_36 ?_
    exact jc_retRi hk (pc := 39) dX0_state_39
  refine jj_ite (fun c_1_1 => ?_) (fun c_1_1 => ?_)
  · refine jj_tIn hk (pc := 1) (k := (1 : Int32)) (t := 1) 40 c_1_1 dX0_state_1 (by decide) rfl rfl (by decide) ?_
    refine jj_aload_n hk (pc := 40) dX0_state_40 0 rfl rfl ?_
    refine jc_g_now hk hH hK (pc := 41) dX0_state_41 ?_
    refine jc_t_end hk hH hK (pc := 44) dX0_state_44 ?_
    exact jc_retRi hk (pc := 47) dX0_state_47
  refine jj_ite (fun c_1_2 => ?_) (fun c_1_2 => ?_)
  · refine jj_tIn hk (pc := 1) (k := (2 : Int32)) (t := 2) 48 c_1_2 dX0_state_1 (by decide) rfl rfl (by decide) ?_
    refine jj_aload_n hk (pc := 48) dX0_state_48 0 rfl rfl ?_
    refine jc_g_now hk hH hK (pc := 49) dX0_state_49 ?_
    refine jc_t_score hk hH hK (pc := 52) dX0_state_52 ?_
    exact jc_retRi hk (pc := 55) dX0_state_55
  refine jj_ite (fun c_1_3 => ?_) (fun c_1_3 => ?_)
  · refine jj_tIn hk (pc := 1) (k := (3 : Int32)) (t := 3) 56 c_1_3 dX0_state_1 (by decide) rfl rfl (by decide) ?_
    refine jj_aload_n hk (pc := 56) dX0_state_56 0 rfl rfl ?_
    refine jc_g_now hk hH hK (pc := 57) dX0_state_57 ?_
    refine kc_X0_3_isOver hk hH hK (pc := 60) (t0 := 0) (fun r h => cc_f3_isOver l hH d σ 0 (by decide) r h) (by decide) dX0_state_60 ⟨Nat.le_of_ble_eq_true rfl, Nat.le_of_ble_eq_true rfl⟩ (Nat.le_of_ble_eq_true rfl) (fun r1 => ?_)
    refine jj_if_eq_b hk (pc := 63) 70 dX0_state_63 (by decide) ?_ ?_
    · refine jj_iconst hk (pc := 70) (v := (0 : Int32)) dX0_state_70 (by decide) ?_
      exact jc_retRi hk (pc := 71) dX0_state_71
    · refine jj_iconst hk (pc := 66) (v := (1 : Int32)) dX0_state_66 (by decide) ?_
      refine jj_goto hk (pc := 67) 71 dX0_state_67 (by decide) ?_
      exact jc_retRi hk (pc := 71) dX0_state_71
  refine jj_tOut hk (pc := 1) 72 dX0_state_1 ?_ (by decide) ?_
  · have q0 := lv_neT (a := 0) c_1_0 (by decide); have q1 := lv_neT (a := 1) c_1_1 (by decide); have q2 := lv_neT (a := 2) c_1_2 (by decide); have q3 := lv_neT (a := 3) c_1_3 (by decide); omega
  refine jj_iconst hk (pc := 72) (v := (-1 : Int32)) dX0_state_72 (by decide) ?_
  exact jc_retRi hk (pc := 73) dX0_state_73
set_option maxHeartbeats 4000000 in
theorem cc_f0_isOverdue (l : Launch) {G : cG} {KK : State → Prop} (hH : cH G KK) (d : DS)  (σ : SS) (a0 : Int32) (a1 : Int32) (res : Bool) (hf : f0_isOverdue d σ a0 a1 = some res) : jM l yX0_isOverdue (ws_ yX0_isOverdue cX0_isOverdue 3 (some .boolean)) 6 221 [.ref (ha G 0), .int a0, .int a1] (cWo G d) (cnx d) KK σ (jRz σ res) (hA G) d.2 := by
  refine jj_start [(0, .ref (ha G 0)), (1, .int a0), (2, .int a1)] (by decide) (Nat.le_of_ble_eq_true rfl) rfl (fun p e R s m args below meth c hk hK hsz => ?_) hf
  have hk : jk p R s m args meth c d.2 cX0_isOverdue 3 RX0 6 221 (some .boolean) := hk
  unfold f0_isOverdue
  refine jj_aload_n hk (pc := 0) dX0_isOverdue_0 0 rfl rfl ?_
  refine jc_g_now hk hH hK (pc := 1) dX0_isOverdue_1 ?_
  refine jc_t_so hk hH hK (pc := 4) dX0_isOverdue_4 ?_
  refine jj_iload_n hk (pc := 7) dX0_isOverdue_7 1 rfl rfl ?_
  refine jc_ld (j := 7) hk hH hK (pc := 8) (by decide) dX0_isOverdue_8 (fun v1 => ?_)
  refine jj_iconst hk (pc := 9) (v := (1 : Int32)) dX0_isOverdue_9 (by decide) ?_
  refine jj_icmp_ne hk (pc := 10) 26 dX0_isOverdue_10 (by decide) ?_ ?_
  · refine jj_iconst hk (pc := 26) (v := (0 : Int32)) dX0_isOverdue_26 (by decide) ?_
    exact jc_retRz hk (pc := 27) (b := false) dX0_isOverdue_27
  · refine jj_aload_n hk (pc := 13) dX0_isOverdue_13 0 rfl rfl ?_
    refine jj_iload_n hk (pc := 14) dX0_isOverdue_14 1 rfl rfl ?_
    refine kc_X0_0_dueOf hk hH hK (pc := 15) (a0 := a0) (fun r h => cc_f0_dueOf l hH d σ a0 r h) dX0_isOverdue_15 ⟨Nat.le_of_ble_eq_true rfl, Nat.le_of_ble_eq_true rfl⟩ (Nat.le_of_ble_eq_true rfl) (fun r2 => ?_)
    refine jj_iload_n hk (pc := 18) dX0_isOverdue_18 2 rfl rfl ?_
    refine jj_icmp_ge hk (pc := 19) 26 dX0_isOverdue_19 (by decide) ?_ ?_
    · refine jj_iconst hk (pc := 26) (v := (0 : Int32)) dX0_isOverdue_26 (by decide) ?_
      exact jc_retRz hk (pc := 27) (b := false) dX0_isOverdue_27
    · refine jj_iconst hk (pc := 22) (v := (1 : Int32)) dX0_isOverdue_22 (by decide) ?_
      refine jj_goto hk (pc := 23) 27 dX0_isOverdue_23 (by decide) ?_
      exact jc_retRz hk (pc := 27) (b := true) dX0_isOverdue_27
set_option maxHeartbeats 4000000 in
theorem wb_f0_undo_L14 {res : SS} (hk : jk p R s m args meth c d.2 cX0_undo 5 RX0 1 40 none) (hH : cH G KK) (hK : KK s) (N : Nat) : ∀ (n : Nat) (σ : SS) (x2 : Int32), jj p l e R s m args below meth c (hA G) d.2 (jZ below args s (hA G) d.2 (jV res) (cWo G d) (cnx d)) (cWo G d) (cnx d) 5 σ 14 [(0, .ref (ha G 0)), (2, .int x2)] [] (f0_undo_L14 N n σ x2 = some res) := by
  intro n
  induction n with
  | zero => intro σ x2; exact jj_eq (fun hz => by rw [f0_undo_L14] at hz; exact hz) jj_no
  | succ n ih =>
    intro σ x2
    rw [f0_undo_L14]
    refine jj_iload_n hk (pc := 14) dX0_undo_14 1 rfl rfl ?_
    refine jj_aload_n hk (pc := 15) dX0_undo_15 0 rfl rfl ?_
    refine jc_g_now hk hH hK (pc := 16) dX0_undo_16 ?_
    refine jc_t_deeds hk hH hK (pc := 19) dX0_undo_19 ?_
    refine jj_icmp_ge hk (pc := 22) 118 dX0_undo_22 (by decide) ?_ ?_
    · exact jc_retV hk (pc := 118) dX0_undo_118
    · refine jj_aload_n hk (pc := 25) dX0_undo_25 0 rfl rfl ?_
      refine jc_g_now hk hH hK (pc := 26) dX0_undo_26 ?_
      refine jc_t_need hk hH hK (pc := 29) dX0_undo_29 ?_
      refine jj_iload_n hk (pc := 32) dX0_undo_32 1 rfl rfl ?_
      refine jc_ld (j := 6) hk hH hK (pc := 33) (by decide) dX0_undo_33 (fun v1 => ?_)
      refine jj_istore_n hk (pc := 34) [(3, .int v1), (0, .ref (ha G 0)), (2, .int x2)] dX0_undo_34 rfl (Nat.le_of_ble_eq_true rfl) rfl ?_
      refine jj_iload_n hk (pc := 35) dX0_undo_35 0 rfl rfl ?_
      refine jj_if_lt hk (pc := 36) 82 dX0_undo_36 (by decide) ?_ ?_
      · refine jj_iconst hk (pc := 82) (v := (0 : Int32)) dX0_undo_82 (by decide) ?_
        refine jj_istore hk (pc := 83) [(4, .int (0 : Int32)), (3, .int v1), (0, .ref (ha G 0)), (2, .int x2)] dX0_undo_83 (Nat.le_of_ble_eq_true rfl) rfl ?_
        refine jj_aload_n hk (pc := 85) dX0_undo_85 2 rfl rfl ?_
        refine jc_g_now hk hH hK (pc := 86) dX0_undo_86 ?_
        refine jc_t_so hk hH hK (pc := 89) dX0_undo_89 ?_
        refine jj_iload_n hk (pc := 92) dX0_undo_92 3 rfl rfl ?_
        refine jj_iload hk (pc := 93) dX0_undo_93 0 rfl ?_
        refine jj_if_eq_T hk (pc := 95) 102 dX0_undo_95 (by decide) (by decide) ?_
        refine jj_aload_n hk (pc := 102) dX0_undo_102 2 rfl rfl ?_
        refine jc_g_now hk hH hK (pc := 103) dX0_undo_103 ?_
        refine jc_t_so hk hH hK (pc := 106) dX0_undo_106 ?_
        refine jj_iload_n hk (pc := 109) dX0_undo_109 3 rfl rfl ?_
        refine jc_ld (j := 7) hk hH hK (pc := 110) (by decide) dX0_undo_110 (fun v2 => ?_)
        refine jc_st (j := 7) hk hH hK (pc := 111) (by decide) dX0_undo_111 (fun σ3 => ?_)
        refine jj_iinc hk (pc := 112) [(2, .int (x2 + 1)), (4, .int (0 : Int32)), (3, .int v1), (0, .ref (ha G 0))] dX0_undo_112 3 rfl rfl (Nat.le_of_ble_eq_true rfl) rfl ?_
        refine jj_goto hk (pc := 115) 14 dX0_undo_115 (by decide) ?_
        refine jj_loc [(0, .ref (ha G 0)), (2, .int (x2 + 1))] [3, 0] rfl ?_
        exact ih σ3 (x2 + 1)
      · refine jj_aload_n hk (pc := 39) dX0_undo_39 1 rfl rfl ?_
        refine jc_g_now hk hH hK (pc := 40) dX0_undo_40 ?_
        refine jc_t_so hk hH hK (pc := 43) dX0_undo_43 ?_
        refine jj_iload_n hk (pc := 46) dX0_undo_46 2 rfl rfl ?_
        refine jc_ld (j := 7) hk hH hK (pc := 47) (by decide) dX0_undo_47 (fun v4 => ?_)
        refine jj_iconst hk (pc := 48) (v := (1 : Int32)) dX0_undo_48 (by decide) ?_
        refine jj_icmp_ne hk (pc := 49) 82 dX0_undo_49 (by decide) ?_ ?_
        · refine jj_iconst hk (pc := 82) (v := (0 : Int32)) dX0_undo_82 (by decide) ?_
          refine jj_istore hk (pc := 83) [(4, .int (0 : Int32)), (3, .int v1), (0, .ref (ha G 0)), (2, .int x2)] dX0_undo_83 (Nat.le_of_ble_eq_true rfl) rfl ?_
          refine jj_aload_n hk (pc := 85) dX0_undo_85 2 rfl rfl ?_
          refine jc_g_now hk hH hK (pc := 86) dX0_undo_86 ?_
          refine jc_t_so hk hH hK (pc := 89) dX0_undo_89 ?_
          refine jj_iload_n hk (pc := 92) dX0_undo_92 3 rfl rfl ?_
          refine jj_iload hk (pc := 93) dX0_undo_93 0 rfl ?_
          refine jj_if_eq_T hk (pc := 95) 102 dX0_undo_95 (by decide) (by decide) ?_
          refine jj_aload_n hk (pc := 102) dX0_undo_102 2 rfl rfl ?_
          refine jc_g_now hk hH hK (pc := 103) dX0_undo_103 ?_
          refine jc_t_so hk hH hK (pc := 106) dX0_undo_106 ?_
          refine jj_iload_n hk (pc := 109) dX0_undo_109 3 rfl rfl ?_
          refine jc_ld (j := 7) hk hH hK (pc := 110) (by decide) dX0_undo_110 (fun v5 => ?_)
          refine jc_st (j := 7) hk hH hK (pc := 111) (by decide) dX0_undo_111 (fun σ6 => ?_)
          refine jj_iinc hk (pc := 112) [(2, .int (x2 + 1)), (4, .int (0 : Int32)), (3, .int v1), (0, .ref (ha G 0))] dX0_undo_112 3 rfl rfl (Nat.le_of_ble_eq_true rfl) rfl ?_
          refine jj_goto hk (pc := 115) 14 dX0_undo_115 (by decide) ?_
          refine jj_loc [(0, .ref (ha G 0)), (2, .int (x2 + 1))] [3, 0] rfl ?_
          exact ih σ6 (x2 + 1)
        · refine jj_aload_n hk (pc := 52) dX0_undo_52 1 rfl rfl ?_
          refine jc_g_now hk hH hK (pc := 53) dX0_undo_53 ?_
          refine jc_t_so hk hH hK (pc := 56) dX0_undo_56 ?_
          refine jj_iload_n hk (pc := 59) dX0_undo_59 0 rfl rfl ?_
          refine jc_ld (j := 7) hk hH hK (pc := 60) (by decide) dX0_undo_60 (fun v7 => ?_)
          refine jj_iconst hk (pc := 61) (v := (2 : Int32)) dX0_undo_61 (by decide) ?_
          refine jj_icmp_eq hk (pc := 62) 78 dX0_undo_62 (by decide) ?_ ?_
          · refine jj_iconst hk (pc := 78) (v := (1 : Int32)) dX0_undo_78 (by decide) ?_
            refine jj_goto hk (pc := 79) 83 dX0_undo_79 (by decide) ?_
            refine jj_istore hk (pc := 83) [(4, .int (1 : Int32)), (3, .int v1), (0, .ref (ha G 0)), (2, .int x2)] dX0_undo_83 (Nat.le_of_ble_eq_true rfl) rfl ?_
            refine jj_aload_n hk (pc := 85) dX0_undo_85 2 rfl rfl ?_
            refine jc_g_now hk hH hK (pc := 86) dX0_undo_86 ?_
            refine jc_t_so hk hH hK (pc := 89) dX0_undo_89 ?_
            refine jj_iload_n hk (pc := 92) dX0_undo_92 3 rfl rfl ?_
            refine jj_iload hk (pc := 93) dX0_undo_93 0 rfl ?_
            refine jj_if_eq_F hk (pc := 95) dX0_undo_95 102 (by decide) (by decide) ?_
            refine jj_iconst hk (pc := 98) (v := (3 : Int32)) dX0_undo_98 (by decide) ?_
            refine jj_goto hk (pc := 99) 111 dX0_undo_99 (by decide) ?_
            refine jc_st (j := 7) hk hH hK (pc := 111) (by decide) dX0_undo_111 (fun σ8 => ?_)
            refine jj_iinc hk (pc := 112) [(2, .int (x2 + 1)), (4, .int (1 : Int32)), (3, .int v1), (0, .ref (ha G 0))] dX0_undo_112 3 rfl rfl (Nat.le_of_ble_eq_true rfl) rfl ?_
            refine jj_goto hk (pc := 115) 14 dX0_undo_115 (by decide) ?_
            refine jj_loc [(0, .ref (ha G 0)), (2, .int (x2 + 1))] [3, 0] rfl ?_
            exact ih σ8 (x2 + 1)
          · refine jj_aload_n hk (pc := 65) dX0_undo_65 1 rfl rfl ?_
            refine jc_g_now hk hH hK (pc := 66) dX0_undo_66 ?_
            refine jc_t_so hk hH hK (pc := 69) dX0_undo_69 ?_
            refine jj_iload_n hk (pc := 72) dX0_undo_72 0 rfl rfl ?_
            refine jc_ld (j := 7) hk hH hK (pc := 73) (by decide) dX0_undo_73 (fun v9 => ?_)
            refine jj_iconst hk (pc := 74) (v := (3 : Int32)) dX0_undo_74 (by decide) ?_
            refine jj_icmp_ne hk (pc := 75) 82 dX0_undo_75 (by decide) ?_ ?_
            · refine jj_iconst hk (pc := 82) (v := (0 : Int32)) dX0_undo_82 (by decide) ?_
              refine jj_istore hk (pc := 83) [(4, .int (0 : Int32)), (3, .int v1), (0, .ref (ha G 0)), (2, .int x2)] dX0_undo_83 (Nat.le_of_ble_eq_true rfl) rfl ?_
              refine jj_aload_n hk (pc := 85) dX0_undo_85 2 rfl rfl ?_
              refine jc_g_now hk hH hK (pc := 86) dX0_undo_86 ?_
              refine jc_t_so hk hH hK (pc := 89) dX0_undo_89 ?_
              refine jj_iload_n hk (pc := 92) dX0_undo_92 3 rfl rfl ?_
              refine jj_iload hk (pc := 93) dX0_undo_93 0 rfl ?_
              refine jj_if_eq_T hk (pc := 95) 102 dX0_undo_95 (by decide) (by decide) ?_
              refine jj_aload_n hk (pc := 102) dX0_undo_102 2 rfl rfl ?_
              refine jc_g_now hk hH hK (pc := 103) dX0_undo_103 ?_
              refine jc_t_so hk hH hK (pc := 106) dX0_undo_106 ?_
              refine jj_iload_n hk (pc := 109) dX0_undo_109 3 rfl rfl ?_
              refine jc_ld (j := 7) hk hH hK (pc := 110) (by decide) dX0_undo_110 (fun v10 => ?_)
              refine jc_st (j := 7) hk hH hK (pc := 111) (by decide) dX0_undo_111 (fun σ11 => ?_)
              refine jj_iinc hk (pc := 112) [(2, .int (x2 + 1)), (4, .int (0 : Int32)), (3, .int v1), (0, .ref (ha G 0))] dX0_undo_112 3 rfl rfl (Nat.le_of_ble_eq_true rfl) rfl ?_
              refine jj_goto hk (pc := 115) 14 dX0_undo_115 (by decide) ?_
              refine jj_loc [(0, .ref (ha G 0)), (2, .int (x2 + 1))] [3, 0] rfl ?_
              exact ih σ11 (x2 + 1)
            · refine jj_iconst hk (pc := 78) (v := (1 : Int32)) dX0_undo_78 (by decide) ?_
              refine jj_goto hk (pc := 79) 83 dX0_undo_79 (by decide) ?_
              refine jj_istore hk (pc := 83) [(4, .int (1 : Int32)), (3, .int v1), (0, .ref (ha G 0)), (2, .int x2)] dX0_undo_83 (Nat.le_of_ble_eq_true rfl) rfl ?_
              refine jj_aload_n hk (pc := 85) dX0_undo_85 2 rfl rfl ?_
              refine jc_g_now hk hH hK (pc := 86) dX0_undo_86 ?_
              refine jc_t_so hk hH hK (pc := 89) dX0_undo_89 ?_
              refine jj_iload_n hk (pc := 92) dX0_undo_92 3 rfl rfl ?_
              refine jj_iload hk (pc := 93) dX0_undo_93 0 rfl ?_
              refine jj_if_eq_F hk (pc := 95) dX0_undo_95 102 (by decide) (by decide) ?_
              refine jj_iconst hk (pc := 98) (v := (3 : Int32)) dX0_undo_98 (by decide) ?_
              refine jj_goto hk (pc := 99) 111 dX0_undo_99 (by decide) ?_
              refine jc_st (j := 7) hk hH hK (pc := 111) (by decide) dX0_undo_111 (fun σ12 => ?_)
              refine jj_iinc hk (pc := 112) [(2, .int (x2 + 1)), (4, .int (1 : Int32)), (3, .int v1), (0, .ref (ha G 0))] dX0_undo_112 3 rfl rfl (Nat.le_of_ble_eq_true rfl) rfl ?_
              refine jj_goto hk (pc := 115) 14 dX0_undo_115 (by decide) ?_
              refine jj_loc [(0, .ref (ha G 0)), (2, .int (x2 + 1))] [3, 0] rfl ?_
              exact ih σ12 (x2 + 1)
set_option maxHeartbeats 4000000 in
theorem cc_f0_undo (l : Launch) {G : cG} {KK : State → Prop} (hH : cH G KK) (d : DS) (N : Nat) (σ : SS) (a0 : Int32) (res : SS) (hf : f0_undo N σ a0 = some res) : jM l yX0_undo (ws_ yX0_undo cX0_undo 5 none) 1 40 [.ref (ha G 0), .int a0] (cWo G d) (cnx d) KK σ (jV res) (hA G) d.2 := by
  refine jj_start [(0, .ref (ha G 0)), (1, .int a0)] (by decide) (Nat.le_of_ble_eq_true rfl) rfl (fun p e R s m args below meth c hk hK hsz => ?_) hf
  have hk : jk p R s m args meth c d.2 cX0_undo 5 RX0 1 40 none := hk
  unfold f0_undo
  refine jj_aload_n hk (pc := 0) dX0_undo_0 0 rfl rfl ?_
  refine jc_g_now hk hH hK (pc := 1) dX0_undo_1 ?_
  refine jc_t_so hk hH hK (pc := 4) dX0_undo_4 ?_
  refine jj_iload_n hk (pc := 7) dX0_undo_7 1 rfl rfl ?_
  refine jj_iconst hk (pc := 8) (v := (2 : Int32)) dX0_undo_8 (by decide) ?_
  refine jc_st (j := 7) hk hH hK (pc := 9) (by decide) dX0_undo_9 (fun σ1 => ?_)
  refine jj_iload_n hk (pc := 10) dX0_undo_10 1 rfl rfl ?_
  refine jj_iconst hk (pc := 11) (v := (1 : Int32)) dX0_undo_11 (by decide) ?_
  refine jj_iadd hk (pc := 12) dX0_undo_12 ?_
  refine jj_istore_n hk (pc := 13) [(2, .int (a0 + (1 : Int32))), (0, .ref (ha G 0)), (1, .int a0)] dX0_undo_13 rfl (Nat.le_of_ble_eq_true rfl) rfl ?_
  refine jj_loc [(0, .ref (ha G 0)), (2, .int (a0 + (1 : Int32)))] [1, 0] rfl ?_
  exact wb_f0_undo_L14 hk hH hK N N σ1 (a0 + (1 : Int32))
set_option maxHeartbeats 4000000 in
theorem wb_f0_rightHands_L2 {res : SS} (hk : jk p R s m args meth c d.2 cX0_rightHands 2 RX0 1 40 none) (hH : cH G KK) (hK : KK s) (N : Nat) : ∀ (n : Nat) (σ : SS) (x1 : Int32), jj p l e R s m args below meth c (hA G) d.2 (jZ below args s (hA G) d.2 (jV res) (cWo G d) (cnx d)) (cWo G d) (cnx d) 2 σ 2 [(0, .ref (ha G 0)), (1, .int x1)] [] (f0_rightHands_L2 N n σ x1 = some res) := by
  intro n
  induction n with
  | zero => intro σ x1; exact jj_eq (fun hz => by rw [f0_rightHands_L2] at hz; exact hz) jj_no
  | succ n ih =>
    intro σ x1
    rw [f0_rightHands_L2]
    refine jj_iload_n hk (pc := 2) dX0_rightHands_2 1 rfl rfl ?_
    refine jj_aload_n hk (pc := 3) dX0_rightHands_3 0 rfl rfl ?_
    refine jc_g_now hk hH hK (pc := 4) dX0_rightHands_4 ?_
    refine jc_t_deeds hk hH hK (pc := 7) dX0_rightHands_7 ?_
    refine jj_icmp_ge hk (pc := 10) 100 dX0_rightHands_10 (by decide) ?_ ?_
    · exact jc_retV hk (pc := 100) dX0_rightHands_100
    · refine jj_aload_n hk (pc := 13) dX0_rightHands_13 0 rfl rfl ?_
      refine jc_g_now hk hH hK (pc := 14) dX0_rightHands_14 ?_
      refine jc_t_when hk hH hK (pc := 17) dX0_rightHands_17 ?_
      refine jj_iload_n hk (pc := 20) dX0_rightHands_20 1 rfl rfl ?_
      refine jc_ld (j := 4) hk hH hK (pc := 21) (by decide) dX0_rightHands_21 (fun v1 => ?_)
      refine jj_aload_n hk (pc := 22) dX0_rightHands_22 0 rfl rfl ?_
      refine jc_g_now hk hH hK (pc := 23) dX0_rightHands_23 ?_
      refine jc_t_year hk hH hK (pc := 26) dX0_rightHands_26 ?_
      refine jj_icmp_ne hk (pc := 29) 94 dX0_rightHands_29 (by decide) ?_ ?_
      · refine jj_iinc hk (pc := 94) [(1, .int (x1 + 1)), (0, .ref (ha G 0))] dX0_rightHands_94 1 rfl rfl (Nat.le_of_ble_eq_true rfl) rfl ?_
        refine jj_goto hk (pc := 97) 2 dX0_rightHands_97 (by decide) ?_
        refine jj_loc [(0, .ref (ha G 0)), (1, .int (x1 + 1))] [1, 0] rfl ?_
        exact ih σ (x1 + 1)
      · refine jj_aload_n hk (pc := 32) dX0_rightHands_32 0 rfl rfl ?_
        refine jc_g_now hk hH hK (pc := 33) dX0_rightHands_33 ?_
        refine jc_t_so hk hH hK (pc := 36) dX0_rightHands_36 ?_
        refine jj_iload_n hk (pc := 39) dX0_rightHands_39 1 rfl rfl ?_
        refine jc_ld (j := 7) hk hH hK (pc := 40) (by decide) dX0_rightHands_40 (fun v2 => ?_)
        refine jj_if_eq hk (pc := 41) 47 dX0_rightHands_41 (by decide) ?_ ?_
        · refine jj_aload_n hk (pc := 47) dX0_rightHands_47 0 rfl rfl ?_
          refine jc_g_now hk hH hK (pc := 48) dX0_rightHands_48 ?_
          refine jc_t_so hk hH hK (pc := 51) dX0_rightHands_51 ?_
          refine jj_iload_n hk (pc := 54) dX0_rightHands_54 1 rfl rfl ?_
          refine jj_aload_n hk (pc := 55) dX0_rightHands_55 0 rfl rfl ?_
          refine jc_g_now hk hH hK (pc := 56) dX0_rightHands_56 ?_
          refine jc_t_need hk hH hK (pc := 59) dX0_rightHands_59 ?_
          refine jj_iload_n hk (pc := 62) dX0_rightHands_62 1 rfl rfl ?_
          refine jc_ld (j := 6) hk hH hK (pc := 63) (by decide) dX0_rightHands_63 (fun v3 => ?_)
          refine jj_if_lt hk (pc := 64) 88 dX0_rightHands_64 (by decide) ?_ ?_
          · refine jj_iconst hk (pc := 88) (v := (1 : Int32)) dX0_rightHands_88 (by decide) ?_
            refine jj_goto hk (pc := 89) 93 dX0_rightHands_89 (by decide) ?_
            refine jc_st (j := 7) hk hH hK (pc := 93) (by decide) dX0_rightHands_93 (fun σ4 => ?_)
            refine jj_iinc hk (pc := 94) [(1, .int (x1 + 1)), (0, .ref (ha G 0))] dX0_rightHands_94 1 rfl rfl (Nat.le_of_ble_eq_true rfl) rfl ?_
            refine jj_goto hk (pc := 97) 2 dX0_rightHands_97 (by decide) ?_
            refine jj_loc [(0, .ref (ha G 0)), (1, .int (x1 + 1))] [1, 0] rfl ?_
            exact ih σ4 (x1 + 1)
          · refine jj_aload_n hk (pc := 67) dX0_rightHands_67 0 rfl rfl ?_
            refine jc_g_now hk hH hK (pc := 68) dX0_rightHands_68 ?_
            refine jc_t_so hk hH hK (pc := 71) dX0_rightHands_71 ?_
            refine jj_aload_n hk (pc := 74) dX0_rightHands_74 0 rfl rfl ?_
            refine jc_g_now hk hH hK (pc := 75) dX0_rightHands_75 ?_
            refine jc_t_need hk hH hK (pc := 78) dX0_rightHands_78 ?_
            refine jj_iload_n hk (pc := 81) dX0_rightHands_81 1 rfl rfl ?_
            refine jc_ld (j := 6) hk hH hK (pc := 82) (by decide) dX0_rightHands_82 (fun v5 => ?_)
            refine jc_ld (j := 7) hk hH hK (pc := 83) (by decide) dX0_rightHands_83 (fun v6 => ?_)
            refine jj_iconst hk (pc := 84) (v := (1 : Int32)) dX0_rightHands_84 (by decide) ?_
            refine jj_icmp_ne hk (pc := 85) 92 dX0_rightHands_85 (by decide) ?_ ?_
            · refine jj_iconst hk (pc := 92) (v := (4 : Int32)) dX0_rightHands_92 (by decide) ?_
              refine jc_st (j := 7) hk hH hK (pc := 93) (by decide) dX0_rightHands_93 (fun σ7 => ?_)
              refine jj_iinc hk (pc := 94) [(1, .int (x1 + 1)), (0, .ref (ha G 0))] dX0_rightHands_94 1 rfl rfl (Nat.le_of_ble_eq_true rfl) rfl ?_
              refine jj_goto hk (pc := 97) 2 dX0_rightHands_97 (by decide) ?_
              refine jj_loc [(0, .ref (ha G 0)), (1, .int (x1 + 1))] [1, 0] rfl ?_
              exact ih σ7 (x1 + 1)
            · refine jj_iconst hk (pc := 88) (v := (1 : Int32)) dX0_rightHands_88 (by decide) ?_
              refine jj_goto hk (pc := 89) 93 dX0_rightHands_89 (by decide) ?_
              refine jc_st (j := 7) hk hH hK (pc := 93) (by decide) dX0_rightHands_93 (fun σ8 => ?_)
              refine jj_iinc hk (pc := 94) [(1, .int (x1 + 1)), (0, .ref (ha G 0))] dX0_rightHands_94 1 rfl rfl (Nat.le_of_ble_eq_true rfl) rfl ?_
              refine jj_goto hk (pc := 97) 2 dX0_rightHands_97 (by decide) ?_
              refine jj_loc [(0, .ref (ha G 0)), (1, .int (x1 + 1))] [1, 0] rfl ?_
              exact ih σ8 (x1 + 1)
        · refine jj_goto hk (pc := 44) 94 dX0_rightHands_44 (by decide) ?_
          refine jj_iinc hk (pc := 94) [(1, .int (x1 + 1)), (0, .ref (ha G 0))] dX0_rightHands_94 1 rfl rfl (Nat.le_of_ble_eq_true rfl) rfl ?_
          refine jj_goto hk (pc := 97) 2 dX0_rightHands_97 (by decide) ?_
          refine jj_loc [(0, .ref (ha G 0)), (1, .int (x1 + 1))] [1, 0] rfl ?_
          exact ih σ (x1 + 1)
set_option maxHeartbeats 4000000 in
theorem cc_f0_rightHands (l : Launch) {G : cG} {KK : State → Prop} (hH : cH G KK) (d : DS) (N : Nat) (σ : SS)  (res : SS) (hf : f0_rightHands N σ = some res) : jM l yX0_rightHands (ws_ yX0_rightHands cX0_rightHands 2 none) 1 40 [.ref (ha G 0)] (cWo G d) (cnx d) KK σ (jV res) (hA G) d.2 := by
  refine jj_start [(0, .ref (ha G 0))] (by decide) (Nat.le_of_ble_eq_true rfl) rfl (fun p e R s m args below meth c hk hK hsz => ?_) hf
  have hk : jk p R s m args meth c d.2 cX0_rightHands 2 RX0 1 40 none := hk
  unfold f0_rightHands
  refine jj_iconst hk (pc := 0) (v := (0 : Int32)) dX0_rightHands_0 (by decide) ?_
  refine jj_istore_n hk (pc := 1) [(1, .int (0 : Int32)), (0, .ref (ha G 0))] dX0_rightHands_1 rfl (Nat.le_of_ble_eq_true rfl) rfl ?_
  refine jj_loc [(0, .ref (ha G 0)), (1, .int (0 : Int32))] [1, 0] rfl ?_
  exact wb_f0_rightHands_L2 hk hH hK N N σ (0 : Int32)
set_option maxHeartbeats 4000000 in
theorem cc_f0_saves (l : Launch) {G : cG} {KK : State → Prop} (hH : cH G KK) (d : DS)  (σ : SS) (a0 : Int32) (res : SS) (hf : f0_saves σ a0 = some res) : jM l yX0_saves (ws_ yX0_saves cX0_saves 2 none) 1 40 [.ref (ha G 0), .int a0] (cWo G d) (cnx d) KK σ (jV res) (hA G) d.2 := by
  refine jj_start [(0, .ref (ha G 0)), (1, .int a0)] (by decide) (Nat.le_of_ble_eq_true rfl) rfl (fun p e R s m args below meth c hk hK hsz => ?_) hf
  have hk : jk p R s m args meth c d.2 cX0_saves 2 RX0 1 40 none := hk
  unfold f0_saves
  refine jj_aload_n hk (pc := 0) dX0_saves_0 0 rfl rfl ?_
  refine jc_g_now hk hH hK (pc := 1) dX0_saves_1 ?_
  refine jc_t_so hk hH hK (pc := 4) dX0_saves_4 ?_
  refine jj_iconst hk (pc := 7) (v := (0 : Int32)) dX0_saves_7 (by decide) ?_
  refine jj_aload_n hk (pc := 8) dX0_saves_8 0 rfl rfl ?_
  refine jc_g_sos hk hH hK (pc := 9) dX0_saves_9 ?_
  refine jj_bipush hk (pc := 12) (v := (10 : Int32)) dX0_saves_12 (by decide) ?_
  refine jj_iload_n hk (pc := 14) dX0_saves_14 1 rfl rfl ?_
  refine jj_imul hk (pc := 15) dX0_saves_15 ?_
  refine jj_bipush hk (pc := 16) (v := (10 : Int32)) dX0_saves_16 (by decide) ?_
  refine jc_cp (j1 := 7) (j2 := 40) hk hH hK (pc := 18) q930 (by decide) (by decide) dX0_saves_18 ⟨Nat.le_of_ble_eq_true rfl, Nat.le_of_ble_eq_true rfl⟩ (Nat.le_of_ble_eq_true rfl) (fun σ1 => ?_)
  exact jc_retV hk (pc := 21) dX0_saves_21
set_option maxHeartbeats 4000000 in
theorem wb_f0_passes_L52 {res : (Int32 × SS)} (hk : jk p R s m args meth c d.2 cX0_passes 4 RX0 484 12110 (some .int)) (hH : cH G KK) (hK : KK s) (N : Nat) : ∀ (n : Nat) (σ : SS) (x2 : Int32) (x3 : Int32), jj p l e R s m args below meth c (hA G) d.2 (jZ below args s (hA G) d.2 (jU res) (cWo G d) (cnx d)) (cWo G d) (cnx d) 4 σ 52 [(0, .ref (ha G 0)), (2, .int x2), (3, .int x3)] [] (f0_passes_L52 N d n σ x2 x3 = some res) := by
  intro n
  induction n with
  | zero => intro σ x2 x3; exact jj_eq (fun hz => by rw [f0_passes_L52] at hz; exact hz) jj_no
  | succ n ih =>
    intro σ x2 x3
    rw [f0_passes_L52]
    refine jj_iload_n hk (pc := 52) dX0_passes_52 2 rfl rfl ?_
    refine jj_aload_n hk (pc := 53) dX0_passes_53 0 rfl rfl ?_
    refine jc_g_now hk hH hK (pc := 54) dX0_passes_54 ?_
    refine jc_t_deeds hk hH hK (pc := 57) dX0_passes_57 ?_
    refine jj_icmp_ge hk (pc := 60) 113 dX0_passes_60 (by decide) ?_ ?_
    · refine jj_aload_n hk (pc := 113) dX0_passes_113 0 rfl rfl ?_
      refine jc_g_now hk hH hK (pc := 114) dX0_passes_114 ?_
      refine jj_dup hk (pc := 117) dX0_passes_117 rfl ?_
      refine jc_t_year hk hH hK (pc := 118) dX0_passes_118 ?_
      refine jj_iconst hk (pc := 121) (v := (1 : Int32)) dX0_passes_121 (by decide) ?_
      refine jj_iadd hk (pc := 122) dX0_passes_122 ?_
      refine jc_tp_year hk hH hK (pc := 123) dX0_passes_123 (fun σ1 => ?_)
      refine jj_iload_n hk (pc := 126) dX0_passes_126 1 rfl rfl ?_
      exact jc_retUi hk (pc := 127) dX0_passes_127
    · refine jj_iload_n hk (pc := 63) dX0_passes_63 1 rfl rfl ?_
      refine jj_aload_n hk (pc := 64) dX0_passes_64 0 rfl rfl ?_
      refine jc_g_now hk hH hK (pc := 65) dX0_passes_65 ?_
      refine jc_t_so hk hH hK (pc := 68) dX0_passes_68 ?_
      refine jj_iload_n hk (pc := 71) dX0_passes_71 2 rfl rfl ?_
      refine jc_ld (j := 7) hk hH hK (pc := 72) (by decide) dX0_passes_72 (fun v2 => ?_)
      refine jj_iconst hk (pc := 73) (v := (1 : Int32)) dX0_passes_73 (by decide) ?_
      refine jj_icmp_ne hk (pc := 74) 104 dX0_passes_74 (by decide) ?_ ?_
      · refine jj_iconst hk (pc := 104) (v := (0 : Int32)) dX0_passes_104 (by decide) ?_
        refine jj_iadd hk (pc := 105) dX0_passes_105 ?_
        refine jj_istore_n hk (pc := 106) [(2, .int (x2 + (0 : Int32))), (0, .ref (ha G 0)), (3, .int x3)] dX0_passes_106 rfl (Nat.le_of_ble_eq_true rfl) rfl ?_
        refine jj_iinc hk (pc := 107) [(3, .int (x3 + 1)), (2, .int (x2 + (0 : Int32))), (0, .ref (ha G 0))] dX0_passes_107 2 rfl rfl (Nat.le_of_ble_eq_true rfl) rfl ?_
        refine jj_goto hk (pc := 110) 52 dX0_passes_110 (by decide) ?_
        refine jj_loc [(0, .ref (ha G 0)), (2, .int (x2 + (0 : Int32))), (3, .int (x3 + 1))] [2, 1, 0] rfl ?_
        exact ih σ (x2 + (0 : Int32)) (x3 + 1)
      · refine jj_aload_n hk (pc := 77) dX0_passes_77 0 rfl rfl ?_
        refine jj_iload_n hk (pc := 78) dX0_passes_78 2 rfl rfl ?_
        refine jj_aload_n hk (pc := 79) dX0_passes_79 0 rfl rfl ?_
        refine jc_g_now hk hH hK (pc := 80) dX0_passes_80 ?_
        refine jc_t_year hk hH hK (pc := 83) dX0_passes_83 ?_
        refine kc_X0_0_isOverdue hk hH hK (pc := 86) (a0 := x3) (a1 := (σ.1 3)) (fun r h => cc_f0_isOverdue l hH d σ x3 (σ.1 3) r h) dX0_passes_86 ⟨Nat.le_of_ble_eq_true rfl, Nat.le_of_ble_eq_true rfl⟩ (Nat.le_of_ble_eq_true rfl) (fun r3 => ?_)
        refine jj_if_ne_b hk (pc := 89) 104 dX0_passes_89 (by decide) ?_ ?_
        · refine jj_iconst hk (pc := 104) (v := (0 : Int32)) dX0_passes_104 (by decide) ?_
          refine jj_iadd hk (pc := 105) dX0_passes_105 ?_
          refine jj_istore_n hk (pc := 106) [(2, .int (x2 + (0 : Int32))), (0, .ref (ha G 0)), (3, .int x3)] dX0_passes_106 rfl (Nat.le_of_ble_eq_true rfl) rfl ?_
          refine jj_iinc hk (pc := 107) [(3, .int (x3 + 1)), (2, .int (x2 + (0 : Int32))), (0, .ref (ha G 0))] dX0_passes_107 2 rfl rfl (Nat.le_of_ble_eq_true rfl) rfl ?_
          refine jj_goto hk (pc := 110) 52 dX0_passes_110 (by decide) ?_
          refine jj_loc [(0, .ref (ha G 0)), (2, .int (x2 + (0 : Int32))), (3, .int (x3 + 1))] [2, 1, 0] rfl ?_
          exact ih σ (x2 + (0 : Int32)) (x3 + 1)
        · refine jj_aload_n hk (pc := 92) dX0_passes_92 0 rfl rfl ?_
          refine jc_g_now hk hH hK (pc := 93) dX0_passes_93 ?_
          refine jc_t_weight hk hH hK (pc := 96) dX0_passes_96 ?_
          refine jj_iload_n hk (pc := 99) dX0_passes_99 2 rfl rfl ?_
          refine jc_ld (j := 5) hk hH hK (pc := 100) (by decide) dX0_passes_100 (fun v4 => ?_)
          refine jj_goto hk (pc := 101) 105 dX0_passes_101 (by decide) ?_
          refine jj_iadd hk (pc := 105) dX0_passes_105 ?_
          refine jj_istore_n hk (pc := 106) [(2, .int (x2 + v4)), (0, .ref (ha G 0)), (3, .int x3)] dX0_passes_106 rfl (Nat.le_of_ble_eq_true rfl) rfl ?_
          refine jj_iinc hk (pc := 107) [(3, .int (x3 + 1)), (2, .int (x2 + v4)), (0, .ref (ha G 0))] dX0_passes_107 2 rfl rfl (Nat.le_of_ble_eq_true rfl) rfl ?_
          refine jj_goto hk (pc := 110) 52 dX0_passes_110 (by decide) ?_
          refine jj_loc [(0, .ref (ha G 0)), (2, .int (x2 + v4)), (3, .int (x3 + 1))] [2, 1, 0] rfl ?_
          exact ih σ (x2 + v4) (x3 + 1)
set_option maxHeartbeats 4000000 in
theorem wb_f0_passes_L6 {res : (Int32 × SS)} (hk : jk p R s m args meth c d.2 cX0_passes 4 RX0 484 12110 (some .int)) (hH : cH G KK) (hK : KK s) (N : Nat) : ∀ (n : Nat) (σ : SS) (x1 : Int32) (x2 : Int32), jj p l e R s m args below meth c (hA G) d.2 (jZ below args s (hA G) d.2 (jU res) (cWo G d) (cnx d)) (cWo G d) (cnx d) 4 σ 6 [(0, .ref (ha G 0)), (1, .int x1), (2, .int x2)] [] (f0_passes_L6 N d n σ x1 x2 = some res) := by
  intro n
  induction n with
  | zero => intro σ x1 x2; exact jj_eq (fun hz => by rw [f0_passes_L6] at hz; exact hz) jj_no
  | succ n ih =>
    intro σ x1 x2
    rw [f0_passes_L6]
    refine jj_iload_n hk (pc := 6) dX0_passes_6 2 rfl rfl ?_
    refine jj_aload_n hk (pc := 7) dX0_passes_7 0 rfl rfl ?_
    refine jc_g_now hk hH hK (pc := 8) dX0_passes_8 ?_
    refine jc_t_people hk hH hK (pc := 11) dX0_passes_11 ?_
    refine jj_icmp_ge hk (pc := 14) 48 dX0_passes_14 (by decide) ?_ ?_
    · refine jj_iconst hk (pc := 48) (v := (0 : Int32)) dX0_passes_48 (by decide) ?_
      refine jj_istore_n hk (pc := 49) [(2, .int (0 : Int32)), (0, .ref (ha G 0)), (1, .int x1)] dX0_passes_49 rfl (Nat.le_of_ble_eq_true rfl) rfl ?_
      refine jj_iconst hk (pc := 50) (v := (0 : Int32)) dX0_passes_50 (by decide) ?_
      refine jj_istore_n hk (pc := 51) [(3, .int (0 : Int32)), (2, .int (0 : Int32)), (0, .ref (ha G 0)), (1, .int x1)] dX0_passes_51 rfl (Nat.le_of_ble_eq_true rfl) rfl ?_
      refine jj_loc [(0, .ref (ha G 0)), (2, .int (0 : Int32)), (3, .int (0 : Int32))] [2, 1, 0] rfl ?_
      exact wb_f0_passes_L52 hk hH hK N N σ (0 : Int32) (0 : Int32)
    · refine jj_iload_n hk (pc := 17) dX0_passes_17 2 rfl rfl ?_
      refine jj_iload_n hk (pc := 18) dX0_passes_18 1 rfl rfl ?_
      refine jj_icmp_ne hk (pc := 19) 27 dX0_passes_19 (by decide) ?_ ?_
      · refine jj_aload_n hk (pc := 27) dX0_passes_27 0 rfl rfl ?_
        refine jj_iload_n hk (pc := 28) dX0_passes_28 2 rfl rfl ?_
        refine kc_X0_0_choiceOf hk hH hK (pc := 29) (a0 := x2) (fun r h => cc_f0_choiceOf l hH d N σ x2 r h) dX0_passes_29 ⟨Nat.le_of_ble_eq_true rfl, Nat.le_of_ble_eq_true rfl⟩ (Nat.le_of_ble_eq_true rfl) (fun r1 => ?_)
        refine jj_istore_n hk (pc := 32) [(3, .int r1.1), (0, .ref (ha G 0)), (1, .int x1), (2, .int x2)] dX0_passes_32 rfl (Nat.le_of_ble_eq_true rfl) rfl ?_
        refine jj_iload_n hk (pc := 33) dX0_passes_33 0 rfl rfl ?_
        refine jj_if_lt hk (pc := 34) 42 dX0_passes_34 (by decide) ?_ ?_
        · refine jj_iinc hk (pc := 42) [(2, .int (x2 + 1)), (3, .int r1.1), (0, .ref (ha G 0)), (1, .int x1)] dX0_passes_42 3 rfl rfl (Nat.le_of_ble_eq_true rfl) rfl ?_
          refine jj_goto hk (pc := 45) 6 dX0_passes_45 (by decide) ?_
          refine jj_loc [(0, .ref (ha G 0)), (1, .int x1), (2, .int (x2 + 1))] [2, 3, 0] rfl ?_
          exact ih r1.2 x1 (x2 + 1)
        · refine jj_aload_n hk (pc := 37) dX0_passes_37 1 rfl rfl ?_
          refine jj_iload_n hk (pc := 38) dX0_passes_38 0 rfl rfl ?_
          refine kc_X0_0_undo hk hH hK (pc := 39) (a0 := r1.1) (fun r h => cc_f0_undo l hH d N r1.2 r1.1 r h) dX0_passes_39 ⟨Nat.le_of_ble_eq_true rfl, Nat.le_of_ble_eq_true rfl⟩ (Nat.le_of_ble_eq_true rfl) (fun r2 => ?_)
          refine jj_iinc hk (pc := 42) [(2, .int (x2 + 1)), (3, .int r1.1), (0, .ref (ha G 0)), (1, .int x1)] dX0_passes_42 3 rfl rfl (Nat.le_of_ble_eq_true rfl) rfl ?_
          refine jj_goto hk (pc := 45) 6 dX0_passes_45 (by decide) ?_
          refine jj_loc [(0, .ref (ha G 0)), (1, .int x1), (2, .int (x2 + 1))] [2, 3, 0] rfl ?_
          exact ih r2 x1 (x2 + 1)
      · refine jj_bipush hk (pc := 22) (v := (-3 : Int32)) dX0_passes_22 (by decide) ?_
        refine jj_goto hk (pc := 24) 32 dX0_passes_24 (by decide) ?_
        refine jj_istore_n hk (pc := 32) [(3, .int (-3 : Int32)), (0, .ref (ha G 0)), (1, .int x1), (2, .int x2)] dX0_passes_32 rfl (Nat.le_of_ble_eq_true rfl) rfl ?_
        refine jj_iload_n hk (pc := 33) dX0_passes_33 0 rfl rfl ?_
        refine jj_if_lt_T hk (pc := 34) 42 dX0_passes_34 (by decide) (by decide) ?_
        refine jj_iinc hk (pc := 42) [(2, .int (x2 + 1)), (3, .int (-3 : Int32)), (0, .ref (ha G 0)), (1, .int x1)] dX0_passes_42 3 rfl rfl (Nat.le_of_ble_eq_true rfl) rfl ?_
        refine jj_goto hk (pc := 45) 6 dX0_passes_45 (by decide) ?_
        refine jj_loc [(0, .ref (ha G 0)), (1, .int x1), (2, .int (x2 + 1))] [2, 3, 0] rfl ?_
        exact ih σ x1 (x2 + 1)
set_option maxHeartbeats 4000000 in
theorem cc_f0_passes (l : Launch) {G : cG} {KK : State → Prop} (hH : cH G KK) (d : DS) (N : Nat) (σ : SS) (a0 : Int32) (res : (Int32 × SS)) (hf : f0_passes N d σ a0 = some res) : jM l yX0_passes (ws_ yX0_passes cX0_passes 4 (some .int)) 484 12110 [.ref (ha G 0), .int a0] (cWo G d) (cnx d) KK σ (jU res) (hA G) d.2 := by
  refine jj_start [(0, .ref (ha G 0)), (1, .int a0)] (by decide) (Nat.le_of_ble_eq_true rfl) rfl (fun p e R s m args below meth c hk hK hsz => ?_) hf
  have hk : jk p R s m args meth c d.2 cX0_passes 4 RX0 484 12110 (some .int) := hk
  unfold f0_passes
  refine jj_aload_n hk (pc := 0) dX0_passes_0 0 rfl rfl ?_
  refine kc_X0_0_rightHands hk hH hK (pc := 1)  (fun r h => cc_f0_rightHands l hH d N σ r h) dX0_passes_1 ⟨Nat.le_of_ble_eq_true rfl, Nat.le_of_ble_eq_true rfl⟩ (Nat.le_of_ble_eq_true rfl) (fun r1 => ?_)
  refine jj_iconst hk (pc := 4) (v := (0 : Int32)) dX0_passes_4 (by decide) ?_
  refine jj_istore_n hk (pc := 5) [(2, .int (0 : Int32)), (0, .ref (ha G 0)), (1, .int a0)] dX0_passes_5 rfl (Nat.le_of_ble_eq_true rfl) rfl ?_
  refine jj_loc [(0, .ref (ha G 0)), (1, .int a0), (2, .int (0 : Int32))] [1, 2, 0] rfl ?_
  exact wb_f0_passes_L6 hk hH hK N N r1 a0 (0 : Int32)
set_option maxHeartbeats 4000000 in
theorem cc_f0_goesBack (l : Launch) {G : cG} {KK : State → Prop} (hH : cH G KK) (d : DS)  (σ : SS) (a0 : Int32) (res : SS) (hf : f0_goesBack σ a0 = some res) : jM l yX0_goesBack (ws_ yX0_goesBack cX0_goesBack 2 none) 1 40 [.ref (ha G 0), .int a0] (cWo G d) (cnx d) KK σ (jV res) (hA G) d.2 := by
  refine jj_start [(0, .ref (ha G 0)), (1, .int a0)] (by decide) (Nat.le_of_ble_eq_true rfl) rfl (fun p e R s m args below meth c hk hK hsz => ?_) hf
  have hk : jk p R s m args meth c d.2 cX0_goesBack 2 RX0 1 40 none := hk
  unfold f0_goesBack
  refine jj_aload_n hk (pc := 0) dX0_goesBack_0 0 rfl rfl ?_
  refine jc_g_now hk hH hK (pc := 1) dX0_goesBack_1 ?_
  refine jj_dup hk (pc := 4) dX0_goesBack_4 rfl ?_
  refine jc_t_year hk hH hK (pc := 5) dX0_goesBack_5 ?_
  refine jj_iconst hk (pc := 8) (v := (1 : Int32)) dX0_goesBack_8 (by decide) ?_
  refine jj_isub hk (pc := 9) dX0_goesBack_9 ?_
  refine jc_tp_year hk hH hK (pc := 10) dX0_goesBack_10 (fun σ1 => ?_)
  refine jj_aload_n hk (pc := 13) dX0_goesBack_13 0 rfl rfl ?_
  refine jc_g_sos hk hH hK (pc := 14) dX0_goesBack_14 ?_
  refine jj_bipush hk (pc := 17) (v := (10 : Int32)) dX0_goesBack_17 (by decide) ?_
  refine jj_iload_n hk (pc := 19) dX0_goesBack_19 1 rfl rfl ?_
  refine jj_imul hk (pc := 20) dX0_goesBack_20 ?_
  refine jj_aload_n hk (pc := 21) dX0_goesBack_21 0 rfl rfl ?_
  refine jc_g_now hk hH hK (pc := 22) dX0_goesBack_22 ?_
  refine jc_t_so hk hH hK (pc := 25) dX0_goesBack_25 ?_
  refine jj_iconst hk (pc := 28) (v := (0 : Int32)) dX0_goesBack_28 (by decide) ?_
  refine jj_bipush hk (pc := 29) (v := (10 : Int32)) dX0_goesBack_29 (by decide) ?_
  refine jc_cp (j1 := 40) (j2 := 7) hk hH hK (pc := 31) q930 (by decide) (by decide) dX0_goesBack_31 ⟨Nat.le_of_ble_eq_true rfl, Nat.le_of_ble_eq_true rfl⟩ (Nat.le_of_ble_eq_true rfl) (fun σ2 => ?_)
  exact jc_retV hk (pc := 34) dX0_goesBack_34
set_option maxHeartbeats 4000000 in
theorem cc_f0_goes (l : Launch) {G : cG} {KK : State → Prop} (hH : cH G KK) (d : DS) (N : Nat) (σ : SS) (a0 : Int32) (res : (Int32 × SS)) (hf : f0_goes N d σ a0 = some res) : jM l yX0_goes (ws_ yX0_goes cX0_goes 3 (some .int)) 485 12133 [.ref (ha G 0), .int a0] (cWo G d) (cnx d) KK σ (jU res) (hA G) d.2 := by
  refine jj_start [(0, .ref (ha G 0)), (1, .int a0)] (by decide) (Nat.le_of_ble_eq_true rfl) rfl (fun p e R s m args below meth c hk hK hsz => ?_) hf
  have hk : jk p R s m args meth c d.2 cX0_goes 3 RX0 485 12133 (some .int) := hk
  unfold f0_goes
  refine jj_aload_n hk (pc := 0) dX0_goes_0 0 rfl rfl ?_
  refine jj_iload_n hk (pc := 1) dX0_goes_1 1 rfl rfl ?_
  refine kc_X0_0_passes hk hH hK (pc := 2) (a0 := a0) (fun r h => cc_f0_passes l hH d N σ a0 r h) dX0_goes_2 ⟨Nat.le_of_ble_eq_true rfl, Nat.le_of_ble_eq_true rfl⟩ (Nat.le_of_ble_eq_true rfl) (fun r1 => ?_)
  refine jj_istore_n hk (pc := 5) [(2, .int r1.1), (0, .ref (ha G 0)), (1, .int a0)] dX0_goes_5 rfl (Nat.le_of_ble_eq_true rfl) rfl ?_
  refine jj_aload_n hk (pc := 6) dX0_goes_6 1 rfl rfl ?_
  refine jc_g_now hk hH hK (pc := 7) dX0_goes_7 ?_
  refine jj_dup hk (pc := 10) dX0_goes_10 rfl ?_
  refine jc_t_score hk hH hK (pc := 11) dX0_goes_11 ?_
  refine jj_iload_n hk (pc := 14) dX0_goes_14 0 rfl rfl ?_
  refine jj_iadd hk (pc := 15) dX0_goes_15 ?_
  refine jc_tp_score hk hH hK (pc := 16) dX0_goes_16 (fun σ2 => ?_)
  refine jj_iload_n hk (pc := 19) dX0_goes_19 0 rfl rfl ?_
  exact jc_retUi hk (pc := 20) dX0_goes_20
set_option maxHeartbeats 4000000 in
theorem cc_f0_year (l : Launch) {G : cG} {KK : State → Prop} (hH : cH G KK) (d : DS) (N : Nat) (σ : SS)  (res : (Int32 × SS)) (hf : f0_year N d σ = some res) : jM l yX0_year (ws_ yX0_year cX0_year 1 (some .int)) 486 12155 [.ref (ha G 0)] (cWo G d) (cnx d) KK σ (jU res) (hA G) d.2 := by
  refine jj_start [(0, .ref (ha G 0))] (by decide) (Nat.le_of_ble_eq_true rfl) rfl (fun p e R s m args below meth c hk hK hsz => ?_) hf
  have hk : jk p R s m args meth c d.2 cX0_year 1 RX0 486 12155 (some .int) := hk
  unfold f0_year
  refine jj_aload_n hk (pc := 0) dX0_year_0 0 rfl rfl ?_
  refine jc_g_now hk hH hK (pc := 1) dX0_year_1 ?_
  refine kc_X0_3_isOver hk hH hK (pc := 4) (t0 := 0) (fun r h => cc_f3_isOver l hH d σ 0 (by decide) r h) (by decide) dX0_year_4 ⟨Nat.le_of_ble_eq_true rfl, Nat.le_of_ble_eq_true rfl⟩ (Nat.le_of_ble_eq_true rfl) (fun r1 => ?_)
  refine jj_if_eq_b hk (pc := 7) 15 dX0_year_7 (by decide) ?_ ?_
  · refine jj_aload_n hk (pc := 15) dX0_year_15 0 rfl rfl ?_
    refine jj_iconst hk (pc := 16) (v := (-1 : Int32)) dX0_year_16 (by decide) ?_
    refine kc_X0_0_goes hk hH hK (pc := 17) (a0 := (-1 : Int32)) (fun r h => cc_f0_goes l hH d N σ (-1 : Int32) r h) dX0_year_17 ⟨Nat.le_of_ble_eq_true rfl, Nat.le_of_ble_eq_true rfl⟩ (Nat.le_of_ble_eq_true rfl) (fun r2 => ?_)
    exact jc_retUi hk (pc := 20) dX0_year_20
  · refine jj_bipush hk (pc := 10) (v := (-4 : Int32)) dX0_year_10 (by decide) ?_
    refine jj_goto hk (pc := 12) 20 dX0_year_12 (by decide) ?_
    exact jc_retUi hk (pc := 20) dX0_year_20
set_option maxHeartbeats 4000000 in
theorem wb_f0_setOf_L4 {res : Int32} (hk : jk p R s m args meth c d.2 cX0_setOf 4 RX0 1 40 (some .int)) (hH : cH G KK) (hK : KK s) (N : Nat) (σ : SS) : ∀ (n : Nat) (x1 : Int32) (x2 : Int32) (x3 : Int32), jj p l e R s m args below meth c (hA G) d.2 (jZ below args s (hA G) d.2 (jR σ res) (cWo G d) (cnx d)) (cWo G d) (cnx d) 4 σ 4 [(0, .ref (ha G 0)), (1, .int x1), (2, .int x2), (3, .int x3)] [] (f0_setOf_L4 N σ n x1 x2 x3 = some res) := by
  intro n
  induction n with
  | zero => intro x1 x2 x3; exact jj_eq (fun hz => by rw [f0_setOf_L4] at hz; exact hz) jj_no
  | succ n ih =>
    intro x1 x2 x3
    rw [f0_setOf_L4]
    refine jj_iload_n hk (pc := 4) dX0_setOf_4 3 rfl rfl ?_
    refine jj_aload_n hk (pc := 5) dX0_setOf_5 0 rfl rfl ?_
    refine jc_g_now hk hH hK (pc := 6) dX0_setOf_6 ?_
    refine jc_t_deeds hk hH hK (pc := 9) dX0_setOf_9 ?_
    refine jj_icmp_ge hk (pc := 12) 44 dX0_setOf_12 (by decide) ?_ ?_
    · refine jj_iload_n hk (pc := 44) dX0_setOf_44 2 rfl rfl ?_
      exact jc_retRi hk (pc := 45) dX0_setOf_45
    · refine jj_iload_n hk (pc := 15) dX0_setOf_15 2 rfl rfl ?_
      refine jj_aload_n hk (pc := 16) dX0_setOf_16 0 rfl rfl ?_
      refine jc_g_now hk hH hK (pc := 17) dX0_setOf_17 ?_
      refine jc_t_so hk hH hK (pc := 20) dX0_setOf_20 ?_
      refine jj_iload_n hk (pc := 23) dX0_setOf_23 3 rfl rfl ?_
      refine jc_ld (j := 7) hk hH hK (pc := 24) (by decide) dX0_setOf_24 (fun v1 => ?_)
      refine jj_iload_n hk (pc := 25) dX0_setOf_25 1 rfl rfl ?_
      refine jj_icmp_ne hk (pc := 26) 35 dX0_setOf_26 (by decide) ?_ ?_
      · refine jj_iconst hk (pc := 35) (v := (0 : Int32)) dX0_setOf_35 (by decide) ?_
        refine jj_ior hk (pc := 36) dX0_setOf_36 ?_
        refine jj_istore_n hk (pc := 37) [(2, .int (x2 ||| (0 : Int32))), (0, .ref (ha G 0)), (1, .int x1), (3, .int x3)] dX0_setOf_37 rfl (Nat.le_of_ble_eq_true rfl) rfl ?_
        refine jj_iinc hk (pc := 38) [(3, .int (x3 + 1)), (2, .int (x2 ||| (0 : Int32))), (0, .ref (ha G 0)), (1, .int x1)] dX0_setOf_38 3 rfl rfl (Nat.le_of_ble_eq_true rfl) rfl ?_
        refine jj_goto hk (pc := 41) 4 dX0_setOf_41 (by decide) ?_
        refine jj_loc [(0, .ref (ha G 0)), (1, .int x1), (2, .int (x2 ||| (0 : Int32))), (3, .int (x3 + 1))] [2, 3, 1, 0] rfl ?_
        exact ih x1 (x2 ||| (0 : Int32)) (x3 + 1)
      · refine jj_iconst hk (pc := 29) (v := (1 : Int32)) dX0_setOf_29 (by decide) ?_
        refine jj_iload_n hk (pc := 30) dX0_setOf_30 3 rfl rfl ?_
        refine jj_ishl hk (pc := 31) dX0_setOf_31 ?_
        refine jj_goto hk (pc := 32) 36 dX0_setOf_32 (by decide) ?_
        refine jj_ior hk (pc := 36) dX0_setOf_36 ?_
        refine jj_istore_n hk (pc := 37) [(2, .int (x2 ||| ((1 : Int32) <<< (x3 &&& 31)))), (0, .ref (ha G 0)), (1, .int x1), (3, .int x3)] dX0_setOf_37 rfl (Nat.le_of_ble_eq_true rfl) rfl ?_
        refine jj_iinc hk (pc := 38) [(3, .int (x3 + 1)), (2, .int (x2 ||| ((1 : Int32) <<< (x3 &&& 31)))), (0, .ref (ha G 0)), (1, .int x1)] dX0_setOf_38 3 rfl rfl (Nat.le_of_ble_eq_true rfl) rfl ?_
        refine jj_goto hk (pc := 41) 4 dX0_setOf_41 (by decide) ?_
        refine jj_loc [(0, .ref (ha G 0)), (1, .int x1), (2, .int (x2 ||| ((1 : Int32) <<< (x3 &&& 31)))), (3, .int (x3 + 1))] [2, 3, 1, 0] rfl ?_
        exact ih x1 (x2 ||| ((1 : Int32) <<< (x3 &&& 31))) (x3 + 1)
set_option maxHeartbeats 4000000 in
theorem cc_f0_setOf (l : Launch) {G : cG} {KK : State → Prop} (hH : cH G KK) (d : DS) (N : Nat) (σ : SS) (a0 : Int32) (res : Int32) (hf : f0_setOf N σ a0 = some res) : jM l yX0_setOf (ws_ yX0_setOf cX0_setOf 4 (some .int)) 1 40 [.ref (ha G 0), .int a0] (cWo G d) (cnx d) KK σ (jR σ res) (hA G) d.2 := by
  refine jj_start [(0, .ref (ha G 0)), (1, .int a0)] (by decide) (Nat.le_of_ble_eq_true rfl) rfl (fun p e R s m args below meth c hk hK hsz => ?_) hf
  have hk : jk p R s m args meth c d.2 cX0_setOf 4 RX0 1 40 (some .int) := hk
  unfold f0_setOf
  refine jj_iconst hk (pc := 0) (v := (0 : Int32)) dX0_setOf_0 (by decide) ?_
  refine jj_istore_n hk (pc := 1) [(2, .int (0 : Int32)), (0, .ref (ha G 0)), (1, .int a0)] dX0_setOf_1 rfl (Nat.le_of_ble_eq_true rfl) rfl ?_
  refine jj_iconst hk (pc := 2) (v := (0 : Int32)) dX0_setOf_2 (by decide) ?_
  refine jj_istore_n hk (pc := 3) [(3, .int (0 : Int32)), (2, .int (0 : Int32)), (0, .ref (ha G 0)), (1, .int a0)] dX0_setOf_3 rfl (Nat.le_of_ble_eq_true rfl) rfl ?_
  refine jj_loc [(0, .ref (ha G 0)), (1, .int a0), (2, .int (0 : Int32)), (3, .int (0 : Int32))] [2, 3, 1, 0] rfl ?_
  exact wb_f0_setOf_L4 hk hH hK N σ N a0 (0 : Int32) (0 : Int32)
set_option maxHeartbeats 4000000 in
theorem cc_f0_standing (l : Launch) {G : cG} {KK : State → Prop} (hH : cH G KK) (d : DS) (N : Nat) (σ : SS) (a0 : Int32) (res : Int32) (hf : f0_standing N σ a0 = some res) : jM l yX0_standing (ws_ yX0_standing cX0_standing 2 (some .int)) 2 63 [.ref (ha G 0), .int a0] (cWo G d) (cnx d) KK σ (jR σ res) (hA G) d.2 := by
  refine jj_start [(0, .ref (ha G 0)), (1, .int a0)] (by decide) (Nat.le_of_ble_eq_true rfl) rfl (fun p e R s m args below meth c hk hK hsz => ?_) hf
  have hk : jk p R s m args meth c d.2 cX0_standing 2 RX0 2 63 (some .int) := hk
  unfold f0_standing
  refine jj_iload_n hk (pc := 0) dX0_standing_0 1 rfl rfl ?_
  refine jj_iconst hk (pc := 1) (v := (0 : Int32)) dX0_standing_1 (by decide) ?_
  refine jj_iconst hk (pc := 2) (v := (4 : Int32)) dX0_standing_2 (by decide) ?_
  refine kc_X0_0_isIn hk hH hK (pc := 3) (a0 := a0) (a1 := (0 : Int32)) (a2 := (4 : Int32)) (fun r h => cc_f0_isIn l hH d σ a0 (0 : Int32) (4 : Int32) r h) dX0_standing_3 ⟨Nat.le_of_ble_eq_true rfl, Nat.le_of_ble_eq_true rfl⟩ (Nat.le_of_ble_eq_true rfl) (fun r1 => ?_)
  refine jj_if_eq_b hk (pc := 6) 17 dX0_standing_6 (by decide) ?_ ?_
  · refine jj_iconst hk (pc := 17) (v := (-1 : Int32)) dX0_standing_17 (by decide) ?_
    exact jc_retRi hk (pc := 18) dX0_standing_18
  · refine jj_aload_n hk (pc := 9) dX0_standing_9 0 rfl rfl ?_
    refine jj_iload_n hk (pc := 10) dX0_standing_10 1 rfl rfl ?_
    refine kc_X0_0_setOf hk hH hK (pc := 11) (a0 := a0) (fun r h => cc_f0_setOf l hH d N σ a0 r h) dX0_standing_11 ⟨Nat.le_of_ble_eq_true rfl, Nat.le_of_ble_eq_true rfl⟩ (Nat.le_of_ble_eq_true rfl) (fun r2 => ?_)
    refine jj_goto hk (pc := 14) 18 dX0_standing_14 (by decide) ?_
    exact jc_retRi hk (pc := 18) dX0_standing_18
set_option maxHeartbeats 4000000 in
theorem wb_f0_runs_L4 {res : (Int32 × SS)} (hk : jk p R s m args meth c d.2 cX0_runs 4 RX0 485 12133 (some .int)) (hH : cH G KK) (hK : KK s) (N : Nat) : ∀ (n : Nat) (σ : SS) (x1 : Int32) (x2 : Int32) (x3 : Int32), jj p l e R s m args below meth c (hA G) d.2 (jZ below args s (hA G) d.2 (jU res) (cWo G d) (cnx d)) (cWo G d) (cnx d) 4 σ 4 [(0, .ref (ha G 0)), (1, .int x1), (2, .int x2), (3, .int x3)] [] (f0_runs_L4 N d n σ x1 x2 x3 = some res) := by
  intro n
  induction n with
  | zero => intro σ x1 x2 x3; exact jj_eq (fun hz => by rw [f0_runs_L4] at hz; exact hz) jj_no
  | succ n ih =>
    intro σ x1 x2 x3
    rw [f0_runs_L4]
    refine jj_iload_n hk (pc := 4) dX0_runs_4 3 rfl rfl ?_
    refine jj_iload_n hk (pc := 5) dX0_runs_5 1 rfl rfl ?_
    refine jj_icmp_ge hk (pc := 6) 33 dX0_runs_6 (by decide) ?_ ?_
    · refine jj_iload_n hk (pc := 33) dX0_runs_33 2 rfl rfl ?_
      exact jc_retUi hk (pc := 34) dX0_runs_34
    · refine jj_aload_n hk (pc := 9) dX0_runs_9 0 rfl rfl ?_
      refine jc_g_now hk hH hK (pc := 10) dX0_runs_10 ?_
      refine kc_X0_3_isOver hk hH hK (pc := 13) (t0 := 0) (fun r h => cc_f3_isOver l hH d σ 0 (by decide) r h) (by decide) dX0_runs_13 ⟨Nat.le_of_ble_eq_true rfl, Nat.le_of_ble_eq_true rfl⟩ (Nat.le_of_ble_eq_true rfl) (fun r1 => ?_)
      refine jj_if_ne_b hk (pc := 16) 33 dX0_runs_16 (by decide) ?_ ?_
      · refine jj_iload_n hk (pc := 33) dX0_runs_33 2 rfl rfl ?_
        exact jc_retUi hk (pc := 34) dX0_runs_34
      · refine jj_iload_n hk (pc := 19) dX0_runs_19 2 rfl rfl ?_
        refine jj_aload_n hk (pc := 20) dX0_runs_20 0 rfl rfl ?_
        refine jj_iconst hk (pc := 21) (v := (-1 : Int32)) dX0_runs_21 (by decide) ?_
        refine kc_X0_0_passes hk hH hK (pc := 22) (a0 := (-1 : Int32)) (fun r h => cc_f0_passes l hH d N σ (-1 : Int32) r h) dX0_runs_22 ⟨Nat.le_of_ble_eq_true rfl, Nat.le_of_ble_eq_true rfl⟩ (Nat.le_of_ble_eq_true rfl) (fun r2 => ?_)
        refine jj_iadd hk (pc := 25) dX0_runs_25 ?_
        refine jj_istore_n hk (pc := 26) [(2, .int (x2 + r2.1)), (0, .ref (ha G 0)), (1, .int x1), (3, .int x3)] dX0_runs_26 rfl (Nat.le_of_ble_eq_true rfl) rfl ?_
        refine jj_iinc hk (pc := 27) [(3, .int (x3 + 1)), (2, .int (x2 + r2.1)), (0, .ref (ha G 0)), (1, .int x1)] dX0_runs_27 3 rfl rfl (Nat.le_of_ble_eq_true rfl) rfl ?_
        refine jj_goto hk (pc := 30) 4 dX0_runs_30 (by decide) ?_
        refine jj_loc [(0, .ref (ha G 0)), (1, .int x1), (2, .int (x2 + r2.1)), (3, .int (x3 + 1))] [2, 3, 1, 0] rfl ?_
        exact ih r2.2 x1 (x2 + r2.1) (x3 + 1)
set_option maxHeartbeats 4000000 in
theorem cc_f0_runs (l : Launch) {G : cG} {KK : State → Prop} (hH : cH G KK) (d : DS) (N : Nat) (σ : SS) (a0 : Int32) (res : (Int32 × SS)) (hf : f0_runs N d σ a0 = some res) : jM l yX0_runs (ws_ yX0_runs cX0_runs 4 (some .int)) 485 12133 [.ref (ha G 0), .int a0] (cWo G d) (cnx d) KK σ (jU res) (hA G) d.2 := by
  refine jj_start [(0, .ref (ha G 0)), (1, .int a0)] (by decide) (Nat.le_of_ble_eq_true rfl) rfl (fun p e R s m args below meth c hk hK hsz => ?_) hf
  have hk : jk p R s m args meth c d.2 cX0_runs 4 RX0 485 12133 (some .int) := hk
  unfold f0_runs
  refine jj_iconst hk (pc := 0) (v := (0 : Int32)) dX0_runs_0 (by decide) ?_
  refine jj_istore_n hk (pc := 1) [(2, .int (0 : Int32)), (0, .ref (ha G 0)), (1, .int a0)] dX0_runs_1 rfl (Nat.le_of_ble_eq_true rfl) rfl ?_
  refine jj_iconst hk (pc := 2) (v := (0 : Int32)) dX0_runs_2 (by decide) ?_
  refine jj_istore_n hk (pc := 3) [(3, .int (0 : Int32)), (2, .int (0 : Int32)), (0, .ref (ha G 0)), (1, .int a0)] dX0_runs_3 rfl (Nat.le_of_ble_eq_true rfl) rfl ?_
  refine jj_loc [(0, .ref (ha G 0)), (1, .int a0), (2, .int (0 : Int32)), (3, .int (0 : Int32))] [2, 3, 1, 0] rfl ?_
  exact wb_f0_runs_L4 hk hH hK N N σ a0 (0 : Int32) (0 : Int32)
set_option maxHeartbeats 4000000 in
theorem cc_f0_restWorth (l : Launch) {G : cG} {KK : State → Prop} (hH : cH G KK) (d : DS) (N : Nat) (σ : SS)  (res : (Int32 × SS)) (hf : f0_restWorth N d σ = some res) : jM l yX0_restWorth (ws_ yX0_restWorth cX0_restWorth 2 (some .int)) 486 12156 [.ref (ha G 0)] (cWo G d) (cnx d) KK σ (jU res) (hA G) d.2 := by
  refine jj_start [(0, .ref (ha G 0))] (by decide) (Nat.le_of_ble_eq_true rfl) rfl (fun p e R s m args below meth c hk hK hsz => ?_) hf
  have hk : jk p R s m args meth c d.2 cX0_restWorth 2 RX0 486 12156 (some .int) := hk
  unfold f0_restWorth
  refine jj_aload_n hk (pc := 0) dX0_restWorth_0 0 rfl rfl ?_
  refine jc_g_tried hk hH hK (pc := 1) dX0_restWorth_1 ?_
  refine jj_aload_n hk (pc := 4) dX0_restWorth_4 0 rfl rfl ?_
  refine jc_g_now hk hH hK (pc := 5) dX0_restWorth_5 ?_
  refine kc_X0_3_become hk hH hK (pc := 8) (t0 := 2) (t1 := 0) (fun r h => cc_f3_become l hH d σ 2 0 (by decide) (by decide) r h) (by decide) (by decide) dX0_restWorth_8 ⟨Nat.le_of_ble_eq_true rfl, Nat.le_of_ble_eq_true rfl⟩ (Nat.le_of_ble_eq_true rfl) (fun r1 => ?_)
  refine jj_aload_n hk (pc := 11) dX0_restWorth_11 0 rfl rfl ?_
  refine jj_bipush hk (pc := 12) (v := (16 : Int32)) dX0_restWorth_12 (by decide) ?_
  refine kc_X0_0_runs hk hH hK (pc := 14) (a0 := (16 : Int32)) (fun r h => cc_f0_runs l hH d N r1 (16 : Int32) r h) dX0_restWorth_14 ⟨Nat.le_of_ble_eq_true rfl, Nat.le_of_ble_eq_true rfl⟩ (Nat.le_of_ble_eq_true rfl) (fun r2 => ?_)
  refine jj_istore_n hk (pc := 17) [(1, .int r2.1), (0, .ref (ha G 0))] dX0_restWorth_17 rfl (Nat.le_of_ble_eq_true rfl) rfl ?_
  refine jj_aload_n hk (pc := 18) dX0_restWorth_18 1 rfl rfl ?_
  refine jc_g_now hk hH hK (pc := 19) dX0_restWorth_19 ?_
  refine jj_aload_n hk (pc := 22) dX0_restWorth_22 1 rfl rfl ?_
  refine jc_g_tried hk hH hK (pc := 23) dX0_restWorth_23 ?_
  refine kc_X0_3_become hk hH hK (pc := 26) (t0 := 0) (t1 := 2) (fun r h => cc_f3_become l hH d r2.2 0 2 (by decide) (by decide) r h) (by decide) (by decide) dX0_restWorth_26 ⟨Nat.le_of_ble_eq_true rfl, Nat.le_of_ble_eq_true rfl⟩ (Nat.le_of_ble_eq_true rfl) (fun r3 => ?_)
  refine jj_iload_n hk (pc := 29) dX0_restWorth_29 0 rfl rfl ?_
  exact jc_retUi hk (pc := 30) dX0_restWorth_30
set_option maxHeartbeats 4000000 in
theorem cc_f0_leaves (l : Launch) {G : cG} {KK : State → Prop} (hH : cH G KK) (d : DS) (N : Nat) (σ : SS) (a0 : Int32) (res : (Int32 × SS)) (hf : f0_leaves N d σ a0 = some res) : jM l yX0_leaves (ws_ yX0_leaves cX0_leaves 4 (some .int)) 486 12156 [.ref (ha G 0), .int a0] (cWo G d) (cnx d) KK σ (jU res) (hA G) d.2 := by
  refine jj_start [(0, .ref (ha G 0)), (1, .int a0)] (by decide) (Nat.le_of_ble_eq_true rfl) rfl (fun p e R s m args below meth c hk hK hsz => ?_) hf
  have hk : jk p R s m args meth c d.2 cX0_leaves 4 RX0 486 12156 (some .int) := hk
  unfold f0_leaves
  refine jj_aload_n hk (pc := 0) dX0_leaves_0 0 rfl rfl ?_
  refine jj_iload_n hk (pc := 1) dX0_leaves_1 1 rfl rfl ?_
  refine kc_X0_0_isPerson hk hH hK (pc := 2) (a0 := a0) (fun r h => cc_f0_isPerson l hH d σ a0 r h) dX0_leaves_2 ⟨Nat.le_of_ble_eq_true rfl, Nat.le_of_ble_eq_true rfl⟩ (Nat.le_of_ble_eq_true rfl) (fun r1 => ?_)
  refine jj_if_ne_b hk (pc := 5) 10 dX0_leaves_5 (by decide) ?_ ?_
  · refine jj_aload_n hk (pc := 10) dX0_leaves_10 0 rfl rfl ?_
    refine jc_g_tried hk hH hK (pc := 11) dX0_leaves_11 ?_
    refine jj_aload_n hk (pc := 14) dX0_leaves_14 0 rfl rfl ?_
    refine jc_g_now hk hH hK (pc := 15) dX0_leaves_15 ?_
    refine kc_X0_3_become hk hH hK (pc := 18) (t0 := 2) (t1 := 0) (fun r h => cc_f3_become l hH d σ 2 0 (by decide) (by decide) r h) (by decide) (by decide) dX0_leaves_18 ⟨Nat.le_of_ble_eq_true rfl, Nat.le_of_ble_eq_true rfl⟩ (Nat.le_of_ble_eq_true rfl) (fun r2 => ?_)
    refine jj_aload_n hk (pc := 21) dX0_leaves_21 0 rfl rfl ?_
    refine jj_bipush hk (pc := 22) (v := (16 : Int32)) dX0_leaves_22 (by decide) ?_
    refine kc_X0_0_runs hk hH hK (pc := 24) (a0 := (16 : Int32)) (fun r h => cc_f0_runs l hH d N r2 (16 : Int32) r h) dX0_leaves_24 ⟨Nat.le_of_ble_eq_true rfl, Nat.le_of_ble_eq_true rfl⟩ (Nat.le_of_ble_eq_true rfl) (fun r3 => ?_)
    refine jj_istore_n hk (pc := 27) [(2, .int r3.1), (0, .ref (ha G 0)), (1, .int a0)] dX0_leaves_27 rfl (Nat.le_of_ble_eq_true rfl) rfl ?_
    refine jj_iload_n hk (pc := 28) dX0_leaves_28 0 rfl rfl ?_
    refine jj_if_ge hk (pc := 29) 36 dX0_leaves_29 (by decide) ?_ ?_
    · refine jj_aload_n hk (pc := 36) dX0_leaves_36 1 rfl rfl ?_
      refine jj_iload_n hk (pc := 37) dX0_leaves_37 2 rfl rfl ?_
      refine kc_X0_0_standsOf hk hH hK (pc := 38) (a0 := a0) (fun r h => cc_f0_standsOf l hH d N r3.2 a0 r h) dX0_leaves_38 ⟨Nat.le_of_ble_eq_true rfl, Nat.le_of_ble_eq_true rfl⟩ (Nat.le_of_ble_eq_true rfl) (fun r4 => ?_)
      refine jj_istore_n hk (pc := 41) [(3, .int r4), (2, .int r3.1), (0, .ref (ha G 0)), (1, .int a0)] dX0_leaves_41 rfl (Nat.le_of_ble_eq_true rfl) rfl ?_
      refine jj_aload_n hk (pc := 42) dX0_leaves_42 2 rfl rfl ?_
      refine jc_g_now hk hH hK (pc := 43) dX0_leaves_43 ?_
      refine jj_aload_n hk (pc := 46) dX0_leaves_46 2 rfl rfl ?_
      refine jc_g_tried hk hH hK (pc := 47) dX0_leaves_47 ?_
      refine kc_X0_3_become hk hH hK (pc := 50) (t0 := 0) (t1 := 2) (fun r h => cc_f3_become l hH d r3.2 0 2 (by decide) (by decide) r h) (by decide) (by decide) dX0_leaves_50 ⟨Nat.le_of_ble_eq_true rfl, Nat.le_of_ble_eq_true rfl⟩ (Nat.le_of_ble_eq_true rfl) (fun r5 => ?_)
      refine jj_iload_n hk (pc := 53) dX0_leaves_53 0 rfl rfl ?_
      exact jc_retUi hk (pc := 54) dX0_leaves_54
    · refine jj_iconst hk (pc := 32) (v := (0 : Int32)) dX0_leaves_32 (by decide) ?_
      refine jj_goto hk (pc := 33) 41 dX0_leaves_33 (by decide) ?_
      refine jj_istore_n hk (pc := 41) [(3, .int (0 : Int32)), (2, .int r3.1), (0, .ref (ha G 0)), (1, .int a0)] dX0_leaves_41 rfl (Nat.le_of_ble_eq_true rfl) rfl ?_
      refine jj_aload_n hk (pc := 42) dX0_leaves_42 2 rfl rfl ?_
      refine jc_g_now hk hH hK (pc := 43) dX0_leaves_43 ?_
      refine jj_aload_n hk (pc := 46) dX0_leaves_46 2 rfl rfl ?_
      refine jc_g_tried hk hH hK (pc := 47) dX0_leaves_47 ?_
      refine kc_X0_3_become hk hH hK (pc := 50) (t0 := 0) (t1 := 2) (fun r h => cc_f3_become l hH d r3.2 0 2 (by decide) (by decide) r h) (by decide) (by decide) dX0_leaves_50 ⟨Nat.le_of_ble_eq_true rfl, Nat.le_of_ble_eq_true rfl⟩ (Nat.le_of_ble_eq_true rfl) (fun r6 => ?_)
      refine jj_iload_n hk (pc := 53) dX0_leaves_53 0 rfl rfl ?_
      exact jc_retUi hk (pc := 54) dX0_leaves_54
  · refine jj_iconst hk (pc := 8) (v := (-1 : Int32)) dX0_leaves_8 (by decide) ?_
    exact jc_retUi hk (pc := 9) dX0_leaves_9
set_option maxHeartbeats 4000000 in
theorem cc_f0_on (l : Launch) {G : cG} {KK : State → Prop} (hH : cH G KK) (d : DS) (N : Nat) (σ : SS) (a0 : Int32) (res : (Int32 × SS)) (hf : f0_on N d σ a0 = some res) : jM l yX0_on (ws_ yX0_on cX0_on 3 (some .int)) 486 12156 [.ref (ha G 0), .int a0] (cWo G d) (cnx d) KK σ (jU res) (hA G) d.2 := by
  refine jj_start [(0, .ref (ha G 0)), (1, .int a0)] (by decide) (Nat.le_of_ble_eq_true rfl) rfl (fun p e R s m args below meth c hk hK hsz => ?_) hf
  have hk : jk p R s m args meth c d.2 cX0_on 3 RX0 486 12156 (some .int) := hk
  unfold f0_on
  refine jj_iload_n hk (pc := 0) dX0_on_0 1 rfl rfl ?_
  refine jj_iconst hk (pc := 1) (v := (0 : Int32)) dX0_on_1 (by decide) ?_
  refine jj_bipush hk (pc := 2) (v := (16 : Int32)) dX0_on_2 (by decide) ?_
  refine kc_X0_0_isIn hk hH hK (pc := 4) (a0 := a0) (a1 := (0 : Int32)) (a2 := (16 : Int32)) (fun r h => cc_f0_isIn l hH d σ a0 (0 : Int32) (16 : Int32) r h) dX0_on_4 ⟨Nat.le_of_ble_eq_true rfl, Nat.le_of_ble_eq_true rfl⟩ (Nat.le_of_ble_eq_true rfl) (fun r1 => ?_)
  refine jj_if_ne_b hk (pc := 7) 12 dX0_on_7 (by decide) ?_ ?_
  · refine jj_aload_n hk (pc := 12) dX0_on_12 0 rfl rfl ?_
    refine jc_g_tried hk hH hK (pc := 13) dX0_on_13 ?_
    refine jj_aload_n hk (pc := 16) dX0_on_16 0 rfl rfl ?_
    refine jc_g_now hk hH hK (pc := 17) dX0_on_17 ?_
    refine kc_X0_3_become hk hH hK (pc := 20) (t0 := 2) (t1 := 0) (fun r h => cc_f3_become l hH d σ 2 0 (by decide) (by decide) r h) (by decide) (by decide) dX0_on_20 ⟨Nat.le_of_ble_eq_true rfl, Nat.le_of_ble_eq_true rfl⟩ (Nat.le_of_ble_eq_true rfl) (fun r2 => ?_)
    refine jj_aload_n hk (pc := 23) dX0_on_23 0 rfl rfl ?_
    refine jj_iload_n hk (pc := 24) dX0_on_24 1 rfl rfl ?_
    refine kc_X0_0_runs hk hH hK (pc := 25) (a0 := a0) (fun r h => cc_f0_runs l hH d N r2 a0 r h) dX0_on_25 ⟨Nat.le_of_ble_eq_true rfl, Nat.le_of_ble_eq_true rfl⟩ (Nat.le_of_ble_eq_true rfl) (fun r3 => ?_)
    refine jj_istore_n hk (pc := 28) [(2, .int r3.1), (0, .ref (ha G 0)), (1, .int a0)] dX0_on_28 rfl (Nat.le_of_ble_eq_true rfl) rfl ?_
    refine jj_aload_n hk (pc := 29) dX0_on_29 1 rfl rfl ?_
    refine jc_g_now hk hH hK (pc := 30) dX0_on_30 ?_
    refine jj_aload_n hk (pc := 33) dX0_on_33 1 rfl rfl ?_
    refine jc_g_tried hk hH hK (pc := 34) dX0_on_34 ?_
    refine kc_X0_3_become hk hH hK (pc := 37) (t0 := 0) (t1 := 2) (fun r h => cc_f3_become l hH d r3.2 0 2 (by decide) (by decide) r h) (by decide) (by decide) dX0_on_37 ⟨Nat.le_of_ble_eq_true rfl, Nat.le_of_ble_eq_true rfl⟩ (Nat.le_of_ble_eq_true rfl) (fun r4 => ?_)
    refine jj_iload_n hk (pc := 40) dX0_on_40 0 rfl rfl ?_
    exact jc_retUi hk (pc := 41) dX0_on_41
  · refine jj_iconst hk (pc := 10) (v := (-1 : Int32)) dX0_on_10 (by decide) ?_
    exact jc_retUi hk (pc := 11) dX0_on_11
set_option maxHeartbeats 4000000 in
theorem wb_f0_until_L53 {res : (Int32 × SS)} (hk : jk p R s m args meth c d.2 cX0_until 5 RX0 485 12133 (some .int)) (hH : cH G KK) (hK : KK s) (N : Nat) : ∀ (n : Nat) (σ : SS) (x1 : Int32) (x2 : Int32), jj p l e R s m args below meth c (hA G) d.2 (jZ below args s (hA G) d.2 (jU res) (cWo G d) (cnx d)) (cWo G d) (cnx d) 5 σ 53 [(0, .ref (ha G 0)), (1, .int x1), (2, .int x2)] [] (f0_until_L53 N d n σ x1 x2 = some res) := by
  intro n
  induction n with
  | zero => intro σ x1 x2; exact jj_eq (fun hz => by rw [f0_until_L53] at hz; exact hz) jj_no
  | succ n ih =>
    intro σ x1 x2
    rw [f0_until_L53]
    refine jj_aload_n hk (pc := 53) dX0_until_53 0 rfl rfl ?_
    refine jc_g_now hk hH hK (pc := 54) dX0_until_54 ?_
    refine kc_X0_3_isOver hk hH hK (pc := 57) (t0 := 0) (fun r h => cc_f3_isOver l hH d σ 0 (by decide) r h) (by decide) dX0_until_57 ⟨Nat.le_of_ble_eq_true rfl, Nat.le_of_ble_eq_true rfl⟩ (Nat.le_of_ble_eq_true rfl) (fun r1 => ?_)
    refine jj_if_ne_b hk (pc := 60) 133 dX0_until_60 (by decide) ?_ ?_
    · refine jj_aload_n hk (pc := 133) dX0_until_133 0 rfl rfl ?_
      refine jc_g_now hk hH hK (pc := 134) dX0_until_134 ?_
      refine jj_aload_n hk (pc := 137) dX0_until_137 0 rfl rfl ?_
      refine jc_g_tried hk hH hK (pc := 138) dX0_until_138 ?_
      refine kc_X0_3_become hk hH hK (pc := 141) (t0 := 0) (t1 := 2) (fun r h => cc_f3_become l hH d σ 0 2 (by decide) (by decide) r h) (by decide) (by decide) dX0_until_141 ⟨Nat.le_of_ble_eq_true rfl, Nat.le_of_ble_eq_true rfl⟩ (Nat.le_of_ble_eq_true rfl) (fun r2 => ?_)
      refine jj_iload_n hk (pc := 144) dX0_until_144 2 rfl rfl ?_
      exact jc_retUi hk (pc := 145) dX0_until_145
    · refine jj_iload_n hk (pc := 63) dX0_until_63 2 rfl rfl ?_
      refine jj_if_ge hk (pc := 64) 133 dX0_until_64 (by decide) ?_ ?_
      · refine jj_aload_n hk (pc := 133) dX0_until_133 0 rfl rfl ?_
        refine jc_g_now hk hH hK (pc := 134) dX0_until_134 ?_
        refine jj_aload_n hk (pc := 137) dX0_until_137 0 rfl rfl ?_
        refine jc_g_tried hk hH hK (pc := 138) dX0_until_138 ?_
        refine kc_X0_3_become hk hH hK (pc := 141) (t0 := 0) (t1 := 2) (fun r h => cc_f3_become l hH d σ 0 2 (by decide) (by decide) r h) (by decide) (by decide) dX0_until_141 ⟨Nat.le_of_ble_eq_true rfl, Nat.le_of_ble_eq_true rfl⟩ (Nat.le_of_ble_eq_true rfl) (fun r3 => ?_)
        refine jj_iload_n hk (pc := 144) dX0_until_144 2 rfl rfl ?_
        exact jc_retUi hk (pc := 145) dX0_until_145
      · refine jj_aload_n hk (pc := 67) dX0_until_67 0 rfl rfl ?_
        refine jj_iconst hk (pc := 68) (v := (-1 : Int32)) dX0_until_68 (by decide) ?_
        refine kc_X0_0_passes hk hH hK (pc := 69) (a0 := (-1 : Int32)) (fun r h => cc_f0_passes l hH d N σ (-1 : Int32) r h) dX0_until_69 ⟨Nat.le_of_ble_eq_true rfl, Nat.le_of_ble_eq_true rfl⟩ (Nat.le_of_ble_eq_true rfl) (fun r4 => ?_)
        refine jj_istore_n hk (pc := 72) [(3, .int r4.1), (0, .ref (ha G 0)), (1, .int x1), (2, .int x2)] dX0_until_72 rfl (Nat.le_of_ble_eq_true rfl) rfl ?_
        refine jj_iload_n hk (pc := 73) dX0_until_73 0 rfl rfl ?_
        refine jj_if_lt hk (pc := 74) 107 dX0_until_74 (by decide) ?_ ?_
        · refine jj_iconst hk (pc := 107) (v := (0 : Int32)) dX0_until_107 (by decide) ?_
          refine jj_istore hk (pc := 108) [(4, .int (0 : Int32)), (3, .int r4.1), (0, .ref (ha G 0)), (1, .int x1), (2, .int x2)] dX0_until_108 (Nat.le_of_ble_eq_true rfl) rfl ?_
          refine jj_iload hk (pc := 110) dX0_until_110 0 rfl ?_
          refine jj_if_eq_T hk (pc := 112) 127 dX0_until_112 (by decide) (by decide) ?_
          refine jj_bipush hk (pc := 127) (v := (-3 : Int32)) dX0_until_127 (by decide) ?_
          refine jj_istore_n hk (pc := 129) [(2, .int (-3 : Int32)), (4, .int (0 : Int32)), (3, .int r4.1), (0, .ref (ha G 0)), (1, .int x1)] dX0_until_129 rfl (Nat.le_of_ble_eq_true rfl) rfl ?_
          refine jj_goto hk (pc := 130) 53 dX0_until_130 (by decide) ?_
          refine jj_loc [(0, .ref (ha G 0)), (1, .int x1), (2, .int (-3 : Int32))] [3, 4, 0] rfl ?_
          exact ih r4.2 x1 (-3 : Int32)
        · refine jj_aload_n hk (pc := 77) dX0_until_77 1 rfl rfl ?_
          refine jc_g_now hk hH hK (pc := 78) dX0_until_78 ?_
          refine jc_t_so hk hH hK (pc := 81) dX0_until_81 ?_
          refine jj_iload_n hk (pc := 84) dX0_until_84 2 rfl rfl ?_
          refine jc_ld (j := 7) hk hH hK (pc := 85) (by decide) dX0_until_85 (fun v5 => ?_)
          refine jj_iconst hk (pc := 86) (v := (2 : Int32)) dX0_until_86 (by decide) ?_
          refine jj_icmp_eq hk (pc := 87) 103 dX0_until_87 (by decide) ?_ ?_
          · refine jj_iconst hk (pc := 103) (v := (1 : Int32)) dX0_until_103 (by decide) ?_
            refine jj_goto hk (pc := 104) 108 dX0_until_104 (by decide) ?_
            refine jj_istore hk (pc := 108) [(4, .int (1 : Int32)), (3, .int r4.1), (0, .ref (ha G 0)), (1, .int x1), (2, .int x2)] dX0_until_108 (Nat.le_of_ble_eq_true rfl) rfl ?_
            refine jj_iload hk (pc := 110) dX0_until_110 0 rfl ?_
            refine jj_if_eq_F hk (pc := 112) dX0_until_112 127 (by decide) (by decide) ?_
            refine jj_aload_n hk (pc := 115) dX0_until_115 2 rfl rfl ?_
            refine jc_g_now hk hH hK (pc := 116) dX0_until_116 ?_
            refine jc_t_year hk hH hK (pc := 119) dX0_until_119 ?_
            refine jj_iconst hk (pc := 122) (v := (1 : Int32)) dX0_until_122 (by decide) ?_
            refine jj_isub hk (pc := 123) dX0_until_123 ?_
            refine jj_goto hk (pc := 124) 129 dX0_until_124 (by decide) ?_
            refine jj_istore_n hk (pc := 129) [(2, .int ((r4.2.1 3) - (1 : Int32))), (4, .int (1 : Int32)), (3, .int r4.1), (0, .ref (ha G 0)), (1, .int x1)] dX0_until_129 rfl (Nat.le_of_ble_eq_true rfl) rfl ?_
            refine jj_goto hk (pc := 130) 53 dX0_until_130 (by decide) ?_
            refine jj_loc [(0, .ref (ha G 0)), (1, .int x1), (2, .int ((r4.2.1 3) - (1 : Int32)))] [3, 4, 0] rfl ?_
            exact ih r4.2 x1 ((r4.2.1 3) - (1 : Int32))
          · refine jj_aload_n hk (pc := 90) dX0_until_90 1 rfl rfl ?_
            refine jc_g_now hk hH hK (pc := 91) dX0_until_91 ?_
            refine jc_t_so hk hH hK (pc := 94) dX0_until_94 ?_
            refine jj_iload_n hk (pc := 97) dX0_until_97 2 rfl rfl ?_
            refine jc_ld (j := 7) hk hH hK (pc := 98) (by decide) dX0_until_98 (fun v6 => ?_)
            refine jj_iconst hk (pc := 99) (v := (3 : Int32)) dX0_until_99 (by decide) ?_
            refine jj_icmp_ne hk (pc := 100) 107 dX0_until_100 (by decide) ?_ ?_
            · refine jj_iconst hk (pc := 107) (v := (0 : Int32)) dX0_until_107 (by decide) ?_
              refine jj_istore hk (pc := 108) [(4, .int (0 : Int32)), (3, .int r4.1), (0, .ref (ha G 0)), (1, .int x1), (2, .int x2)] dX0_until_108 (Nat.le_of_ble_eq_true rfl) rfl ?_
              refine jj_iload hk (pc := 110) dX0_until_110 0 rfl ?_
              refine jj_if_eq_T hk (pc := 112) 127 dX0_until_112 (by decide) (by decide) ?_
              refine jj_bipush hk (pc := 127) (v := (-3 : Int32)) dX0_until_127 (by decide) ?_
              refine jj_istore_n hk (pc := 129) [(2, .int (-3 : Int32)), (4, .int (0 : Int32)), (3, .int r4.1), (0, .ref (ha G 0)), (1, .int x1)] dX0_until_129 rfl (Nat.le_of_ble_eq_true rfl) rfl ?_
              refine jj_goto hk (pc := 130) 53 dX0_until_130 (by decide) ?_
              refine jj_loc [(0, .ref (ha G 0)), (1, .int x1), (2, .int (-3 : Int32))] [3, 4, 0] rfl ?_
              exact ih r4.2 x1 (-3 : Int32)
            · refine jj_iconst hk (pc := 103) (v := (1 : Int32)) dX0_until_103 (by decide) ?_
              refine jj_goto hk (pc := 104) 108 dX0_until_104 (by decide) ?_
              refine jj_istore hk (pc := 108) [(4, .int (1 : Int32)), (3, .int r4.1), (0, .ref (ha G 0)), (1, .int x1), (2, .int x2)] dX0_until_108 (Nat.le_of_ble_eq_true rfl) rfl ?_
              refine jj_iload hk (pc := 110) dX0_until_110 0 rfl ?_
              refine jj_if_eq_F hk (pc := 112) dX0_until_112 127 (by decide) (by decide) ?_
              refine jj_aload_n hk (pc := 115) dX0_until_115 2 rfl rfl ?_
              refine jc_g_now hk hH hK (pc := 116) dX0_until_116 ?_
              refine jc_t_year hk hH hK (pc := 119) dX0_until_119 ?_
              refine jj_iconst hk (pc := 122) (v := (1 : Int32)) dX0_until_122 (by decide) ?_
              refine jj_isub hk (pc := 123) dX0_until_123 ?_
              refine jj_goto hk (pc := 124) 129 dX0_until_124 (by decide) ?_
              refine jj_istore_n hk (pc := 129) [(2, .int ((r4.2.1 3) - (1 : Int32))), (4, .int (1 : Int32)), (3, .int r4.1), (0, .ref (ha G 0)), (1, .int x1)] dX0_until_129 rfl (Nat.le_of_ble_eq_true rfl) rfl ?_
              refine jj_goto hk (pc := 130) 53 dX0_until_130 (by decide) ?_
              refine jj_loc [(0, .ref (ha G 0)), (1, .int x1), (2, .int ((r4.2.1 3) - (1 : Int32)))] [3, 4, 0] rfl ?_
              exact ih r4.2 x1 ((r4.2.1 3) - (1 : Int32))
set_option maxHeartbeats 4000000 in
theorem cc_f0_until (l : Launch) {G : cG} {KK : State → Prop} (hH : cH G KK) (d : DS) (N : Nat) (σ : SS) (a0 : Int32) (res : (Int32 × SS)) (hf : f0_until N d σ a0 = some res) : jM l yX0_until (ws_ yX0_until cX0_until 5 (some .int)) 485 12133 [.ref (ha G 0), .int a0] (cWo G d) (cnx d) KK σ (jU res) (hA G) d.2 := by
  refine jj_start [(0, .ref (ha G 0)), (1, .int a0)] (by decide) (Nat.le_of_ble_eq_true rfl) rfl (fun p e R s m args below meth c hk hK hsz => ?_) hf
  have hk : jk p R s m args meth c d.2 cX0_until 5 RX0 485 12133 (some .int) := hk
  unfold f0_until
  refine jj_aload_n hk (pc := 0) dX0_until_0 0 rfl rfl ?_
  refine jj_iload_n hk (pc := 1) dX0_until_1 1 rfl rfl ?_
  refine kc_X0_0_isDeed hk hH hK (pc := 2) (a0 := a0) (fun r h => cc_f0_isDeed l hH d σ a0 r h) dX0_until_2 ⟨Nat.le_of_ble_eq_true rfl, Nat.le_of_ble_eq_true rfl⟩ (Nat.le_of_ble_eq_true rfl) (fun r1 => ?_)
  refine jj_if_ne_b hk (pc := 5) 10 dX0_until_5 (by decide) ?_ ?_
  · refine jj_aload_n hk (pc := 10) dX0_until_10 0 rfl rfl ?_
    refine jc_g_now hk hH hK (pc := 11) dX0_until_11 ?_
    refine jc_t_so hk hH hK (pc := 14) dX0_until_14 ?_
    refine jj_iload_n hk (pc := 17) dX0_until_17 1 rfl rfl ?_
    refine jc_ld (j := 7) hk hH hK (pc := 18) (by decide) dX0_until_18 (fun v2 => ?_)
    refine jj_iconst hk (pc := 19) (v := (2 : Int32)) dX0_until_19 (by decide) ?_
    refine jj_icmp_eq hk (pc := 20) 36 dX0_until_20 (by decide) ?_ ?_
    · refine jj_bipush hk (pc := 36) (v := (-3 : Int32)) dX0_until_36 (by decide) ?_
      exact jc_retUi hk (pc := 38) dX0_until_38
    · refine jj_aload_n hk (pc := 23) dX0_until_23 0 rfl rfl ?_
      refine jc_g_now hk hH hK (pc := 24) dX0_until_24 ?_
      refine jc_t_so hk hH hK (pc := 27) dX0_until_27 ?_
      refine jj_iload_n hk (pc := 30) dX0_until_30 1 rfl rfl ?_
      refine jc_ld (j := 7) hk hH hK (pc := 31) (by decide) dX0_until_31 (fun v3 => ?_)
      refine jj_iconst hk (pc := 32) (v := (3 : Int32)) dX0_until_32 (by decide) ?_
      refine jj_icmp_ne hk (pc := 33) 39 dX0_until_33 (by decide) ?_ ?_
      · refine jj_aload_n hk (pc := 39) dX0_until_39 0 rfl rfl ?_
        refine jc_g_tried hk hH hK (pc := 40) dX0_until_40 ?_
        refine jj_aload_n hk (pc := 43) dX0_until_43 0 rfl rfl ?_
        refine jc_g_now hk hH hK (pc := 44) dX0_until_44 ?_
        refine kc_X0_3_become hk hH hK (pc := 47) (t0 := 2) (t1 := 0) (fun r h => cc_f3_become l hH d σ 2 0 (by decide) (by decide) r h) (by decide) (by decide) dX0_until_47 ⟨Nat.le_of_ble_eq_true rfl, Nat.le_of_ble_eq_true rfl⟩ (Nat.le_of_ble_eq_true rfl) (fun r4 => ?_)
        refine jj_bipush hk (pc := 50) (v := (-3 : Int32)) dX0_until_50 (by decide) ?_
        refine jj_istore_n hk (pc := 52) [(2, .int (-3 : Int32)), (0, .ref (ha G 0)), (1, .int a0)] dX0_until_52 rfl (Nat.le_of_ble_eq_true rfl) rfl ?_
        refine jj_loc [(0, .ref (ha G 0)), (1, .int a0), (2, .int (-3 : Int32))] [1, 2, 0] rfl ?_
        exact wb_f0_until_L53 hk hH hK N N r4 a0 (-3 : Int32)
      · refine jj_bipush hk (pc := 36) (v := (-3 : Int32)) dX0_until_36 (by decide) ?_
        exact jc_retUi hk (pc := 38) dX0_until_38
  · refine jj_iconst hk (pc := 8) (v := (-1 : Int32)) dX0_until_8 (by decide) ?_
    exact jc_retUi hk (pc := 9) dX0_until_9
end
