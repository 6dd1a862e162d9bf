/-! WALKS OF THE CONSTRUCTORS -/
set_option maxRecDepth 100000
set_option maxHeartbeats 1000000
theorem kc_J0R (l : Launch) {G : cG} {KK : State → Prop} (hH : cH G KK) (q z : Nat) : kM l yJ0_init_2 (ws_ yJ0_init_2 cJ0_init_2 5 none) 2 100 [.ref q, .null, .null, .int 0, .int 0] G KK [(q, .inr (5, [.null, .null, .null, .null, .null, .int 0, .int 0]))] [(q, .inr (5, [.null, .null, .null, .null, .null, .int 0, .int 0]))] z 0 0 := by
  refine ke_start [(0, .ref q), (1, .null), (2, .null), (3, .int 0), (4, .int 0)] (by decide) rfl (Nat.le_of_ble_eq_true rfl) rfl (fun p e R s m args below meth c hk hK hX0 => ?_)
  refine ke_aload_n hk (pc := 0) dJ0_init_2_0 0 rfl rfl ?_
  refine ke_objInit hk (pc := 1) q186 q159 q160 dJ0_init_2_1 ⟨Nat.le_of_ble_eq_true rfl, Nat.le_of_ble_eq_true rfl⟩ (Nat.le_of_ble_eq_true rfl) ?_
  refine ke_aload_n hk (pc := 4) dJ0_init_2_4 0 rfl rfl ?_
  refine ke_aload_n hk (pc := 5) dJ0_init_2_5 0 rfl rfl ?_
  refine ke_put hk hH hK (pc := 6) (q0 := 0) (ci := 5) (ty := .object "java/lang/Throwable") in_X1 tyX1 tyX1_ok nmX1 rfl rfl (i := 0) (by decide) q236 rfl rfl rfl rfl rfl (Nat.le_of_ble_eq_true rfl) dJ0_init_2_6 ?_
  refine ke_aload_n hk (pc := 9) dJ0_init_2_9 0 rfl rfl ?_
  refine ke_gets hk (pc := 10) (hH.2.2.2.2.1 s s.heap hK hX0).2.2.2.1 q187 rfl dJ0_init_2_10 (fun f10 => ?_)
  refine ke_put hk hH hK (pc := 13) (q0 := 0) (ci := 5) (ty := .array (.object "java/lang/StackTraceElement")) in_X1 tyX1 tyX1_ok nmX1 rfl rfl (i := 1) (by decide) q237 rfl rfl rfl (by cases f10 <;> rfl) (by cases f10 <;> rfl) (Nat.le_of_ble_eq_true rfl) dJ0_init_2_13 ?_
  refine ke_aload_n hk (pc := 16) dJ0_init_2_16 0 rfl rfl ?_
  refine ke_gets hk (pc := 17) (hH.2.2.2.2.1 s s.heap hK hX0).2.2.2.2 q189 rfl dJ0_init_2_17 (fun f17 => ?_)
  refine ke_put hk hH hK (pc := 20) (q0 := 0) (ci := 5) (ty := .object "java/util/List") in_X1 tyX1 tyX1_ok nmX1 rfl rfl (i := 2) (by decide) q238 rfl rfl rfl (by cases f17 <;> rfl) (by cases f17 <;> rfl) (Nat.le_of_ble_eq_true rfl) dJ0_init_2_20 ?_
  refine ke_iload hk (pc := 23) dJ0_init_2_23 4 rfl ?_
  refine ke_ifeqT hk (pc := 25) 36 dJ0_init_2_25 (by decide) rfl ?_
  refine ke_aload_n hk (pc := 36) dJ0_init_2_36 0 rfl rfl ?_
  refine ke_null hk (pc := 37) dJ0_init_2_37 ?_
  refine ke_put hk hH hK (pc := 38) (q0 := 0) (ci := 5) (ty := .array (.object "java/lang/StackTraceElement")) in_X1 tyX1 tyX1_ok nmX1 rfl rfl (i := 1) (by decide) q237 rfl rfl rfl rfl rfl (Nat.le_of_ble_eq_true rfl) dJ0_init_2_38 ?_
  refine ke_aload_n hk (pc := 41) dJ0_init_2_41 0 rfl rfl ?_
  refine ke_aload_nN hk (pc := 42) dJ0_init_2_42 1 rfl rfl ?_
  refine ke_put hk hH hK (pc := 43) (q0 := 0) (ci := 5) (ty := .object "java/lang/String") in_X1 tyX1 tyX1_ok nmX1 rfl rfl (i := 3) (by decide) q235 rfl rfl rfl rfl rfl (Nat.le_of_ble_eq_true rfl) dJ0_init_2_43 ?_
  refine ke_aload_n hk (pc := 46) dJ0_init_2_46 0 rfl rfl ?_
  refine ke_aload_nN hk (pc := 47) dJ0_init_2_47 2 rfl rfl ?_
  refine ke_put hk hH hK (pc := 48) (q0 := 0) (ci := 5) (ty := .object "java/lang/Throwable") in_X1 tyX1 tyX1_ok nmX1 rfl rfl (i := 0) (by decide) q236 rfl rfl rfl rfl rfl (Nat.le_of_ble_eq_true rfl) dJ0_init_2_48 ?_
  refine ke_iload_n hk (pc := 51) dJ0_init_2_51 3 rfl rfl ?_
  refine ke_ifneF hk (pc := 52) 60 dJ0_init_2_52 (by decide) rfl ?_
  refine ke_aload_n hk (pc := 55) dJ0_init_2_55 0 rfl rfl ?_
  refine ke_null hk (pc := 56) dJ0_init_2_56 ?_
  refine ke_put hk hH hK (pc := 57) (q0 := 0) (ci := 5) (ty := .object "java/util/List") in_X1 tyX1 tyX1_ok nmX1 rfl rfl (i := 2) (by decide) q238 rfl rfl rfl rfl rfl (Nat.le_of_ble_eq_true rfl) dJ0_init_2_57 ?_
  refine ke_norm (E' := [(q, .inr (5, [.null, .null, .null, .null, .null, .int 0, .int 0]))]) rfl ?_
  exact ke_retV hk (pc := 60) dJ0_init_2_60
theorem kc_J1R (l : Launch) {G : cG} {KK : State → Prop} (hH : cH G KK) (q z : Nat) : kM l yJ1_init (ws_ yJ1_init cJ1_init 5 none) 4 200 [.ref q, .null, .null, .int 0, .int 0] G KK [(q, .inr (5, [.null, .null, .null, .null, .null, .int 0, .int 0]))] [(q, .inr (5, [.null, .null, .null, .null, .null, .int 0, .int 0]))] z 0 0 := by
  refine ke_start [(0, .ref q), (1, .null), (2, .null), (3, .int 0), (4, .int 0)] (by decide) rfl (Nat.le_of_ble_eq_true rfl) rfl (fun p e R s m args below meth c hk hK hX0 => ?_)
  refine ke_aload_n hk (pc := 0) dJ1_init_0 0 rfl rfl ?_
  refine ke_aload_nN hk (pc := 1) dJ1_init_1 1 rfl rfl ?_
  refine ke_aload_nN hk (pc := 2) dJ1_init_2 2 rfl rfl ?_
  refine ke_iload_n hk (pc := 3) dJ1_init_3 3 rfl rfl ?_
  refine ke_iload hk (pc := 4) dJ1_init_4 4 rfl ?_
  refine ke_super hk hH hK (np := 4) (pc := 6) [.null, .null, .int 0, .int 0] (kc_J0R l (cH_gz hH _) _ _) q229 q119 q227 q228 rfl ⟨by decide, by decide, by decide⟩ rfl rfl dJ1_init_6 ⟨Nat.le_of_ble_eq_true rfl, Nat.le_of_ble_eq_true rfl⟩ (Nat.le_of_ble_eq_true rfl) (Nat.le_of_ble_eq_true rfl) (Nat.le_of_ble_eq_true rfl) ?_
  refine ke_norm (E' := [(q, .inr (5, [.null, .null, .null, .null, .null, .int 0, .int 0]))]) rfl ?_
  exact ke_retV hk (pc := 9) dJ1_init_9
theorem kc_J2R (l : Launch) {G : cG} {KK : State → Prop} (hH : cH G KK) (q z : Nat) : kM l yJ2_init (ws_ yJ2_init cJ2_init 5 none) 6 300 [.ref q, .null, .null, .int 0, .int 0] G KK [(q, .inr (5, [.null, .null, .null, .null, .null, .int 0, .int 0]))] [(q, .inr (5, [.null, .null, .null, .null, .null, .int 0, .int 0]))] z 0 0 := by
  refine ke_start [(0, .ref q), (1, .null), (2, .null), (3, .int 0), (4, .int 0)] (by decide) rfl (Nat.le_of_ble_eq_true rfl) rfl (fun p e R s m args below meth c hk hK hX0 => ?_)
  refine ke_aload_n hk (pc := 0) dJ2_init_0 0 rfl rfl ?_
  refine ke_aload_nN hk (pc := 1) dJ2_init_1 1 rfl rfl ?_
  refine ke_aload_nN hk (pc := 2) dJ2_init_2 2 rfl rfl ?_
  refine ke_iload_n hk (pc := 3) dJ2_init_3 3 rfl rfl ?_
  refine ke_iload hk (pc := 4) dJ2_init_4 4 rfl ?_
  refine ke_super hk hH hK (np := 4) (pc := 6) [.null, .null, .int 0, .int 0] (kc_J1R l (cH_gz hH _) _ _) q226 q120 q224 q225 rfl ⟨by decide, by decide, by decide⟩ rfl rfl dJ2_init_6 ⟨Nat.le_of_ble_eq_true rfl, Nat.le_of_ble_eq_true rfl⟩ (Nat.le_of_ble_eq_true rfl) (Nat.le_of_ble_eq_true rfl) (Nat.le_of_ble_eq_true rfl) ?_
  refine ke_norm (E' := [(q, .inr (5, [.null, .null, .null, .null, .null, .int 0, .int 0]))]) rfl ?_
  exact ke_retV hk (pc := 9) dJ2_init_9
theorem kc_X1R (l : Launch) {G : cG} {KK : State → Prop} (hH : cH G KK) (q z : Nat) : kM l yX1_init (ws_ yX1_init cX1_init 1 none) 8 400 [.ref q] G KK [(q, .inr (5, [.null, .null, .null, .null, .null, .int 0, .int 0]))] [(q, .inr (5, [.null, .null, .null, .null, .null, .int 0, .int 0]))] z 0 0 := by
  refine ke_start [(0, .ref q)] (by decide) rfl (Nat.le_of_ble_eq_true rfl) rfl (fun p e R s m args below meth c hk hK hX0 => ?_)
  refine ke_aload_n hk (pc := 0) dX1_init_0 0 rfl rfl ?_
  refine ke_null hk (pc := 1) dX1_init_1 ?_
  refine ke_null hk (pc := 2) dX1_init_2 ?_
  refine ke_iconst hk (pc := 3) (v := 0) dX1_init_3 (by decide) ?_
  refine ke_iconst hk (pc := 4) (v := 0) dX1_init_4 (by decide) ?_
  refine ke_super hk hH hK (np := 4) (pc := 5) [.null, .null, .int 0, .int 0] (kc_J2R l (cH_gz hH _) _ _) q223 q121 q221 q222 rfl ⟨by decide, by decide, by decide⟩ rfl rfl dX1_init_5 ⟨Nat.le_of_ble_eq_true rfl, Nat.le_of_ble_eq_true rfl⟩ (Nat.le_of_ble_eq_true rfl) (Nat.le_of_ble_eq_true rfl) (Nat.le_of_ble_eq_true rfl) ?_
  refine ke_norm (E' := [(q, .inr (5, [.null, .null, .null, .null, .null, .int 0, .int 0]))]) rfl ?_
  exact ke_retV hk (pc := 8) dX1_init_8
theorem kc_J0F (l : Launch) {G : cG} {KK : State → Prop} (hH : cH G KK) (q z : Nat) : kM l yJ0_init_2 (ws_ yJ0_init_2 cJ0_init_2 5 none) 2 100 [.ref q, .null, .null, .int 0, .int 0] G KK [(q, .inr (6, [.null, .null, .null, .null, .null, .int 0, .int 0]))] [(q, .inr (6, [.null, .null, .null, .null, .null, .int 0, .int 0]))] z 0 0 := by
  refine ke_start [(0, .ref q), (1, .null), (2, .null), (3, .int 0), (4, .int 0)] (by decide) rfl (Nat.le_of_ble_eq_true rfl) rfl (fun p e R s m args below meth c hk hK hX0 => ?_)
  refine ke_aload_n hk (pc := 0) dJ0_init_2_0 0 rfl rfl ?_
  refine ke_objInit hk (pc := 1) q186 q159 q160 dJ0_init_2_1 ⟨Nat.le_of_ble_eq_true rfl, Nat.le_of_ble_eq_true rfl⟩ (Nat.le_of_ble_eq_true rfl) ?_
  refine ke_aload_n hk (pc := 4) dJ0_init_2_4 0 rfl rfl ?_
  refine ke_aload_n hk (pc := 5) dJ0_init_2_5 0 rfl rfl ?_
  refine ke_put hk hH hK (pc := 6) (q0 := 0) (ci := 6) (ty := .object "java/lang/Throwable") in_X2 tyX2 tyX2_ok nmX2 rfl rfl (i := 0) (by decide) q236 rfl rfl rfl rfl rfl (Nat.le_of_ble_eq_true rfl) dJ0_init_2_6 ?_
  refine ke_aload_n hk (pc := 9) dJ0_init_2_9 0 rfl rfl ?_
  refine ke_gets hk (pc := 10) (hH.2.2.2.2.1 s s.heap hK hX0).2.2.2.1 q187 rfl dJ0_init_2_10 (fun f10 => ?_)
  refine ke_put hk hH hK (pc := 13) (q0 := 0) (ci := 6) (ty := .array (.object "java/lang/StackTraceElement")) in_X2 tyX2 tyX2_ok nmX2 rfl rfl (i := 1) (by decide) q237 rfl rfl rfl (by cases f10 <;> rfl) (by cases f10 <;> rfl) (Nat.le_of_ble_eq_true rfl) dJ0_init_2_13 ?_
  refine ke_aload_n hk (pc := 16) dJ0_init_2_16 0 rfl rfl ?_
  refine ke_gets hk (pc := 17) (hH.2.2.2.2.1 s s.heap hK hX0).2.2.2.2 q189 rfl dJ0_init_2_17 (fun f17 => ?_)
  refine ke_put hk hH hK (pc := 20) (q0 := 0) (ci := 6) (ty := .object "java/util/List") in_X2 tyX2 tyX2_ok nmX2 rfl rfl (i := 2) (by decide) q238 rfl rfl rfl (by cases f17 <;> rfl) (by cases f17 <;> rfl) (Nat.le_of_ble_eq_true rfl) dJ0_init_2_20 ?_
  refine ke_iload hk (pc := 23) dJ0_init_2_23 4 rfl ?_
  refine ke_ifeqT hk (pc := 25) 36 dJ0_init_2_25 (by decide) rfl ?_
  refine ke_aload_n hk (pc := 36) dJ0_init_2_36 0 rfl rfl ?_
  refine ke_null hk (pc := 37) dJ0_init_2_37 ?_
  refine ke_put hk hH hK (pc := 38) (q0 := 0) (ci := 6) (ty := .array (.object "java/lang/StackTraceElement")) in_X2 tyX2 tyX2_ok nmX2 rfl rfl (i := 1) (by decide) q237 rfl rfl rfl rfl rfl (Nat.le_of_ble_eq_true rfl) dJ0_init_2_38 ?_
  refine ke_aload_n hk (pc := 41) dJ0_init_2_41 0 rfl rfl ?_
  refine ke_aload_nN hk (pc := 42) dJ0_init_2_42 1 rfl rfl ?_
  refine ke_put hk hH hK (pc := 43) (q0 := 0) (ci := 6) (ty := .object "java/lang/String") in_X2 tyX2 tyX2_ok nmX2 rfl rfl (i := 3) (by decide) q235 rfl rfl rfl rfl rfl (Nat.le_of_ble_eq_true rfl) dJ0_init_2_43 ?_
  refine ke_aload_n hk (pc := 46) dJ0_init_2_46 0 rfl rfl ?_
  refine ke_aload_nN hk (pc := 47) dJ0_init_2_47 2 rfl rfl ?_
  refine ke_put hk hH hK (pc := 48) (q0 := 0) (ci := 6) (ty := .object "java/lang/Throwable") in_X2 tyX2 tyX2_ok nmX2 rfl rfl (i := 0) (by decide) q236 rfl rfl rfl rfl rfl (Nat.le_of_ble_eq_true rfl) dJ0_init_2_48 ?_
  refine ke_iload_n hk (pc := 51) dJ0_init_2_51 3 rfl rfl ?_
  refine ke_ifneF hk (pc := 52) 60 dJ0_init_2_52 (by decide) rfl ?_
  refine ke_aload_n hk (pc := 55) dJ0_init_2_55 0 rfl rfl ?_
  refine ke_null hk (pc := 56) dJ0_init_2_56 ?_
  refine ke_put hk hH hK (pc := 57) (q0 := 0) (ci := 6) (ty := .object "java/util/List") in_X2 tyX2 tyX2_ok nmX2 rfl rfl (i := 2) (by decide) q238 rfl rfl rfl rfl rfl (Nat.le_of_ble_eq_true rfl) dJ0_init_2_57 ?_
  refine ke_norm (E' := [(q, .inr (6, [.null, .null, .null, .null, .null, .int 0, .int 0]))]) rfl ?_
  exact ke_retV hk (pc := 60) dJ0_init_2_60
theorem kc_J1F (l : Launch) {G : cG} {KK : State → Prop} (hH : cH G KK) (q z : Nat) : kM l yJ1_init (ws_ yJ1_init cJ1_init 5 none) 4 200 [.ref q, .null, .null, .int 0, .int 0] G KK [(q, .inr (6, [.null, .null, .null, .null, .null, .int 0, .int 0]))] [(q, .inr (6, [.null, .null, .null, .null, .null, .int 0, .int 0]))] z 0 0 := by
  refine ke_start [(0, .ref q), (1, .null), (2, .null), (3, .int 0), (4, .int 0)] (by decide) rfl (Nat.le_of_ble_eq_true rfl) rfl (fun p e R s m args below meth c hk hK hX0 => ?_)
  refine ke_aload_n hk (pc := 0) dJ1_init_0 0 rfl rfl ?_
  refine ke_aload_nN hk (pc := 1) dJ1_init_1 1 rfl rfl ?_
  refine ke_aload_nN hk (pc := 2) dJ1_init_2 2 rfl rfl ?_
  refine ke_iload_n hk (pc := 3) dJ1_init_3 3 rfl rfl ?_
  refine ke_iload hk (pc := 4) dJ1_init_4 4 rfl ?_
  refine ke_super hk hH hK (np := 4) (pc := 6) [.null, .null, .int 0, .int 0] (kc_J0F l (cH_gz hH _) _ _) q229 q119 q227 q228 rfl ⟨by decide, by decide, by decide⟩ rfl rfl dJ1_init_6 ⟨Nat.le_of_ble_eq_true rfl, Nat.le_of_ble_eq_true rfl⟩ (Nat.le_of_ble_eq_true rfl) (Nat.le_of_ble_eq_true rfl) (Nat.le_of_ble_eq_true rfl) ?_
  refine ke_norm (E' := [(q, .inr (6, [.null, .null, .null, .null, .null, .int 0, .int 0]))]) rfl ?_
  exact ke_retV hk (pc := 9) dJ1_init_9
theorem kc_J2F (l : Launch) {G : cG} {KK : State → Prop} (hH : cH G KK) (q z : Nat) : kM l yJ2_init (ws_ yJ2_init cJ2_init 5 none) 6 300 [.ref q, .null, .null, .int 0, .int 0] G KK [(q, .inr (6, [.null, .null, .null, .null, .null, .int 0, .int 0]))] [(q, .inr (6, [.null, .null, .null, .null, .null, .int 0, .int 0]))] z 0 0 := by
  refine ke_start [(0, .ref q), (1, .null), (2, .null), (3, .int 0), (4, .int 0)] (by decide) rfl (Nat.le_of_ble_eq_true rfl) rfl (fun p e R s m args below meth c hk hK hX0 => ?_)
  refine ke_aload_n hk (pc := 0) dJ2_init_0 0 rfl rfl ?_
  refine ke_aload_nN hk (pc := 1) dJ2_init_1 1 rfl rfl ?_
  refine ke_aload_nN hk (pc := 2) dJ2_init_2 2 rfl rfl ?_
  refine ke_iload_n hk (pc := 3) dJ2_init_3 3 rfl rfl ?_
  refine ke_iload hk (pc := 4) dJ2_init_4 4 rfl ?_
  refine ke_super hk hH hK (np := 4) (pc := 6) [.null, .null, .int 0, .int 0] (kc_J1F l (cH_gz hH _) _ _) q226 q120 q224 q225 rfl ⟨by decide, by decide, by decide⟩ rfl rfl dJ2_init_6 ⟨Nat.le_of_ble_eq_true rfl, Nat.le_of_ble_eq_true rfl⟩ (Nat.le_of_ble_eq_true rfl) (Nat.le_of_ble_eq_true rfl) (Nat.le_of_ble_eq_true rfl) ?_
  refine ke_norm (E' := [(q, .inr (6, [.null, .null, .null, .null, .null, .int 0, .int 0]))]) rfl ?_
  exact ke_retV hk (pc := 9) dJ2_init_9
theorem kc_X1F (l : Launch) {G : cG} {KK : State → Prop} (hH : cH G KK) (q z : Nat) : kM l yX1_init (ws_ yX1_init cX1_init 1 none) 8 400 [.ref q] G KK [(q, .inr (6, [.null, .null, .null, .null, .null, .int 0, .int 0]))] [(q, .inr (6, [.null, .null, .null, .null, .null, .int 0, .int 0]))] z 0 0 := by
  refine ke_start [(0, .ref q)] (by decide) rfl (Nat.le_of_ble_eq_true rfl) rfl (fun p e R s m args below meth c hk hK hX0 => ?_)
  refine ke_aload_n hk (pc := 0) dX1_init_0 0 rfl rfl ?_
  refine ke_null hk (pc := 1) dX1_init_1 ?_
  refine ke_null hk (pc := 2) dX1_init_2 ?_
  refine ke_iconst hk (pc := 3) (v := 0) dX1_init_3 (by decide) ?_
  refine ke_iconst hk (pc := 4) (v := 0) dX1_init_4 (by decide) ?_
  refine ke_super hk hH hK (np := 4) (pc := 5) [.null, .null, .int 0, .int 0] (kc_J2F l (cH_gz hH _) _ _) q223 q121 q221 q222 rfl ⟨by decide, by decide, by decide⟩ rfl rfl dX1_init_5 ⟨Nat.le_of_ble_eq_true rfl, Nat.le_of_ble_eq_true rfl⟩ (Nat.le_of_ble_eq_true rfl) (Nat.le_of_ble_eq_true rfl) (Nat.le_of_ble_eq_true rfl) ?_
  refine ke_norm (E' := [(q, .inr (6, [.null, .null, .null, .null, .null, .int 0, .int 0]))]) rfl ?_
  exact ke_retV hk (pc := 8) dX1_init_8
theorem kc_X2 (l : Launch) {G : cG} {KK : State → Prop} (hH : cH G KK) (q z : Nat) : kM l yX2_init (ws_ yX2_init cX2_init 1 none) 10 500 [.ref q] G KK [(q, .inr (6, [.null, .null, .null, .null, .null, .int 0, .int 0]))] [(q, .inr (6, [.null, .null, .null, .null, .null, .int 0, .int 0]))] z 0 0 := by
  refine ke_start [(0, .ref q)] (by decide) rfl (Nat.le_of_ble_eq_true rfl) rfl (fun p e R s m args below meth c hk hK hX0 => ?_)
  refine ke_aload_n hk (pc := 0) dX2_init_0 0 rfl rfl ?_
  refine ke_super hk hH hK (np := 0) (pc := 1) [] (kc_X1F l (cH_gz hH _) _ _) q220 q122 q262 q219 rfl ⟨by decide, by decide, by decide⟩ rfl rfl dX2_init_1 ⟨Nat.le_of_ble_eq_true rfl, Nat.le_of_ble_eq_true rfl⟩ (Nat.le_of_ble_eq_true rfl) (Nat.le_of_ble_eq_true rfl) (Nat.le_of_ble_eq_true rfl) ?_
  refine ke_norm (E' := [(q, .inr (6, [.null, .null, .null, .null, .null, .int 0, .int 0]))]) rfl ?_
  exact ke_retV hk (pc := 4) dX2_init_4
theorem kc_X5 (l : Launch) {G : cG} {KK : State → Prop} (hH : cH G KK) (q z : Nat) : kM l yX5_init (ws_ yX5_init cX5_init 1 none) 2 100 [.ref q] G KK [(q, .inr (4, [.null]))] [(q, .inr (4, [.null]))] z 0 0 := by
  refine ke_start [(0, .ref q)] (by decide) rfl (Nat.le_of_ble_eq_true rfl) rfl (fun p e R s m args below meth c hk hK hX0 => ?_)
  refine ke_aload_n hk (pc := 0) dX5_init_0 0 rfl rfl ?_
  refine ke_objInit hk (pc := 1) q400 q159 q160 dX5_init_1 ⟨Nat.le_of_ble_eq_true rfl, Nat.le_of_ble_eq_true rfl⟩ (Nat.le_of_ble_eq_true rfl) ?_
  refine ke_norm (E' := [(q, .inr (4, [.null]))]) rfl ?_
  exact ke_retV hk (pc := 4) dX5_init_4
theorem kc_X4 (l : Launch) {G : cG} {KK : State → Prop} (hH : cH G KK) (q z : Nat) : kM l yX4_init (ws_ yX4_init cX4_init 1 none) 2 100 [.ref q] G KK [(q, .inr (3, [.null, .int 0]))] [(q, .inr (3, [.ref (z + 0), .int 0])), ((z + 0), .inl (hT G 0, 30, .inl (fun _ => 0)))] z 1 30 := by
  refine ke_start [(0, .ref q)] (by decide) rfl (Nat.le_of_ble_eq_true rfl) rfl (fun p e R s m args below meth c hk hK hX0 => ?_)
  refine ke_aload_n hk (pc := 0) dX4_init_0 0 rfl rfl ?_
  refine ke_objInit hk (pc := 1) q385 q159 q160 dX4_init_1 ⟨Nat.le_of_ble_eq_true rfl, Nat.le_of_ble_eq_true rfl⟩ (Nat.le_of_ble_eq_true rfl) ?_
  refine ke_aload_n hk (pc := 4) dX4_init_4 0 rfl rfl ?_
  refine ke_bipush hk (pc := 5) (v := 30) dX4_init_5 (by decide) ?_
  refine ke_newI (N := 30) hk hH hK (pc := 7) (by decide) (by decide) (by decide) (Nat.le_of_ble_eq_true rfl) (Nat.le_of_ble_eq_true rfl) dX4_init_7 ?_
  refine ke_num (k1 := 1) (n1 := 30) rfl rfl ?_
  refine ke_putF hk hH hK (pc := 9) (q0 := 0) (ci := 3) (ty := .array (.int)) in_X4 tyX4 tyX4_ok nmX4 rfl rfl (i := 0) (by decide) q386 rfl rfl rfl rfl rfl rfl (Nat.le_of_ble_eq_true rfl) dX4_init_9 ?_
  refine ke_norm (E' := [(q, .inr (3, [.ref (z + 0), .int 0])), ((z + 0), .inl (hT G 0, 30, .inl (fun _ => 0)))]) rfl ?_
  exact ke_retV hk (pc := 12) dX4_init_12
