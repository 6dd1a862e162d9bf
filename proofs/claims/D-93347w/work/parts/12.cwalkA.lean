/-! THE COMPONENT's METHODS, printed by gen/gen2.py out of the byte code -/
set_option maxRecDepth 100000
section
variable {p : Program} {l : Launch} {e : Env} {R : Room} {s : State} {m : MethodId} {args : Array Value} {below : List Frame} {meth : Method} {c : Code}
variable {G : cG} {d : DS} {KK : State → Prop}
variable {NX : Nat} {Q : State → Prop} {nL : Nat} {cc : ByteArray} {fr lo frc loc : Nat} {ret : Option FieldType}
variable {pc : Nat} {σ : SS} {lv : List (Nat × Value)} {st : List Value} {ρ : Type} {res : ρ}
theorem kc_X10_7_pull (hk : jk p R s m args meth c NX cc nL RX10 fr lo ret) (hH : cH G KK) (hK : KK s) {q0 : Nat} {a0 : Int32} {a1 : Int32} {F : Option Int32} {K : Int32 → Option ρ} (hM : ∀ r, F = some r → jM l yX7_pull (ws_ yX7_pull cX7_pull 3 (some .int)) frc loc [.ref q0, .int a0, .int a1] (cWo G d) (cnx d) KK σ (jR σ r) (hA G) d.2)  (hd : decode cc pc = .ok (.invokespecial 11, 3)) (hr : frc + 1 ≤ fr ∧ 8 + (3 + 11) + loc ≤ lo) (hw : (st.map fun v => v.category).sum ≤ 8) (kk : ∀ r, jj p l e R s m args below meth c (hA G) NX Q (cWo G d) (cnx d) nL σ (pc + 3) lv (.int r :: st) (K r = some res)) : jj p l e R s m args below meth c (hA G) NX Q (cWo G d) (cnx d) nL σ pc lv (.int a1 :: .int a0 :: .ref q0 :: st) (((dci d q0).bind fun _ => F).bind K = some res) :=
  jc_SXRi (x := ⟨"LeftUndoes$Forger", "pull", "(II)I"⟩) (n := 2) hk hH hK [.int a0, .int a1] hM q606 q607 q555 q546 q587 q128 q593 rfl (by decide +kernel) rfl rfl hd hr hw kk
theorem kc_X10_9_term (hk : jk p R s m args meth c NX cc nL RX10 fr lo ret) (hH : cH G KK) (hK : KK s) {q0 : Nat} {F : Option Int32} {K : Int32 → Option ρ} (hM : ∀ r, F = some r → jM l yX9_term (ws_ yX9_term cX9_term 1 (some .int)) frc loc [.ref q0] (cWo G d) (cnx d) KK σ (jR σ r) (hA G) d.2)  (hd : decode cc pc = .ok (.invokespecial 7, 3)) (hr : frc + 1 ≤ fr ∧ 8 + (1 + 11) + loc ≤ lo) (hw : (st.map fun v => v.category).sum ≤ 8) (kk : ∀ r, jj p l e R s m args below meth c (hA G) NX Q (cWo G d) (cnx d) nL σ (pc + 3) lv (.int r :: st) (K r = some res)) : jj p l e R s m args below meth c (hA G) NX Q (cWo G d) (cnx d) nL σ pc lv (.ref q0 :: st) (((dci d q0).bind fun _ => F).bind K = some res) :=
  jc_SURi (n := 0) hk hH hK [] hM (lw_SUw q674 q2231 q555 q659 q130 q660) (by decide +kernel) rfl rfl hd hr hw kk
theorem kc_X11_7_pull (hk : jk p R s m args meth c NX cc nL RX11 fr lo ret) (hH : cH G KK) (hK : KK s) {q0 : Nat} {a0 : Int32} {a1 : Int32} {F : Option Int32} {K : Int32 → Option ρ} (hM : ∀ r, F = some r → jM l yX7_pull (ws_ yX7_pull cX7_pull 3 (some .int)) frc loc [.ref q0, .int a0, .int a1] (cWo G d) (cnx d) KK σ (jR σ r) (hA G) d.2)  (hd : decode cc pc = .ok (.invokespecial 11, 3)) (hr : frc + 1 ≤ fr ∧ 8 + (3 + 11) + loc ≤ lo) (hw : (st.map fun v => v.category).sum ≤ 8) (kk : ∀ r, jj p l e R s m args below meth c (hA G) NX Q (cWo G d) (cnx d) nL σ (pc + 3) lv (.int r :: st) (K r = some res)) : jj p l e R s m args below meth c (hA G) NX Q (cWo G d) (cnx d) nL σ pc lv (.int a1 :: .int a0 :: .ref q0 :: st) (((dci d q0).bind fun _ => F).bind K = some res) :=
  jc_SURi (n := 2) hk hH hK [.int a0, .int a1] hM (lw_SUw q601 q588 q564 q587 q128 q593) (by decide +kernel) rfl rfl hd hr hw kk
theorem kc_X11_7_term (hk : jk p R s m args meth c NX cc nL RX11 fr lo ret) (hH : cH G KK) (hK : KK s) {q0 : Nat} {F : Option Int32} {K : Int32 → Option ρ} (hM : ∀ r, F = some r → jM l yX7_term (ws_ yX7_term cX7_term 1 (some .int)) frc loc [.ref q0] (cWo G d) (cnx d) KK σ (jR σ r) (hA G) d.2)  (hd : decode cc pc = .ok (.invokespecial 7, 3)) (hr : frc + 1 ≤ fr ∧ 8 + (1 + 11) + loc ≤ lo) (hw : (st.map fun v => v.category).sum ≤ 8) (kk : ∀ r, jj p l e R s m args below meth c (hA G) NX Q (cWo G d) (cnx d) nL σ (pc + 3) lv (.int r :: st) (K r = some res)) : jj p l e R s m args below meth c (hA G) NX Q (cWo G d) (cnx d) nL σ pc lv (.ref q0 :: st) (((dci d q0).bind fun _ => F).bind K = some res) :=
  jc_SURi (n := 0) hk hH hK [] hM (lw_SUw q669 q656 q564 q655 q128 q662) (by decide +kernel) rfl rfl hd hr hw kk
theorem kc_X12_11_pull (hk : jk p R s m args meth c NX cc nL RX12 fr lo ret) (hH : cH G KK) (hK : KK s) {q0 : Nat} {a0 : Int32} {a1 : Int32} {F : Option Int32} {K : Int32 → Option ρ} (hM : ∀ r, F = some r → jM l yX11_pull (ws_ yX11_pull cX11_pull 3 (some .int)) frc loc [.ref q0, .int a0, .int a1] (cWo G d) (cnx d) KK σ (jR σ r) (hA G) d.2)  (hd : decode cc pc = .ok (.invokespecial 11, 3)) (hr : frc + 1 ≤ fr ∧ 8 + (3 + 11) + loc ≤ lo) (hw : (st.map fun v => v.category).sum ≤ 8) (kk : ∀ r, jj p l e R s m args below meth c (hA G) NX Q (cWo G d) (cnx d) nL σ (pc + 3) lv (.int r :: st) (K r = some res)) : jj p l e R s m args below meth c (hA G) NX Q (cWo G d) (cnx d) nL σ pc lv (.int a1 :: .int a0 :: .ref q0 :: st) (((dci d q0).bind fun _ => F).bind K = some res) :=
  jc_SURi (n := 2) hk hH hK [.int a0, .int a1] hM (lw_SUw q598 q2229 q573 q599 q132 q600) (by decide +kernel) rfl rfl hd hr hw kk
theorem kc_X12_11_term (hk : jk p R s m args meth c NX cc nL RX12 fr lo ret) (hH : cH G KK) (hK : KK s) {q0 : Nat} {F : Option Int32} {K : Int32 → Option ρ} (hM : ∀ r, F = some r → jM l yX11_term (ws_ yX11_term cX11_term 1 (some .int)) frc loc [.ref q0] (cWo G d) (cnx d) KK σ (jR σ r) (hA G) d.2)  (hd : decode cc pc = .ok (.invokespecial 7, 3)) (hr : frc + 1 ≤ fr ∧ 8 + (1 + 11) + loc ≤ lo) (hw : (st.map fun v => v.category).sum ≤ 8) (kk : ∀ r, jj p l e R s m args below meth c (hA G) NX Q (cWo G d) (cnx d) nL σ (pc + 3) lv (.int r :: st) (K r = some res)) : jj p l e R s m args below meth c (hA G) NX Q (cWo G d) (cnx d) nL σ pc lv (.ref q0 :: st) (((dci d q0).bind fun _ => F).bind K = some res) :=
  jc_SURi (n := 0) hk hH hK [] hM (lw_SUw q666 q2230 q573 q667 q132 q668) (by decide +kernel) rfl rfl hd hr hw kk
theorem kc_X16_15_of (hk : jk p R s m args meth c NX cc nL RX16 fr lo ret) (hH : cH G KK) (hK : KK s) {q0 : Nat} {F : Option Int32} {K : Int32 → Option ρ} (hM : ∀ r, F = some r → jM l yX15_of (ws_ yX15_of cX15_of 2 (some .int)) frc loc [.ref q0, .ref (ha G 54)] (cWo G d) (cnx d) KK σ (jR σ r) (hA G) d.2)  (hd : decode cc pc = .ok (.invokevirtual 20, 3)) (hr : frc + 1 ≤ fr ∧ 8 + (2 + 11) + loc ≤ lo) (hw : (st.map fun v => v.category).sum ≤ 8) (kk : ∀ r, jj p l e R s m args below meth c (hA G) NX Q (cWo G d) (cnx d) nL σ (pc + 3) lv (.int r :: st) (K r = some res)) : jj p l e R s m args below meth c (hA G) NX Q (cWo G d) (cnx d) nL σ pc lv (.ref (ha G 54) :: .ref q0 :: st) (((dcl d 16 q0).bind fun _ => F).bind K = some res) :=
  jj_dcl (fun fs he => jc_VRi (n := 1) hk hH hK [.ref (ha G 54)] hM (lw_V q633 q634 q635 q140 q636) (cRv_D hH hK (ci := 16) rfl he) (by decide +kernel) rfl rfl hd hr hw kk)
theorem kc_X8_7_pull (hk : jk p R s m args meth c NX cc nL RX8 fr lo ret) (hH : cH G KK) (hK : KK s) {q0 : Nat} {a0 : Int32} {a1 : Int32} {F : Option Int32} {K : Int32 → Option ρ} (hM : ∀ r, F = some r → jM l yX7_pull (ws_ yX7_pull cX7_pull 3 (some .int)) frc loc [.ref q0, .int a0, .int a1] (cWo G d) (cnx d) KK σ (jR σ r) (hA G) d.2)  (hd : decode cc pc = .ok (.invokespecial 7, 3)) (hr : frc + 1 ≤ fr ∧ 8 + (3 + 11) + loc ≤ lo) (hw : (st.map fun v => v.category).sum ≤ 8) (kk : ∀ r, jj p l e R s m args below meth c (hA G) NX Q (cWo G d) (cnx d) nL σ (pc + 3) lv (.int r :: st) (K r = some res)) : jj p l e R s m args below meth c (hA G) NX Q (cWo G d) (cnx d) nL σ pc lv (.int a1 :: .int a0 :: .ref q0 :: st) (((dci d q0).bind fun _ => F).bind K = some res) :=
  jc_SURi (n := 2) hk hH hK [.int a0, .int a1] hM (lw_SUw q592 q588 q537 q587 q128 q593) (by decide +kernel) rfl rfl hd hr hw kk
theorem kc_X9_7_term (hk : jk p R s m args meth c NX cc nL RX9 fr lo ret) (hH : cH G KK) (hK : KK s) {q0 : Nat} {F : Option Int32} {K : Int32 → Option ρ} (hM : ∀ r, F = some r → jM l yX7_term (ws_ yX7_term cX7_term 1 (some .int)) frc loc [.ref q0] (cWo G d) (cnx d) KK σ (jR σ r) (hA G) d.2)  (hd : decode cc pc = .ok (.invokespecial 7, 3)) (hr : frc + 1 ≤ fr ∧ 8 + (1 + 11) + loc ≤ lo) (hw : (st.map fun v => v.category).sum ≤ 8) (kk : ∀ r, jj p l e R s m args below meth c (hA G) NX Q (cWo G d) (cnx d) nL σ (pc + 3) lv (.int r :: st) (K r = some res)) : jj p l e R s m args below meth c (hA G) NX Q (cWo G d) (cnx d) nL σ pc lv (.ref q0 :: st) (((dci d q0).bind fun _ => F).bind K = some res) :=
  jc_SURi (n := 0) hk hH hK [] hM (lw_SUw q661 q656 q546 q655 q128 q662) (by decide +kernel) rfl rfl hd hr hw kk
end
section
variable {p : Program} {l : Launch} {e : Env} {R : Room} {s : State} {m : MethodId} {args : Array Value} {below : List Frame} {meth : Method} {c : Code}
variable {G : cG} {d : DS} {KK : State → Prop}
set_option maxHeartbeats 4000000 in
theorem cc_f3_isOver (l : Launch) {G : cG} {KK : State → Prop} (hH : cH G KK) (d : DS)  (σ : SS) (t0 : Nat) (ht0 : t0 < 3) (res : Bool) (hf : f3_isOver σ t0 = some res) : jM l yX3_isOver (ws_ yX3_isOver cX3_isOver 1 (some .boolean)) 1 40 [.ref (ha G (3 + t0))] (cWo G d) (cnx d) KK σ (jRz σ res) (hA G) d.2 := by
  refine jj_start [(0, .ref (ha G (3 + t0)))] (by decide) (Nat.le_of_ble_eq_true rfl) rfl (fun p e R s m args below meth c hk hK hsz => ?_) hf
  have hk : jk p R s m args meth c d.2 cX3_isOver 1 RX3 1 40 (some .boolean) := hk
  unfold f3_isOver
  refine jj_aload_n hk (pc := 0) dX3_isOver_0 0 rfl rfl ?_
  refine jc_T_year (ht := ht0) hk hH hK (pc := 1) dX3_isOver_1 ?_
  refine jj_aload_n hk (pc := 4) dX3_isOver_4 0 rfl rfl ?_
  refine jc_T_end (ht := ht0) hk hH hK (pc := 5) dX3_isOver_5 ?_
  refine jj_icmp_lt hk (pc := 8) 15 dX3_isOver_8 (by decide) ?_ ?_
  · refine jj_iconst hk (pc := 15) (v := (0 : Int32)) dX3_isOver_15 (by decide) ?_
    exact jc_retRz hk (pc := 16) (b := false) dX3_isOver_16
  · refine jj_iconst hk (pc := 11) (v := (1 : Int32)) dX3_isOver_11 (by decide) ?_
    refine jj_goto hk (pc := 12) 16 dX3_isOver_12 (by decide) ?_
    exact jc_retRz hk (pc := 16) (b := true) dX3_isOver_16
set_option maxHeartbeats 4000000 in
theorem cc_f3_become (l : Launch) {G : cG} {KK : State → Prop} (hH : cH G KK) (d : DS)  (σ : SS) (t0 : Nat) (t1 : Nat) (ht0 : t0 < 3) (ht1 : t1 < 3) (res : SS) (hf : f3_become σ t0 t1 = some res) : jM l yX3_become (ws_ yX3_become cX3_become 2 none) 1 40 [.ref (ha G (3 + t0)), .ref (ha G (3 + t1))] (cWo G d) (cnx d) KK σ (jV res) (hA G) d.2 := by
  refine jj_start [(0, .ref (ha G (3 + t0))), (1, .ref (ha G (3 + t1)))] (by decide) (Nat.le_of_ble_eq_true rfl) rfl (fun p e R s m args below meth c hk hK hsz => ?_) hf
  have hk : jk p R s m args meth c d.2 cX3_become 2 RX3 1 40 none := hk
  unfold f3_become
  refine jj_aload_n hk (pc := 0) dX3_become_0 0 rfl rfl ?_
  refine jj_aload_n hk (pc := 1) dX3_become_1 1 rfl rfl ?_
  refine jc_T_people (ht := ht1) hk hH hK (pc := 2) dX3_become_2 ?_
  refine jc_Tp_people (ht := ht0) hk hH hK (pc := 5) dX3_become_5 (fun σ1 => ?_)
  refine jj_aload_n hk (pc := 8) dX3_become_8 0 rfl rfl ?_
  refine jj_aload_n hk (pc := 9) dX3_become_9 1 rfl rfl ?_
  refine jc_T_deeds (ht := ht1) hk hH hK (pc := 10) dX3_become_10 ?_
  refine jc_Tp_deeds (ht := ht0) hk hH hK (pc := 13) dX3_become_13 (fun σ2 => ?_)
  refine jj_aload_n hk (pc := 16) dX3_become_16 0 rfl rfl ?_
  refine jj_aload_n hk (pc := 17) dX3_become_17 1 rfl rfl ?_
  refine jc_T_end (ht := ht1) hk hH hK (pc := 18) dX3_become_18 ?_
  refine jc_Tp_end (ht := ht0) hk hH hK (pc := 21) dX3_become_21 (fun σ3 => ?_)
  refine jj_aload_n hk (pc := 24) dX3_become_24 0 rfl rfl ?_
  refine jj_aload_n hk (pc := 25) dX3_become_25 1 rfl rfl ?_
  refine jc_T_year (ht := ht1) hk hH hK (pc := 26) dX3_become_26 ?_
  refine jc_Tp_year (ht := ht0) hk hH hK (pc := 29) dX3_become_29 (fun σ4 => ?_)
  refine jj_aload_n hk (pc := 32) dX3_become_32 0 rfl rfl ?_
  refine jj_aload_n hk (pc := 33) dX3_become_33 1 rfl rfl ?_
  refine jc_T_score (ht := ht1) hk hH hK (pc := 34) dX3_become_34 ?_
  refine jc_Tp_score (ht := ht0) hk hH hK (pc := 37) dX3_become_37 (fun σ5 => ?_)
  refine jj_aload_n hk (pc := 40) dX3_become_40 0 rfl rfl ?_
  refine jj_aload_n hk (pc := 41) dX3_become_41 1 rfl rfl ?_
  refine jc_T_reports (ht := ht1) hk hH hK (pc := 42) dX3_become_42 ?_
  refine jc_Tp_reports (ht := ht0) hk hH hK (pc := 45) dX3_become_45 (fun σ6 => ?_)
  refine jj_aload_n hk (pc := 48) dX3_become_48 0 rfl rfl ?_
  refine jj_aload_n hk (pc := 49) dX3_become_49 1 rfl rfl ?_
  refine jc_T_z (ht := ht1) hk hH hK (pc := 50) dX3_become_50 ?_
  refine jc_Tp_z (ht := ht0) hk hH hK (pc := 53) dX3_become_53 (fun σ7 => ?_)
  refine jj_aload_n hk (pc := 56) dX3_become_56 0 rfl rfl ?_
  refine jj_aload_n hk (pc := 57) dX3_become_57 1 rfl rfl ?_
  refine jc_T_rules (ht := ht1) hk hH hK (pc := 58) dX3_become_58 ?_
  refine jc_Tp_rules (ht := ht0) hk hH hK (pc := 61) (x := σ7.2.2.1 t1) dX3_become_61 (fun σ8 => ?_)
  refine jj_aload_n hk (pc := 64) dX3_become_64 1 rfl rfl ?_
  refine jc_T_kind (ht := ht1) hk hH hK (pc := 65) dX3_become_65 ?_
  refine jj_iconst hk (pc := 68) (v := (0 : Int32)) dX3_become_68 (by decide) ?_
  refine jj_aload_n hk (pc := 69) dX3_become_69 0 rfl rfl ?_
  refine jc_T_kind (ht := ht0) hk hH hK (pc := 70) dX3_become_70 ?_
  refine jj_iconst hk (pc := 73) (v := (0 : Int32)) dX3_become_73 (by decide) ?_
  refine jj_bipush hk (pc := 74) (v := (6 : Int32)) dX3_become_74 (by decide) ?_
  refine jc_cp (j1 := (13 * t1 + 0)) (j2 := (13 * t0 + 0)) hk hH hK (pc := 76) q973 (by omega) (by omega) dX3_become_76 ⟨Nat.le_of_ble_eq_true rfl, Nat.le_of_ble_eq_true rfl⟩ (Nat.le_of_ble_eq_true rfl) (fun σ9 => ?_)
  refine jj_aload_n hk (pc := 79) dX3_become_79 1 rfl rfl ?_
  refine jc_T_grace (ht := ht1) hk hH hK (pc := 80) dX3_become_80 ?_
  refine jj_iconst hk (pc := 83) (v := (0 : Int32)) dX3_become_83 (by decide) ?_
  refine jj_aload_n hk (pc := 84) dX3_become_84 0 rfl rfl ?_
  refine jc_T_grace (ht := ht0) hk hH hK (pc := 85) dX3_become_85 ?_
  refine jj_iconst hk (pc := 88) (v := (0 : Int32)) dX3_become_88 (by decide) ?_
  refine jj_bipush hk (pc := 89) (v := (6 : Int32)) dX3_become_89 (by decide) ?_
  refine jc_cp (j1 := (13 * t1 + 1)) (j2 := (13 * t0 + 1)) hk hH hK (pc := 91) q973 (by omega) (by omega) dX3_become_91 ⟨Nat.le_of_ble_eq_true rfl, Nat.le_of_ble_eq_true rfl⟩ (Nat.le_of_ble_eq_true rfl) (fun σ10 => ?_)
  refine jj_aload_n hk (pc := 94) dX3_become_94 1 rfl rfl ?_
  refine jc_T_strength (ht := ht1) hk hH hK (pc := 95) dX3_become_95 ?_
  refine jj_iconst hk (pc := 98) (v := (0 : Int32)) dX3_become_98 (by decide) ?_
  refine jj_aload_n hk (pc := 99) dX3_become_99 0 rfl rfl ?_
  refine jc_T_strength (ht := ht0) hk hH hK (pc := 100) dX3_become_100 ?_
  refine jj_iconst hk (pc := 103) (v := (0 : Int32)) dX3_become_103 (by decide) ?_
  refine jj_bipush hk (pc := 104) (v := (6 : Int32)) dX3_become_104 (by decide) ?_
  refine jc_cp (j1 := (13 * t1 + 2)) (j2 := (13 * t0 + 2)) hk hH hK (pc := 106) q973 (by omega) (by omega) dX3_become_106 ⟨Nat.le_of_ble_eq_true rfl, Nat.le_of_ble_eq_true rfl⟩ (Nat.le_of_ble_eq_true rfl) (fun σ11 => ?_)
  refine jj_aload_n hk (pc := 109) dX3_become_109 1 rfl rfl ?_
  refine jc_T_whose (ht := ht1) hk hH hK (pc := 110) dX3_become_110 ?_
  refine jj_iconst hk (pc := 113) (v := (0 : Int32)) dX3_become_113 (by decide) ?_
  refine jj_aload_n hk (pc := 114) dX3_become_114 0 rfl rfl ?_
  refine jc_T_whose (ht := ht0) hk hH hK (pc := 115) dX3_become_115 ?_
  refine jj_iconst hk (pc := 118) (v := (0 : Int32)) dX3_become_118 (by decide) ?_
  refine jj_bipush hk (pc := 119) (v := (10 : Int32)) dX3_become_119 (by decide) ?_
  refine jc_cp (j1 := (13 * t1 + 3)) (j2 := (13 * t0 + 3)) hk hH hK (pc := 121) q973 (by omega) (by omega) dX3_become_121 ⟨Nat.le_of_ble_eq_true rfl, Nat.le_of_ble_eq_true rfl⟩ (Nat.le_of_ble_eq_true rfl) (fun σ12 => ?_)
  refine jj_aload_n hk (pc := 124) dX3_become_124 1 rfl rfl ?_
  refine jc_T_when (ht := ht1) hk hH hK (pc := 125) dX3_become_125 ?_
  refine jj_iconst hk (pc := 128) (v := (0 : Int32)) dX3_become_128 (by decide) ?_
  refine jj_aload_n hk (pc := 129) dX3_become_129 0 rfl rfl ?_
  refine jc_T_when (ht := ht0) hk hH hK (pc := 130) dX3_become_130 ?_
  refine jj_iconst hk (pc := 133) (v := (0 : Int32)) dX3_become_133 (by decide) ?_
  refine jj_bipush hk (pc := 134) (v := (10 : Int32)) dX3_become_134 (by decide) ?_
  refine jc_cp (j1 := (13 * t1 + 4)) (j2 := (13 * t0 + 4)) hk hH hK (pc := 136) q973 (by omega) (by omega) dX3_become_136 ⟨Nat.le_of_ble_eq_true rfl, Nat.le_of_ble_eq_true rfl⟩ (Nat.le_of_ble_eq_true rfl) (fun σ13 => ?_)
  refine jj_aload_n hk (pc := 139) dX3_become_139 1 rfl rfl ?_
  refine jc_T_weight (ht := ht1) hk hH hK (pc := 140) dX3_become_140 ?_
  refine jj_iconst hk (pc := 143) (v := (0 : Int32)) dX3_become_143 (by decide) ?_
  refine jj_aload_n hk (pc := 144) dX3_become_144 0 rfl rfl ?_
  refine jc_T_weight (ht := ht0) hk hH hK (pc := 145) dX3_become_145 ?_
  refine jj_iconst hk (pc := 148) (v := (0 : Int32)) dX3_become_148 (by decide) ?_
  refine jj_bipush hk (pc := 149) (v := (10 : Int32)) dX3_become_149 (by decide) ?_
  refine jc_cp (j1 := (13 * t1 + 5)) (j2 := (13 * t0 + 5)) hk hH hK (pc := 151) q973 (by omega) (by omega) dX3_become_151 ⟨Nat.le_of_ble_eq_true rfl, Nat.le_of_ble_eq_true rfl⟩ (Nat.le_of_ble_eq_true rfl) (fun σ14 => ?_)
  refine jj_aload_n hk (pc := 154) dX3_become_154 1 rfl rfl ?_
  refine jc_T_need (ht := ht1) hk hH hK (pc := 155) dX3_become_155 ?_
  refine jj_iconst hk (pc := 158) (v := (0 : Int32)) dX3_become_158 (by decide) ?_
  refine jj_aload_n hk (pc := 159) dX3_become_159 0 rfl rfl ?_
  refine jc_T_need (ht := ht0) hk hH hK (pc := 160) dX3_become_160 ?_
  refine jj_iconst hk (pc := 163) (v := (0 : Int32)) dX3_become_163 (by decide) ?_
  refine jj_bipush hk (pc := 164) (v := (10 : Int32)) dX3_become_164 (by decide) ?_
  refine jc_cp (j1 := (13 * t1 + 6)) (j2 := (13 * t0 + 6)) hk hH hK (pc := 166) q973 (by omega) (by omega) dX3_become_166 ⟨Nat.le_of_ble_eq_true rfl, Nat.le_of_ble_eq_true rfl⟩ (Nat.le_of_ble_eq_true rfl) (fun σ15 => ?_)
  refine jj_aload_n hk (pc := 169) dX3_become_169 1 rfl rfl ?_
  refine jc_T_so (ht := ht1) hk hH hK (pc := 170) dX3_become_170 ?_
  refine jj_iconst hk (pc := 173) (v := (0 : Int32)) dX3_become_173 (by decide) ?_
  refine jj_aload_n hk (pc := 174) dX3_become_174 0 rfl rfl ?_
  refine jc_T_so (ht := ht0) hk hH hK (pc := 175) dX3_become_175 ?_
  refine jj_iconst hk (pc := 178) (v := (0 : Int32)) dX3_become_178 (by decide) ?_
  refine jj_bipush hk (pc := 179) (v := (10 : Int32)) dX3_become_179 (by decide) ?_
  refine jc_cp (j1 := (13 * t1 + 7)) (j2 := (13 * t0 + 7)) hk hH hK (pc := 181) q973 (by omega) (by omega) dX3_become_181 ⟨Nat.le_of_ble_eq_true rfl, Nat.le_of_ble_eq_true rfl⟩ (Nat.le_of_ble_eq_true rfl) (fun σ16 => ?_)
  refine jj_aload_n hk (pc := 184) dX3_become_184 1 rfl rfl ?_
  refine jc_T_owed (ht := ht1) hk hH hK (pc := 185) dX3_become_185 ?_
  refine jj_iconst hk (pc := 188) (v := (0 : Int32)) dX3_become_188 (by decide) ?_
  refine jj_aload_n hk (pc := 189) dX3_become_189 0 rfl rfl ?_
  refine jc_T_owed (ht := ht0) hk hH hK (pc := 190) dX3_become_190 ?_
  refine jj_iconst hk (pc := 193) (v := (0 : Int32)) dX3_become_193 (by decide) ?_
  refine jj_bipush hk (pc := 194) (v := (36 : Int32)) dX3_become_194 (by decide) ?_
  refine jc_cp (j1 := (13 * t1 + 8)) (j2 := (13 * t0 + 8)) hk hH hK (pc := 196) q973 (by omega) (by omega) dX3_become_196 ⟨Nat.le_of_ble_eq_true rfl, Nat.le_of_ble_eq_true rfl⟩ (Nat.le_of_ble_eq_true rfl) (fun σ17 => ?_)
  refine jj_aload_n hk (pc := 199) dX3_become_199 1 rfl rfl ?_
  refine jc_T_heavy (ht := ht1) hk hH hK (pc := 200) dX3_become_200 ?_
  refine jj_iconst hk (pc := 203) (v := (0 : Int32)) dX3_become_203 (by decide) ?_
  refine jj_aload_n hk (pc := 204) dX3_become_204 0 rfl rfl ?_
  refine jc_T_heavy (ht := ht0) hk hH hK (pc := 205) dX3_become_205 ?_
  refine jj_iconst hk (pc := 208) (v := (0 : Int32)) dX3_become_208 (by decide) ?_
  refine jj_bipush hk (pc := 209) (v := (6 : Int32)) dX3_become_209 (by decide) ?_
  refine jc_cp (j1 := (13 * t1 + 9)) (j2 := (13 * t0 + 9)) hk hH hK (pc := 211) q973 (by omega) (by omega) dX3_become_211 ⟨Nat.le_of_ble_eq_true rfl, Nat.le_of_ble_eq_true rfl⟩ (Nat.le_of_ble_eq_true rfl) (fun σ18 => ?_)
  refine jj_aload_n hk (pc := 214) dX3_become_214 1 rfl rfl ?_
  refine jc_T_done (ht := ht1) hk hH hK (pc := 215) dX3_become_215 ?_
  refine jj_iconst hk (pc := 218) (v := (0 : Int32)) dX3_become_218 (by decide) ?_
  refine jj_aload_n hk (pc := 219) dX3_become_219 0 rfl rfl ?_
  refine jc_T_done (ht := ht0) hk hH hK (pc := 220) dX3_become_220 ?_
  refine jj_iconst hk (pc := 223) (v := (0 : Int32)) dX3_become_223 (by decide) ?_
  refine jj_bipush hk (pc := 224) (v := (6 : Int32)) dX3_become_224 (by decide) ?_
  refine jc_cp (j1 := (13 * t1 + 10)) (j2 := (13 * t0 + 10)) hk hH hK (pc := 226) q973 (by omega) (by omega) dX3_become_226 ⟨Nat.le_of_ble_eq_true rfl, Nat.le_of_ble_eq_true rfl⟩ (Nat.le_of_ble_eq_true rfl) (fun σ19 => ?_)
  refine jj_aload_n hk (pc := 229) dX3_become_229 1 rfl rfl ?_
  refine jc_T_by (ht := ht1) hk hH hK (pc := 230) dX3_become_230 ?_
  refine jj_iconst hk (pc := 233) (v := (0 : Int32)) dX3_become_233 (by decide) ?_
  refine jj_aload_n hk (pc := 234) dX3_become_234 0 rfl rfl ?_
  refine jc_T_by (ht := ht0) hk hH hK (pc := 235) dX3_become_235 ?_
  refine jj_iconst hk (pc := 238) (v := (0 : Int32)) dX3_become_238 (by decide) ?_
  refine jj_bipush hk (pc := 239) (v := (6 : Int32)) dX3_become_239 (by decide) ?_
  refine jc_cp (j1 := (13 * t1 + 11)) (j2 := (13 * t0 + 11)) hk hH hK (pc := 241) q973 (by omega) (by omega) dX3_become_241 ⟨Nat.le_of_ble_eq_true rfl, Nat.le_of_ble_eq_true rfl⟩ (Nat.le_of_ble_eq_true rfl) (fun σ20 => ?_)
  refine jj_aload_n hk (pc := 244) dX3_become_244 1 rfl rfl ?_
  refine jc_T_was (ht := ht1) hk hH hK (pc := 245) dX3_become_245 ?_
  refine jj_iconst hk (pc := 248) (v := (0 : Int32)) dX3_become_248 (by decide) ?_
  refine jj_aload_n hk (pc := 249) dX3_become_249 0 rfl rfl ?_
  refine jc_T_was (ht := ht0) hk hH hK (pc := 250) dX3_become_250 ?_
  refine jj_iconst hk (pc := 253) (v := (0 : Int32)) dX3_become_253 (by decide) ?_
  refine jj_bipush hk (pc := 254) (v := (6 : Int32)) dX3_become_254 (by decide) ?_
  refine jc_cp (j1 := (13 * t1 + 12)) (j2 := (13 * t0 + 12)) hk hH hK (pc := 256) q973 (by omega) (by omega) dX3_become_256 ⟨Nat.le_of_ble_eq_true rfl, Nat.le_of_ble_eq_true rfl⟩ (Nat.le_of_ble_eq_true rfl) (fun σ21 => ?_)
  exact jc_retV hk (pc := 259) dX3_become_259
set_option maxHeartbeats 4000000 in
theorem cc_f4_ran (l : Launch) {G : cG} {KK : State → Prop} (hH : cH G KK) (d : DS)  (σ : SS) (a0 : Int32) (res : SS) (hf : f4_ran σ a0 = some res) : jM l yX4_ran (ws_ yX4_ran cX4_ran 2 none) 1 40 [.ref (ha G 6), .int a0] (cWo G d) (cnx d) KK σ (jV res) (hA G) d.2 := by
  refine jj_start [(0, .ref (ha G 6)), (1, .int a0)] (by decide) (Nat.le_of_ble_eq_true rfl) rfl (fun p e R s m args below meth c hk hK hsz => ?_) hf
  have hk : jk p R s m args meth c d.2 cX4_ran 2 RX4 1 40 none := hk
  unfold f4_ran
  refine jj_aload_n hk (pc := 0) dX4_ran_0 0 rfl rfl ?_
  refine jc_r_many hk hH hK (pc := 1) dX4_ran_1 ?_
  refine jj_aload_n hk (pc := 4) dX4_ran_4 0 rfl rfl ?_
  refine jc_r_bodies hk hH hK (pc := 5) dX4_ran_5 ?_
  refine jc_alenS (j := 45) (v := 30) hk hH hK (pc := 8) (by decide) (by decide) dX4_ran_8 ?_
  refine jj_icmp_ne hk (pc := 9) 13 dX4_ran_9 (by decide) ?_ ?_
  · refine jj_aload_n hk (pc := 13) dX4_ran_13 0 rfl rfl ?_
    refine jc_r_bodies hk hH hK (pc := 14) dX4_ran_14 ?_
    refine jj_aload_n hk (pc := 17) dX4_ran_17 0 rfl rfl ?_
    refine jc_r_many hk hH hK (pc := 18) dX4_ran_18 ?_
    refine jj_iload_n hk (pc := 21) dX4_ran_21 1 rfl rfl ?_
    refine jc_st (j := 45) hk hH hK (pc := 22) (by decide) dX4_ran_22 (fun σ1 => ?_)
    refine jj_aload_n hk (pc := 23) dX4_ran_23 0 rfl rfl ?_
    refine jj_dup hk (pc := 24) dX4_ran_24 rfl ?_
    refine jc_r_many hk hH hK (pc := 25) dX4_ran_25 ?_
    refine jj_iconst hk (pc := 28) (v := (1 : Int32)) dX4_ran_28 (by decide) ?_
    refine jj_iadd hk (pc := 29) dX4_ran_29 ?_
    refine jc_rp_many hk hH hK (pc := 30) dX4_ran_30 (fun σ2 => ?_)
    exact jc_retV hk (pc := 33) dX4_ran_33
  · exact jc_retV hk (pc := 12) dX4_ran_12
set_option maxHeartbeats 4000000 in
theorem cc_f7_number (l : Launch) {G : cG} {KK : State → Prop} (hH : cH G KK) (d : DS)  (σ : SS) (q0 : Nat) (res : Int32) (hf : f7_number d q0 = some res) : jM l yX7_number (ws_ yX7_number cX7_number 1 (some .int)) 1 40 [.ref q0] (cWo G d) (cnx d) KK σ (jR σ res) (hA G) d.2 := by
  refine jj_start [(0, .ref q0)] (by decide) (Nat.le_of_ble_eq_true rfl) rfl (fun p e R s m args below meth c hk hK hsz => ?_) hf
  have hk : jk p R s m args meth c d.2 cX7_number 1 RX7 1 40 (some .int) := hk
  unfold f7_number
  refine jj_aload_n hk (pc := 0) dX7_number_0 0 rfl rfl ?_
  refine jd_X7_number hk hH hK (pc := 1) dX7_number_1 (fun q1 => ?_)
  exact jc_retRi hk (pc := 4) dX7_number_4
set_option maxHeartbeats 4000000 in
theorem cc_f7_grace (l : Launch) {G : cG} {KK : State → Prop} (hH : cH G KK) (d : DS)  (σ : SS) (q0 : Nat) (res : Int32) (hf : f7_grace d q0 = some res) : jM l yX7_grace (ws_ yX7_grace cX7_grace 1 (some .int)) 1 40 [.ref q0] (cWo G d) (cnx d) KK σ (jR σ res) (hA G) d.2 := by
  refine jj_start [(0, .ref q0)] (by decide) (Nat.le_of_ble_eq_true rfl) rfl (fun p e R s m args below meth c hk hK hsz => ?_) hf
  have hk : jk p R s m args meth c d.2 cX7_grace 1 RX7 1 40 (some .int) := hk
  unfold f7_grace
  refine jj_aload_n hk (pc := 0) dX7_grace_0 0 rfl rfl ?_
  refine jd_X7_grace hk hH hK (pc := 1) dX7_grace_1 (fun q1 => ?_)
  exact jc_retRi hk (pc := 4) dX7_grace_4
set_option maxHeartbeats 4000000 in
theorem cc_f7_term (l : Launch) {G : cG} {KK : State → Prop} (hH : cH G KK) (d : DS)  (σ : SS) (q0 : Nat) (res : Int32) (hf : f7_term d q0 = some res) : jM l yX7_term (ws_ yX7_term cX7_term 1 (some .int)) 1 40 [.ref q0] (cWo G d) (cnx d) KK σ (jR σ res) (hA G) d.2 := by
  refine jj_start [(0, .ref q0)] (by decide) (Nat.le_of_ble_eq_true rfl) rfl (fun p e R s m args below meth c hk hK hsz => ?_) hf
  have hk : jk p R s m args meth c d.2 cX7_term 1 RX7 1 40 (some .int) := hk
  unfold f7_term
  refine jj_aload_n hk (pc := 0) dX7_term_0 0 rfl rfl ?_
  refine jd_X7_grace hk hH hK (pc := 1) dX7_term_1 (fun q1 => ?_)
  exact jc_retRi hk (pc := 4) dX7_term_4
set_option maxHeartbeats 4000000 in
theorem cc_f7_pull (l : Launch) {G : cG} {KK : State → Prop} (hH : cH G KK) (d : DS)  (σ : SS) (q0 : Nat) (a0 : Int32) (a1 : Int32) (res : Int32) (hf : f7_pull q0 a0 a1 = some res) : jM l yX7_pull (ws_ yX7_pull cX7_pull 3 (some .int)) 1 40 [.ref q0, .int a0, .int a1] (cWo G d) (cnx d) KK σ (jR σ res) (hA G) d.2 := by
  refine jj_start [(0, .ref q0), (1, .int a0), (2, .int a1)] (by decide) (Nat.le_of_ble_eq_true rfl) rfl (fun p e R s m args below meth c hk hK hsz => ?_) hf
  have hk : jk p R s m args meth c d.2 cX7_pull 3 RX7 1 40 (some .int) := hk
  unfold f7_pull
  refine jj_iload_n hk (pc := 0) dX7_pull_0 1 rfl rfl ?_
  exact jc_retRi hk (pc := 1) dX7_pull_1
set_option maxHeartbeats 4000000 in
theorem cc_f8_pull (l : Launch) {G : cG} {KK : State → Prop} (hH : cH G KK) (d : DS)  (σ : SS) (q0 : Nat) (a0 : Int32) (a1 : Int32) (res : Int32) (hf : f8_pull d q0 a0 a1 = some res) : jM l yX8_pull (ws_ yX8_pull cX8_pull 3 (some .int)) 2 62 [.ref q0, .int a0, .int a1] (cWo G d) (cnx d) KK σ (jR σ res) (hA G) d.2 := by
  refine jj_start [(0, .ref q0), (1, .int a0), (2, .int a1)] (by decide) (Nat.le_of_ble_eq_true rfl) rfl (fun p e R s m args below meth c hk hK hsz => ?_) hf
  have hk : jk p R s m args meth c d.2 cX8_pull 3 RX8 2 62 (some .int) := hk
  unfold f8_pull
  refine jj_iload_n hk (pc := 0) dX8_pull_0 2 rfl rfl ?_
  refine jj_iconst hk (pc := 1) (v := (3 : Int32)) dX8_pull_1 (by decide) ?_
  refine jj_irem hk (pc := 2) dX8_pull_2 (by decide) ?_
  refine jj_iconst hk (pc := 3) (v := (2 : Int32)) dX8_pull_3 (by decide) ?_
  refine jj_icmp_ne hk (pc := 4) 11 dX8_pull_4 (by decide) ?_ ?_
  · refine jj_aload_n hk (pc := 11) dX8_pull_11 0 rfl rfl ?_
    refine jj_iload_n hk (pc := 12) dX8_pull_12 1 rfl rfl ?_
    refine jj_iload_n hk (pc := 13) dX8_pull_13 2 rfl rfl ?_
    refine kc_X8_7_pull hk hH hK (pc := 14) (q0 := q0) (a0 := a0) (a1 := a1) (fun r h => cc_f7_pull l hH d σ q0 a0 a1 r h) dX8_pull_14 ⟨Nat.le_of_ble_eq_true rfl, Nat.le_of_ble_eq_true rfl⟩ (Nat.le_of_ble_eq_true rfl) (fun r1 => ?_)
    exact jc_retRi hk (pc := 17) dX8_pull_17
  · refine jj_iconst hk (pc := 7) (v := (0 : Int32)) dX8_pull_7 (by decide) ?_
    refine jj_goto hk (pc := 8) 17 dX8_pull_8 (by decide) ?_
    exact jc_retRi hk (pc := 17) dX8_pull_17
set_option maxHeartbeats 4000000 in
theorem cc_f9_term (l : Launch) {G : cG} {KK : State → Prop} (hH : cH G KK) (d : DS)  (σ : SS) (q0 : Nat) (res : Int32) (hf : f9_term d q0 = some res) : jM l yX9_term (ws_ yX9_term cX9_term 1 (some .int)) 2 60 [.ref q0] (cWo G d) (cnx d) KK σ (jR σ res) (hA G) d.2 := by
  refine jj_start [(0, .ref q0)] (by decide) (Nat.le_of_ble_eq_true rfl) rfl (fun p e R s m args below meth c hk hK hsz => ?_) hf
  have hk : jk p R s m args meth c d.2 cX9_term 1 RX9 2 60 (some .int) := hk
  unfold f9_term
  refine jj_iconst hk (pc := 0) (v := (2 : Int32)) dX9_term_0 (by decide) ?_
  refine jj_aload_n hk (pc := 1) dX9_term_1 0 rfl rfl ?_
  refine kc_X9_7_term hk hH hK (pc := 2) (q0 := q0) (fun r h => cc_f7_term l hH d σ q0 r h) dX9_term_2 ⟨Nat.le_of_ble_eq_true rfl, Nat.le_of_ble_eq_true rfl⟩ (Nat.le_of_ble_eq_true rfl) (fun r1 => ?_)
  refine jj_imul hk (pc := 5) dX9_term_5 ?_
  exact jc_retRi hk (pc := 6) dX9_term_6
set_option maxHeartbeats 4000000 in
theorem cc_f10_term (l : Launch) {G : cG} {KK : State → Prop} (hH : cH G KK) (d : DS)  (σ : SS) (q0 : Nat) (res : Int32) (hf : f10_term d q0 = some res) : jM l yX10_term (ws_ yX10_term cX10_term 1 (some .int)) 3 80 [.ref q0] (cWo G d) (cnx d) KK σ (jR σ res) (hA G) d.2 := by
  refine jj_start [(0, .ref q0)] (by decide) (Nat.le_of_ble_eq_true rfl) rfl (fun p e R s m args below meth c hk hK hsz => ?_) hf
  have hk : jk p R s m args meth c d.2 cX10_term 1 RX10 3 80 (some .int) := hk
  unfold f10_term
  refine jj_aload_n hk (pc := 0) dX10_term_0 0 rfl rfl ?_
  refine kc_X10_9_term hk hH hK (pc := 1) (q0 := q0) (fun r h => cc_f9_term l hH d σ q0 r h) dX10_term_1 ⟨Nat.le_of_ble_eq_true rfl, Nat.le_of_ble_eq_true rfl⟩ (Nat.le_of_ble_eq_true rfl) (fun r1 => ?_)
  refine jj_iconst hk (pc := 4) (v := (1 : Int32)) dX10_term_4 (by decide) ?_
  refine jj_isub hk (pc := 5) dX10_term_5 ?_
  exact jc_retRi hk (pc := 6) dX10_term_6
set_option maxHeartbeats 4000000 in
theorem cc_f10_pull (l : Launch) {G : cG} {KK : State → Prop} (hH : cH G KK) (d : DS)  (σ : SS) (q0 : Nat) (a0 : Int32) (a1 : Int32) (res : Int32) (hf : f10_pull d q0 a0 a1 = some res) : jM l yX10_pull (ws_ yX10_pull cX10_pull 3 (some .int)) 2 62 [.ref q0, .int a0, .int a1] (cWo G d) (cnx d) KK σ (jR σ res) (hA G) d.2 := by
  refine jj_start [(0, .ref q0), (1, .int a0), (2, .int a1)] (by decide) (Nat.le_of_ble_eq_true rfl) rfl (fun p e R s m args below meth c hk hK hsz => ?_) hf
  have hk : jk p R s m args meth c d.2 cX10_pull 3 RX10 2 62 (some .int) := hk
  unfold f10_pull
  refine jj_aload_n hk (pc := 0) dX10_pull_0 0 rfl rfl ?_
  refine jj_iload_n hk (pc := 1) dX10_pull_1 1 rfl rfl ?_
  refine jj_iload_n hk (pc := 2) dX10_pull_2 2 rfl rfl ?_
  refine kc_X10_7_pull hk hH hK (pc := 3) (q0 := q0) (a0 := a0) (a1 := a1) (fun r h => cc_f7_pull l hH d σ q0 a0 a1 r h) dX10_pull_3 ⟨Nat.le_of_ble_eq_true rfl, Nat.le_of_ble_eq_true rfl⟩ (Nat.le_of_ble_eq_true rfl) (fun r1 => ?_)
  refine jj_iconst hk (pc := 6) (v := (1 : Int32)) dX10_pull_6 (by decide) ?_
  refine jj_iadd hk (pc := 7) dX10_pull_7 ?_
  exact jc_retRi hk (pc := 8) dX10_pull_8
set_option maxHeartbeats 4000000 in
theorem cc_f11_term (l : Launch) {G : cG} {KK : State → Prop} (hH : cH G KK) (d : DS)  (σ : SS) (q0 : Nat) (res : Int32) (hf : f11_term d q0 = some res) : jM l yX11_term (ws_ yX11_term cX11_term 1 (some .int)) 2 60 [.ref q0] (cWo G d) (cnx d) KK σ (jR σ res) (hA G) d.2 := by
  refine jj_start [(0, .ref q0)] (by decide) (Nat.le_of_ble_eq_true rfl) rfl (fun p e R s m args below meth c hk hK hsz => ?_) hf
  have hk : jk p R s m args meth c d.2 cX11_term 1 RX11 2 60 (some .int) := hk
  unfold f11_term
  refine jj_aload_n hk (pc := 0) dX11_term_0 0 rfl rfl ?_
  refine kc_X11_7_term hk hH hK (pc := 1) (q0 := q0) (fun r h => cc_f7_term l hH d σ q0 r h) dX11_term_1 ⟨Nat.le_of_ble_eq_true rfl, Nat.le_of_ble_eq_true rfl⟩ (Nat.le_of_ble_eq_true rfl) (fun r1 => ?_)
  refine jj_iconst hk (pc := 4) (v := (2 : Int32)) dX11_term_4 (by decide) ?_
  refine jj_iadd hk (pc := 5) dX11_term_5 ?_
  exact jc_retRi hk (pc := 6) dX11_term_6
set_option maxHeartbeats 4000000 in
theorem cc_f11_pull (l : Launch) {G : cG} {KK : State → Prop} (hH : cH G KK) (d : DS)  (σ : SS) (q0 : Nat) (a0 : Int32) (a1 : Int32) (res : Int32) (hf : f11_pull d q0 a0 a1 = some res) : jM l yX11_pull (ws_ yX11_pull cX11_pull 3 (some .int)) 2 62 [.ref q0, .int a0, .int a1] (cWo G d) (cnx d) KK σ (jR σ res) (hA G) d.2 := by
  refine jj_start [(0, .ref q0), (1, .int a0), (2, .int a1)] (by decide) (Nat.le_of_ble_eq_true rfl) rfl (fun p e R s m args below meth c hk hK hsz => ?_) hf
  have hk : jk p R s m args meth c d.2 cX11_pull 3 RX11 2 62 (some .int) := hk
  unfold f11_pull
  refine jj_aload_n hk (pc := 0) dX11_pull_0 0 rfl rfl ?_
  refine jj_iload_n hk (pc := 1) dX11_pull_1 1 rfl rfl ?_
  refine jj_iload_n hk (pc := 2) dX11_pull_2 2 rfl rfl ?_
  refine kc_X11_7_pull hk hH hK (pc := 3) (q0 := q0) (a0 := a0) (a1 := a1) (fun r h => cc_f7_pull l hH d σ q0 a0 a1 r h) dX11_pull_3 ⟨Nat.le_of_ble_eq_true rfl, Nat.le_of_ble_eq_true rfl⟩ (Nat.le_of_ble_eq_true rfl) (fun r1 => ?_)
  refine jj_iconst hk (pc := 6) (v := (2 : Int32)) dX11_pull_6 (by decide) ?_
  refine jj_idiv hk (pc := 7) dX11_pull_7 (by decide) ?_
  exact jc_retRi hk (pc := 8) dX11_pull_8
set_option maxHeartbeats 4000000 in
theorem cc_f12_term (l : Launch) {G : cG} {KK : State → Prop} (hH : cH G KK) (d : DS)  (σ : SS) (q0 : Nat) (res : Int32) (hf : f12_term d q0 = some res) : jM l yX12_term (ws_ yX12_term cX12_term 1 (some .int)) 3 80 [.ref q0] (cWo G d) (cnx d) KK σ (jR σ res) (hA G) d.2 := by
  refine jj_start [(0, .ref q0)] (by decide) (Nat.le_of_ble_eq_true rfl) rfl (fun p e R s m args below meth c hk hK hsz => ?_) hf
  have hk : jk p R s m args meth c d.2 cX12_term 1 RX12 3 80 (some .int) := hk
  unfold f12_term
  refine jj_aload_n hk (pc := 0) dX12_term_0 0 rfl rfl ?_
  refine kc_X12_11_term hk hH hK (pc := 1) (q0 := q0) (fun r h => cc_f11_term l hH d σ q0 r h) dX12_term_1 ⟨Nat.le_of_ble_eq_true rfl, Nat.le_of_ble_eq_true rfl⟩ (Nat.le_of_ble_eq_true rfl) (fun r1 => ?_)
  refine jj_bipush hk (pc := 4) (v := (9 : Int32)) dX12_term_4 (by decide) ?_
  refine jj_iadd hk (pc := 6) dX12_term_6 ?_
  exact jc_retRi hk (pc := 7) dX12_term_7
set_option maxHeartbeats 4000000 in
theorem cc_f12_pull (l : Launch) {G : cG} {KK : State → Prop} (hH : cH G KK) (d : DS)  (σ : SS) (q0 : Nat) (a0 : Int32) (a1 : Int32) (res : Int32) (hf : f12_pull d q0 a0 a1 = some res) : jM l yX12_pull (ws_ yX12_pull cX12_pull 3 (some .int)) 3 84 [.ref q0, .int a0, .int a1] (cWo G d) (cnx d) KK σ (jR σ res) (hA G) d.2 := by
  refine jj_start [(0, .ref q0), (1, .int a0), (2, .int a1)] (by decide) (Nat.le_of_ble_eq_true rfl) rfl (fun p e R s m args below meth c hk hK hsz => ?_) hf
  have hk : jk p R s m args meth c d.2 cX12_pull 3 RX12 3 84 (some .int) := hk
  unfold f12_pull
  refine jj_iload_n hk (pc := 0) dX12_pull_0 2 rfl rfl ?_
  refine jj_bipush hk (pc := 1) (v := (9 : Int32)) dX12_pull_1 (by decide) ?_
  refine jj_icmp_lt hk (pc := 3) 11 dX12_pull_3 (by decide) ?_ ?_
  · refine jj_aload_n hk (pc := 11) dX12_pull_11 0 rfl rfl ?_
    refine jj_iload_n hk (pc := 12) dX12_pull_12 1 rfl rfl ?_
    refine jj_iload_n hk (pc := 13) dX12_pull_13 2 rfl rfl ?_
    refine kc_X12_11_pull hk hH hK (pc := 14) (q0 := q0) (a0 := a0) (a1 := a1) (fun r h => cc_f11_pull l hH d σ q0 a0 a1 r h) dX12_pull_14 ⟨Nat.le_of_ble_eq_true rfl, Nat.le_of_ble_eq_true rfl⟩ (Nat.le_of_ble_eq_true rfl) (fun r1 => ?_)
    exact jc_retRi hk (pc := 17) dX12_pull_17
  · refine jj_bipush hk (pc := 6) (v := (9 : Int32)) dX12_pull_6 (by decide) ?_
    refine jj_goto hk (pc := 8) 17 dX12_pull_8 (by decide) ?_
    exact jc_retRi hk (pc := 17) dX12_pull_17
set_option maxHeartbeats 4000000 in
theorem cc_f15_of (l : Launch) {G : cG} {KK : State → Prop} (hH : cH G KK) (d : DS)  (σ : SS) (q0 : Nat) (res : Int32) (hf : f15_of d σ q0 = some res) : jM l yX15_of (ws_ yX15_of cX15_of 2 (some .int)) 1 40 [.ref q0, .ref (ha G 54)] (cWo G d) (cnx d) KK σ (jR σ res) (hA G) d.2 := by
  refine jj_start [(0, .ref q0), (1, .ref (ha G 54))] (by decide) (Nat.le_of_ble_eq_true rfl) rfl (fun p e R s m args below meth c hk hK hsz => ?_) hf
  have hk : jk p R s m args meth c d.2 cX15_of 2 RX15 1 40 (some .int) := hk
  unfold f15_of
  refine jj_aload_n hk (pc := 0) dX15_of_0 0 rfl rfl ?_
  refine jd_X15_fact hk hH hK (pc := 1) dX15_of_1 (fun q1 => ?_)
  refine jj_if_ge hk (pc := 4) 14 dX15_of_4 (by decide) ?_ ?_
  · refine jj_aload_n hk (pc := 14) dX15_of_14 1 rfl rfl ?_
    refine jj_aload_n hk (pc := 15) dX15_of_15 0 rfl rfl ?_
    refine jd_X15_fact hk hH hK (pc := 16) dX15_of_16 (fun q2 => ?_)
    refine jc_ld (j := 39) hk hH hK (pc := 19) (by decide) dX15_of_19 (fun v3 => ?_)
    exact jc_retRi hk (pc := 20) dX15_of_20
  · refine jj_aload_n hk (pc := 7) dX15_of_7 0 rfl rfl ?_
    refine jd_X15_n hk hH hK (pc := 8) dX15_of_8 (fun q4 => ?_)
    refine jj_goto hk (pc := 11) 20 dX15_of_11 (by decide) ?_
    exact jc_retRi hk (pc := 20) dX15_of_20
set_option maxHeartbeats 4000000 in
theorem cc_f14_holds (l : Launch) {G : cG} {KK : State → Prop} (hH : cH G KK) (d : DS)  (k_holds : Nat → Option Bool) (fr0 lo0 : Nat) (σ : SS) (hk_holds : ∀ (q : Nat) (r : Bool), k_holds q = some r → jHolds l G d KK σ fr0 lo0 q r) (q0 : Nat) (res : Bool) (hf : f14_holds k_holds d σ q0 = some res) : jM l yX14_holds (ws_ yX14_holds cX14_holds 2 (some .boolean)) (fr0 + 6) (lo0 + 150) [.ref q0, .ref (ha G 54)] (cWo G d) (cnx d) KK σ (jRz σ res) (hA G) d.2 := by
  refine jj_start [(0, .ref q0), (1, .ref (ha G 54))] (by decide) (Nat.le_of_ble_eq_true rfl) rfl (fun p e R s m args below meth c hk hK hsz => ?_) hf
  have hk : jk p R s m args meth c d.2 cX14_holds 2 RX14 (fr0 + 6) (lo0 + 150) (some .boolean) := hk
  unfold f14_holds
  refine jj_aload_n hk (pc := 0) dX14_holds_0 0 rfl rfl ?_
  refine jd_X14_of hk hH hK (pc := 1) dX14_holds_1 (fun q1 => ?_)
  refine jj_aload_n hk (pc := 4) dX14_holds_4 1 rfl rfl ?_
  refine kc_X14_HOLDS hk hH hK (pc := 5) (q0 := q1) (hk_holds q1) dX14_holds_5 ⟨by omega, by omega⟩ (Nat.le_of_ble_eq_true rfl) (fun r2 => ?_)
  refine jj_if_ne_b hk (pc := 8) 15 dX14_holds_8 (by decide) ?_ ?_
  · refine jj_iconst hk (pc := 15) (v := (0 : Int32)) dX14_holds_15 (by decide) ?_
    exact jc_retRz hk (pc := 16) (b := false) dX14_holds_16
  · refine jj_iconst hk (pc := 11) (v := (1 : Int32)) dX14_holds_11 (by decide) ?_
    refine jj_goto hk (pc := 12) 16 dX14_holds_12 (by decide) ?_
    exact jc_retRz hk (pc := 16) (b := true) dX14_holds_16
set_option maxHeartbeats 4000000 in
theorem cc_f16_holds (l : Launch) {G : cG} {KK : State → Prop} (hH : cH G KK) (d : DS)  (k_holds : Nat → Option Bool) (fr0 lo0 : Nat) (σ : SS) (hk_holds : ∀ (q : Nat) (r : Bool), k_holds q = some r → jHolds l G d KK σ fr0 lo0 q r) (q0 : Nat) (res : Bool) (hf : f16_holds k_holds d σ q0 = some res) : jM l yX16_holds (ws_ yX16_holds cX16_holds 4 (some .boolean)) (fr0 + 6) (lo0 + 150) [.ref q0, .ref (ha G 54)] (cWo G d) (cnx d) KK σ (jRz σ res) (hA G) d.2 := by
  refine jj_start [(0, .ref q0), (1, .ref (ha G 54))] (by decide) (Nat.le_of_ble_eq_true rfl) rfl (fun p e R s m args below meth c hk hK hsz => ?_) hf
  have hk : jk p R s m args meth c d.2 cX16_holds 4 RX16 (fr0 + 6) (lo0 + 150) (some .boolean) := hk
  unfold f16_holds
  refine jj_aload_n hk (pc := 0) dX16_holds_0 0 rfl rfl ?_
  refine jd_X16_first hk hH hK (pc := 1) dX16_holds_1 (fun q1 => ?_)
  refine jj_aload_n hk (pc := 4) dX16_holds_4 1 rfl rfl ?_
  refine kc_X16_15_of hk hH hK (pc := 5) (q0 := q1) (fun r h => cc_f15_of l hH d σ q1 r h) dX16_holds_5 ⟨by omega, by omega⟩ (Nat.le_of_ble_eq_true rfl) (fun r2 => ?_)
  refine jj_istore_n hk (pc := 8) [(2, .int r2), (0, .ref q0), (1, .ref (ha G 54))] dX16_holds_8 rfl (Nat.le_of_ble_eq_true rfl) rfl ?_
  refine jj_aload_n hk (pc := 9) dX16_holds_9 1 rfl rfl ?_
  refine jd_X16_second hk hH hK (pc := 10) dX16_holds_10 (fun q3 => ?_)
  refine jj_aload_n hk (pc := 13) dX16_holds_13 2 rfl rfl ?_
  refine kc_X16_15_of hk hH hK (pc := 14) (q0 := q3) (fun r h => cc_f15_of l hH d σ q3 r h) dX16_holds_14 ⟨by omega, by omega⟩ (Nat.le_of_ble_eq_true rfl) (fun r4 => ?_)
  refine jj_istore_n hk (pc := 17) [(3, .int r4), (2, .int r2), (0, .ref q0), (1, .ref (ha G 54))] dX16_holds_17 rfl (Nat.le_of_ble_eq_true rfl) rfl ?_
  refine jj_aload_n hk (pc := 18) dX16_holds_18 2 rfl rfl ?_
  refine jd_X16_sign hk hH hK (pc := 19) dX16_holds_19 (fun q5 => ?_)
  refine jj_bipush hk (pc := 22) (v := (60 : Int32)) dX16_holds_22 (by decide) ?_
  refine jj_icmp_ne hk (pc := 24) 40 dX16_holds_24 (by decide) ?_ ?_
  · refine jj_aload_n hk (pc := 40) dX16_holds_40 2 rfl rfl ?_
    refine jd_X16_sign hk hH hK (pc := 41) dX16_holds_41 (fun q6 => ?_)
    refine jj_bipush hk (pc := 44) (v := (61 : Int32)) dX16_holds_44 (by decide) ?_
    refine jj_icmp_ne hk (pc := 46) 62 dX16_holds_46 (by decide) ?_ ?_
    · refine jj_iload_n hk (pc := 62) dX16_holds_62 1 rfl rfl ?_
      refine jj_iload_n hk (pc := 63) dX16_holds_63 0 rfl rfl ?_
      refine jj_icmp_le hk (pc := 64) 71 dX16_holds_64 (by decide) ?_ ?_
      · refine jj_iconst hk (pc := 71) (v := (0 : Int32)) dX16_holds_71 (by decide) ?_
        exact jc_retRz hk (pc := 72) (b := false) dX16_holds_72
      · refine jj_iconst hk (pc := 67) (v := (1 : Int32)) dX16_holds_67 (by decide) ?_
        refine jj_goto hk (pc := 68) 72 dX16_holds_68 (by decide) ?_
        exact jc_retRz hk (pc := 72) (b := true) dX16_holds_72
    · refine jj_iload_n hk (pc := 49) dX16_holds_49 1 rfl rfl ?_
      refine jj_iload_n hk (pc := 50) dX16_holds_50 0 rfl rfl ?_
      refine jj_icmp_ne hk (pc := 51) 58 dX16_holds_51 (by decide) ?_ ?_
      · refine jj_iconst hk (pc := 58) (v := (0 : Int32)) dX16_holds_58 (by decide) ?_
        refine jj_goto hk (pc := 59) 72 dX16_holds_59 (by decide) ?_
        exact jc_retRz hk (pc := 72) (b := false) dX16_holds_72
      · refine jj_iconst hk (pc := 54) (v := (1 : Int32)) dX16_holds_54 (by decide) ?_
        refine jj_goto hk (pc := 55) 72 dX16_holds_55 (by decide) ?_
        exact jc_retRz hk (pc := 72) (b := true) dX16_holds_72
  · refine jj_iload_n hk (pc := 27) dX16_holds_27 1 rfl rfl ?_
    refine jj_iload_n hk (pc := 28) dX16_holds_28 0 rfl rfl ?_
    refine jj_icmp_ge hk (pc := 29) 36 dX16_holds_29 (by decide) ?_ ?_
    · refine jj_iconst hk (pc := 36) (v := (0 : Int32)) dX16_holds_36 (by decide) ?_
      refine jj_goto hk (pc := 37) 72 dX16_holds_37 (by decide) ?_
      exact jc_retRz hk (pc := 72) (b := false) dX16_holds_72
    · refine jj_iconst hk (pc := 32) (v := (1 : Int32)) dX16_holds_32 (by decide) ?_
      refine jj_goto hk (pc := 33) 72 dX16_holds_33 (by decide) ?_
      exact jc_retRz hk (pc := 72) (b := true) dX16_holds_72
set_option maxHeartbeats 4000000 in
theorem cc_f17_holds (l : Launch) {G : cG} {KK : State → Prop} (hH : cH G KK) (d : DS)  (k_holds : Nat → Option Bool) (fr0 lo0 : Nat) (σ : SS) (hk_holds : ∀ (q : Nat) (r : Bool), k_holds q = some r → jHolds l G d KK σ fr0 lo0 q r) (q0 : Nat) (res : Bool) (hf : f17_holds k_holds d σ q0 = some res) : jM l yX17_holds (ws_ yX17_holds cX17_holds 2 (some .boolean)) (fr0 + 6) (lo0 + 150) [.ref q0, .ref (ha G 54)] (cWo G d) (cnx d) KK σ (jRz σ res) (hA G) d.2 := by
  refine jj_start [(0, .ref q0), (1, .ref (ha G 54))] (by decide) (Nat.le_of_ble_eq_true rfl) rfl (fun p e R s m args below meth c hk hK hsz => ?_) hf
  have hk : jk p R s m args meth c d.2 cX17_holds 2 RX17 (fr0 + 6) (lo0 + 150) (some .boolean) := hk
  unfold f17_holds
  refine jj_aload_n hk (pc := 0) dX17_holds_0 0 rfl rfl ?_
  refine jd_X17_first hk hH hK (pc := 1) dX17_holds_1 (fun q1 => ?_)
  refine jj_aload_n hk (pc := 4) dX17_holds_4 1 rfl rfl ?_
  refine kc_X17_HOLDS hk hH hK (pc := 5) (q0 := q1) (hk_holds q1) dX17_holds_5 ⟨by omega, by omega⟩ (Nat.le_of_ble_eq_true rfl) (fun r2 => ?_)
  refine jj_if_eq_b hk (pc := 8) 26 dX17_holds_8 (by decide) ?_ ?_
  · refine jj_iconst hk (pc := 26) (v := (0 : Int32)) dX17_holds_26 (by decide) ?_
    exact jc_retRz hk (pc := 27) (b := false) dX17_holds_27
  · refine jj_aload_n hk (pc := 11) dX17_holds_11 0 rfl rfl ?_
    refine jd_X17_second hk hH hK (pc := 12) dX17_holds_12 (fun q3 => ?_)
    refine jj_aload_n hk (pc := 15) dX17_holds_15 1 rfl rfl ?_
    refine kc_X17_HOLDS hk hH hK (pc := 16) (q0 := q3) (hk_holds q3) dX17_holds_16 ⟨by omega, by omega⟩ (Nat.le_of_ble_eq_true rfl) (fun r4 => ?_)
    refine jj_if_eq_b hk (pc := 19) 26 dX17_holds_19 (by decide) ?_ ?_
    · refine jj_iconst hk (pc := 26) (v := (0 : Int32)) dX17_holds_26 (by decide) ?_
      exact jc_retRz hk (pc := 27) (b := false) dX17_holds_27
    · refine jj_iconst hk (pc := 22) (v := (1 : Int32)) dX17_holds_22 (by decide) ?_
      refine jj_goto hk (pc := 23) 27 dX17_holds_23 (by decide) ?_
      exact jc_retRz hk (pc := 27) (b := true) dX17_holds_27
set_option maxHeartbeats 4000000 in
theorem cc_f18_holds (l : Launch) {G : cG} {KK : State → Prop} (hH : cH G KK) (d : DS)  (k_holds : Nat → Option Bool) (fr0 lo0 : Nat) (σ : SS) (hk_holds : ∀ (q : Nat) (r : Bool), k_holds q = some r → jHolds l G d KK σ fr0 lo0 q r) (q0 : Nat) (res : Bool) (hf : f18_holds k_holds d σ q0 = some res) : jM l yX18_holds (ws_ yX18_holds cX18_holds 2 (some .boolean)) (fr0 + 6) (lo0 + 150) [.ref q0, .ref (ha G 54)] (cWo G d) (cnx d) KK σ (jRz σ res) (hA G) d.2 := by
  refine jj_start [(0, .ref q0), (1, .ref (ha G 54))] (by decide) (Nat.le_of_ble_eq_true rfl) rfl (fun p e R s m args below meth c hk hK hsz => ?_) hf
  have hk : jk p R s m args meth c d.2 cX18_holds 2 RX18 (fr0 + 6) (lo0 + 150) (some .boolean) := hk
  unfold f18_holds
  refine jj_aload_n hk (pc := 0) dX18_holds_0 0 rfl rfl ?_
  refine jd_X18_first hk hH hK (pc := 1) dX18_holds_1 (fun q1 => ?_)
  refine jj_aload_n hk (pc := 4) dX18_holds_4 1 rfl rfl ?_
  refine kc_X18_HOLDS hk hH hK (pc := 5) (q0 := q1) (hk_holds q1) dX18_holds_5 ⟨by omega, by omega⟩ (Nat.le_of_ble_eq_true rfl) (fun r2 => ?_)
  refine jj_if_ne_b hk (pc := 8) 22 dX18_holds_8 (by decide) ?_ ?_
  · refine jj_iconst hk (pc := 22) (v := (1 : Int32)) dX18_holds_22 (by decide) ?_
    refine jj_goto hk (pc := 23) 27 dX18_holds_23 (by decide) ?_
    exact jc_retRz hk (pc := 27) (b := true) dX18_holds_27
  · refine jj_aload_n hk (pc := 11) dX18_holds_11 0 rfl rfl ?_
    refine jd_X18_second hk hH hK (pc := 12) dX18_holds_12 (fun q3 => ?_)
    refine jj_aload_n hk (pc := 15) dX18_holds_15 1 rfl rfl ?_
    refine kc_X18_HOLDS hk hH hK (pc := 16) (q0 := q3) (hk_holds q3) dX18_holds_16 ⟨by omega, by omega⟩ (Nat.le_of_ble_eq_true rfl) (fun r4 => ?_)
    refine jj_if_eq_b hk (pc := 19) 26 dX18_holds_19 (by decide) ?_ ?_
    · refine jj_iconst hk (pc := 26) (v := (0 : Int32)) dX18_holds_26 (by decide) ?_
      exact jc_retRz hk (pc := 27) (b := false) dX18_holds_27
    · refine jj_iconst hk (pc := 22) (v := (1 : Int32)) dX18_holds_22 (by decide) ?_
      refine jj_goto hk (pc := 23) 27 dX18_holds_23 (by decide) ?_
      exact jc_retRz hk (pc := 27) (b := true) dX18_holds_27
end
section
variable {p : Program} {l : Launch} {e : Env} {R : Room} {s : State} {m : MethodId} {args : Array Value} {below : List Frame} {meth : Method} {c : Code}
variable {G : cG} {d : DS} {KK : State → Prop}
variable {NX : Nat} {Q : State → Prop} {nL : Nat} {cc : ByteArray} {fr lo frc loc : Nat} {ret : Option FieldType}
variable {pc : Nat} {σ : SS} {lv : List (Nat × Value)} {st : List Value} {ρ : Type} {res : ρ}
theorem kc_X0_term (hk : jk p R s m args meth c NX cc nL RX0 fr lo ret) (hH : cH G KK) (hK : KK s) {q0 : Nat} {K : Int32 → Option ρ} (hd : decode cc pc = .ok (.invokevirtual 213, 3)) (hr : 4 + 1 ≤ fr ∧ 8 + (4 + 11) + 160 ≤ lo) (hw : (st.map fun v => v.category).sum ≤ 8) (kk : ∀ r, jj p l e R s m args below meth c (hA G) NX Q (cWo G d) (cnx d) nL σ (pc + 3) lv (.int r :: st) (K r = some res)) : jj p l e R s m args below meth c (hA G) NX Q (cWo G d) (cnx d) nL σ pc lv (.ref q0 :: st) ((hTerm d q0).bind K = some res) := by
  intro hz
  unfold hTerm at hz
  cases hc : dci d q0 with
  | none => rw [hc] at hz; cases hz
  | some ci =>
  rw [hc] at hz
  obtain ⟨fs, he⟩ := dci_spec hc
  simp only [Option.bind_some] at hz
  by_cases h7 : ci = 7
  · subst h7
    exact jc_ORi (x := ⟨"LeftUndoes$Hand", "term", "()I"⟩) (C := RX8) (n := 0) (frc := 1) (loc := 40) hk hH hK [] (fun r h => cc_f7_term l hH d σ q0 r h) (lw_Ow q654 q656 q655 q657 q655 q128 q662) q662 (cRv_D (q := (RX8, TX8, 2)) hH hK (ci := 7) rfl he) (by decide +kernel) rfl rfl hd (by omega) hw kk hz
  rw [if_neg h7] at hz
  by_cases h8 : ci = 8
  · subst h8
    exact jc_ORi (x := ⟨"LeftUndoes$Hand", "term", "()I"⟩) (C := RX9) (n := 0) (frc := 2) (loc := 60) hk hH hK [] (fun r h => cc_f9_term l hH d σ q0 r h) (lw_Ow q654 q656 q655 q658 q659 q130 q660) q662 (cRv_D (q := (RX9, TX9, 2)) hH hK (ci := 8) rfl he) (by decide +kernel) rfl rfl hd (by omega) hw kk hz
  rw [if_neg h8] at hz
  by_cases h9 : ci = 9
  · subst h9
    exact jc_ORi (x := ⟨"LeftUndoes$Hand", "term", "()I"⟩) (C := RX10) (n := 0) (frc := 3) (loc := 80) hk hH hK [] (fun r h => cc_f10_term l hH d σ q0 r h) (lw_Ow q654 q656 q655 q671 q672 q131 q673) q662 (cRv_D (q := (RX10, TX10, 2)) hH hK (ci := 9) rfl he) (by decide +kernel) rfl rfl hd (by omega) hw kk hz
  rw [if_neg h9] at hz
  by_cases h10 : ci = 10
  · subst h10
    exact jc_ORi (x := ⟨"LeftUndoes$Hand", "term", "()I"⟩) (C := RX11) (n := 0) (frc := 2) (loc := 60) hk hH hK [] (fun r h => cc_f11_term l hH d σ q0 r h) (lw_Ow q654 q656 q655 q670 q667 q132 q668) q662 (cRv_D (q := (RX11, TX11, 2)) hH hK (ci := 10) rfl he) (by decide +kernel) rfl rfl hd (by omega) hw kk hz
  rw [if_neg h10] at hz
  by_cases h11 : ci = 11
  · subst h11
    exact jc_ORi (x := ⟨"LeftUndoes$Hand", "term", "()I"⟩) (C := RX12) (n := 0) (frc := 3) (loc := 80) hk hH hK [] (fun r h => cc_f12_term l hH d σ q0 r h) (lw_Ow q654 q656 q655 q663 q664 q133 q665) q662 (cRv_D (q := (RX12, TX12, 2)) hH hK (ci := 11) rfl he) (by decide +kernel) rfl rfl hd (by omega) hw kk hz
  rw [if_neg h11] at hz
  cases hz
theorem kc_X0_pull (hk : jk p R s m args meth c NX cc nL RX0 fr lo ret) (hH : cH G KK) (hK : KK s) {q0 : Nat} {a0 a1 : Int32} {K : Int32 → Option ρ} (hd : decode cc pc = .ok (.invokevirtual 188, 3)) (hr : 4 + 1 ≤ fr ∧ 8 + (4 + 11) + 160 ≤ lo) (hw : (st.map fun v => v.category).sum ≤ 8) (kk : ∀ r, jj p l e R s m args below meth c (hA G) NX Q (cWo G d) (cnx d) nL σ (pc + 3) lv (.int r :: st) (K r = some res)) : jj p l e R s m args below meth c (hA G) NX Q (cWo G d) (cnx d) nL σ pc lv (.int a1 :: .int a0 :: .ref q0 :: st) ((hPull d q0 a0 a1).bind K = some res) := by
  intro hz
  unfold hPull at hz
  cases hc : dci d q0 with
  | none => rw [hc] at hz; cases hz
  | some ci =>
  rw [hc] at hz
  obtain ⟨fs, he⟩ := dci_spec hc
  simp only [Option.bind_some] at hz
  by_cases h7 : ci = 7
  · subst h7
    exact jc_ORi (x := ⟨"LeftUndoes$Hand", "pull", "(II)I"⟩) (C := RX8) (n := 2) (frc := 2) (loc := 62) hk hH hK [.int a0, .int a1] (fun r h => cc_f8_pull l hH d σ q0 a0 a1 r h) (lw_Ow q586 q588 q587 q589 q590 q129 q591) q593 (cRv_D (q := (RX8, TX8, 2)) hH hK (ci := 7) rfl he) (by decide +kernel) rfl rfl hd (by omega) hw kk hz
  rw [if_neg h7] at hz
  by_cases h8 : ci = 8
  · subst h8
    exact jc_ORi (x := ⟨"LeftUndoes$Hand", "pull", "(II)I"⟩) (C := RX9) (n := 2) (frc := 1) (loc := 40) hk hH hK [.int a0, .int a1] (fun r h => cc_f7_pull l hH d σ q0 a0 a1 r h) (lw_Ow q586 q588 q587 q594 q587 q128 q593) q593 (cRv_D (q := (RX9, TX9, 2)) hH hK (ci := 8) rfl he) (by decide +kernel) rfl rfl hd (by omega) hw kk hz
  rw [if_neg h8] at hz
  by_cases h9 : ci = 9
  · subst h9
    exact jc_ORi (x := ⟨"LeftUndoes$Hand", "pull", "(II)I"⟩) (C := RX10) (n := 2) (frc := 2) (loc := 62) hk hH hK [.int a0, .int a1] (fun r h => cc_f10_pull l hH d σ q0 a0 a1 r h) (lw_Ow q586 q588 q587 q603 q604 q131 q605) q593 (cRv_D (q := (RX10, TX10, 2)) hH hK (ci := 9) rfl he) (by decide +kernel) rfl rfl hd (by omega) hw kk hz
  rw [if_neg h9] at hz
  by_cases h10 : ci = 10
  · subst h10
    exact jc_ORi (x := ⟨"LeftUndoes$Hand", "pull", "(II)I"⟩) (C := RX11) (n := 2) (frc := 2) (loc := 62) hk hH hK [.int a0, .int a1] (fun r h => cc_f11_pull l hH d σ q0 a0 a1 r h) (lw_Ow q586 q588 q587 q602 q599 q132 q600) q593 (cRv_D (q := (RX11, TX11, 2)) hH hK (ci := 10) rfl he) (by decide +kernel) rfl rfl hd (by omega) hw kk hz
  rw [if_neg h10] at hz
  by_cases h11 : ci = 11
  · subst h11
    exact jc_ORi (x := ⟨"LeftUndoes$Hand", "pull", "(II)I"⟩) (C := RX12) (n := 2) (frc := 3) (loc := 84) hk hH hK [.int a0, .int a1] (fun r h => cc_f12_pull l hH d σ q0 a0 a1 r h) (lw_Ow q586 q588 q587 q595 q596 q133 q597) q593 (cRv_D (q := (RX12, TX12, 2)) hH hK (ci := 11) rfl he) (by decide +kernel) rfl rfl hd (by omega) hw kk hz
  rw [if_neg h11] at hz
  cases hz
theorem kc_X0_number (hk : jk p R s m args meth c NX cc nL RX0 fr lo ret) (hH : cH G KK) (hK : KK s) {q0 : Nat} {K : Int32 → Option ρ} (hd : decode cc pc = .ok (.invokevirtual 573, 3)) (hr : 4 + 1 ≤ fr ∧ 8 + (4 + 11) + 160 ≤ lo) (hw : (st.map fun v => v.category).sum ≤ 8) (kk : ∀ r, jj p l e R s m args below meth c (hA G) NX Q (cWo G d) (cnx d) nL σ (pc + 3) lv (.int r :: st) (K r = some res)) : jj p l e R s m args below meth c (hA G) NX Q (cWo G d) (cnx d) nL σ pc lv (.ref q0 :: st) ((hNumber d q0).bind K = some res) := by
  intro hz
  unfold hNumber at hz
  cases hc : dci d q0 with
  | none => rw [hc] at hz; cases hz
  | some ci =>
  rw [hc] at hz
  obtain ⟨fs, he⟩ := dci_spec hc
  simp only [Option.bind_some] at hz
  by_cases h7 : ci = 7
  · subst h7
    exact jc_ORi (x := ⟨"LeftUndoes$Hand", "number", "()I"⟩) (C := RX8) (n := 0) (frc := 1) (loc := 40) hk hH hK [] (fun r h => cc_f7_number l hH d σ q0 r h) (lw_Ow q1338 q1340 q1339 q1341 q1339 q128 q1346) q1346 (cRv_D (q := (RX8, TX8, 2)) hH hK (ci := 7) rfl he) (by decide +kernel) rfl rfl hd (by omega) hw kk hz
  rw [if_neg h7] at hz
  by_cases h8 : ci = 8
  · subst h8
    exact jc_ORi (x := ⟨"LeftUndoes$Hand", "number", "()I"⟩) (C := RX9) (n := 0) (frc := 1) (loc := 40) hk hH hK [] (fun r h => cc_f7_number l hH d σ q0 r h) (lw_Ow q1338 q1340 q1339 q1342 q1339 q128 q1346) q1346 (cRv_D (q := (RX9, TX9, 2)) hH hK (ci := 8) rfl he) (by decide +kernel) rfl rfl hd (by omega) hw kk hz
  rw [if_neg h8] at hz
  by_cases h9 : ci = 9
  · subst h9
    exact jc_ORi (x := ⟨"LeftUndoes$Hand", "number", "()I"⟩) (C := RX10) (n := 0) (frc := 1) (loc := 40) hk hH hK [] (fun r h => cc_f7_number l hH d σ q0 r h) (lw_Ow q1338 q1340 q1339 q1345 q1339 q128 q1346) q1346 (cRv_D (q := (RX10, TX10, 2)) hH hK (ci := 9) rfl he) (by decide +kernel) rfl rfl hd (by omega) hw kk hz
  rw [if_neg h9] at hz
  by_cases h10 : ci = 10
  · subst h10
    exact jc_ORi (x := ⟨"LeftUndoes$Hand", "number", "()I"⟩) (C := RX11) (n := 0) (frc := 1) (loc := 40) hk hH hK [] (fun r h => cc_f7_number l hH d σ q0 r h) (lw_Ow q1338 q1340 q1339 q1344 q1339 q128 q1346) q1346 (cRv_D (q := (RX11, TX11, 2)) hH hK (ci := 10) rfl he) (by decide +kernel) rfl rfl hd (by omega) hw kk hz
  rw [if_neg h10] at hz
  by_cases h11 : ci = 11
  · subst h11
    exact jc_ORi (x := ⟨"LeftUndoes$Hand", "number", "()I"⟩) (C := RX12) (n := 0) (frc := 1) (loc := 40) hk hH hK [] (fun r h => cc_f7_number l hH d σ q0 r h) (lw_Ow q1338 q1340 q1339 q1343 q1339 q128 q1346) q1346 (cRv_D (q := (RX12, TX12, 2)) hH hK (ci := 11) rfl he) (by decide +kernel) rfl rfl hd (by omega) hw kk hz
  rw [if_neg h11] at hz
  cases hz
end
theorem hHolds_ok (l : Launch) {G : cG} {KK : State → Prop} (hH : cH G KK) (d : DS) : ∀ (D : Nat) (σ : SS) (q : Nat) (r : Bool), hHolds D d σ q = some r → jHolds l G d KK σ (6 * D) (150 * D) q r := by
  intro D
  induction D with
  | zero => intro σ q r h; cases h
  | succ D ih =>
    intro σ q r h
    unfold hHolds at h
    cases hc : dci d q with
    | none => rw [hc] at h; cases h
    | some ci =>
    rw [hc] at h
    obtain ⟨fs, he⟩ := dci_spec hc
    simp only [Option.bind_some] at h
    by_cases h12 : ci = 12
    · subst h12
      exact ⟨12, fs, he, Or.inl ⟨rfl, cc_f14_holds l hH d (hHolds D d σ) (6 * D) (150 * D) σ (ih σ) q r h⟩⟩
    rw [if_neg h12] at h
    by_cases h13 : ci = 13
    · subst h13
      exact ⟨13, fs, he, Or.inr (Or.inl ⟨rfl, cc_f16_holds l hH d (hHolds D d σ) (6 * D) (150 * D) σ (ih σ) q r h⟩)⟩
    rw [if_neg h13] at h
    by_cases h14 : ci = 14
    · subst h14
      exact ⟨14, fs, he, Or.inr (Or.inr (Or.inl ⟨rfl, cc_f17_holds l hH d (hHolds D d σ) (6 * D) (150 * D) σ (ih σ) q r h⟩))⟩
    rw [if_neg h14] at h
    by_cases h15 : ci = 15
    · subst h15
      exact ⟨15, fs, he, Or.inr (Or.inr (Or.inr (⟨rfl, cc_f18_holds l hH d (hHolds D d σ) (6 * D) (150 * D) σ (ih σ) q r h⟩)))⟩
    rw [if_neg h15] at h
    cases h
