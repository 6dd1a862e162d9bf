/-! THE COMPONENT's METHODS that read texts or throw, printed by gen/gen4.py -/
set_option maxRecDepth 100000
def f0_graceFor_L28 (N : Nat)  : Nat → SS → DS → Int32 → Int32 → Int32 → Int32 → Int32 → Option (Int32 × SS × DS)
  | 0, _, _, _, _, _, _, _ => none
  | n + 1, σ, d, x1, x2, x3, x4, x5 => (if (9 : Int32) < x5 then (stC σ 1 x1 x2).bind fun σ1 => (dMonV d (f0_renew σ1 d x1)).bind fun r2 => some (x3, r2.1, r2.2) else (stC σ 1 x1 x5).bind fun σ3 => (dMonV d (f0_renew σ3 d x1)).bind fun r4 => (f0_restWorth N r4.2 r4.1).bind fun r5 => (if r5.1 ≤ x4 then f0_graceFor_L28 N n r5.2 r4.2 x1 x2 x3 (if x4 < r5.1 then r5.1 else x4) (x5 + 1) else f0_graceFor_L28 N n r5.2 r4.2 x1 x2 x5 (if x4 < r5.1 then r5.1 else x4) (x5 + 1)))
def f0_graceFor (N : Nat) (σ : SS) (d : DS) (a0 : Int32) : Option (Int32 × SS × DS) := (f0_isPerson σ a0).bind fun r1 => (if r1 = true then (ldC σ 1 a0).bind fun v2 => f0_graceFor_L28 N N σ d a0 v2 (1 : Int32) (-1 : Int32) (1 : Int32) else some ((-1 : Int32), σ, d))
def f0_strengthFor_L30 (N : Nat) (d : DS)  : Nat → SS → Int32 → Int32 → Option (Int32 × SS)
  | 0, _, _, _ => none
  | n + 1, σ, x1, x2 => (ldC σ 2 x1).bind fun v1 => (if (9 : Int32) < v1 then (stC σ 2 x1 x2).bind fun σ2 => some ((-3 : Int32), σ2) else (f0_lateSet N d σ).bind fun r3 => (if ((r3.1 >>> (x1 &&& 31)) &&& (1 : Int32)) = 0 then (ldC r3.2 2 x1).bind fun v6 => (stC r3.2 2 x1 x2).bind fun σ7 => some (v6, σ7) else (ldC r3.2 2 x1).bind fun v4 => (stC r3.2 2 x1 (v4 + (1 : Int32))).bind fun σ5 => f0_strengthFor_L30 N d n σ5 x1 x2))
def f0_strengthFor (N : Nat) (d : DS) (σ : SS) (a0 : Int32) : Option (Int32 × SS) := (f0_isPerson σ a0).bind fun r1 => (if r1 = true then (ldC σ 2 a0).bind fun v2 => (stC σ 2 a0 (1 : Int32)).bind fun σ3 => f0_strengthFor_L30 N d N σ3 a0 v2 else some ((-1 : Int32), σ))
def f0_often_L48 (N : Nat) (d : DS)  : Nat → SS → Int32 → Int32 → Int32 → Int32 → Int32 → Option (Int32 × SS)
  | 0, _, _, _, _, _, _ => none
  | n + 1, σ, x1, x2, x3, x4, x5 => (if x1 ≤ x5 then (f3_become σ 0 2).bind fun r1 => some (x3, r1) else (f3_become σ 0 2).bind fun r2 => (some (sI r2 6 x4)).bind fun σ3 => (f0_drawnAll N d σ3).bind fun r4 => (if x2 ≤ r4.1 then f0_often_L48 N d n r4.2 x1 x2 (x3 + 1) (r4.2.1 6) (x5 + 1) else f0_often_L48 N d n r4.2 x1 x2 x3 (r4.2.1 6) (x5 + 1)))
def f0_often (N : Nat) (d : DS) (σ : SS) (a0 : Int32) (a1 : Int32) : Option (Int32 × SS) := (f0_isIn a0 (1 : Int32) (40 : Int32)).bind fun r1 => (if r1 = true then (f0_isIn a1 (0 : Int32) (999 : Int32)).bind fun r2 => (if r2 = true then (f3_become σ 2 0).bind fun r3 => f0_often_L48 N d N r3 a0 a1 (0 : Int32) (r3.1 6) (0 : Int32) else some ((-1 : Int32), σ)) else some ((-1 : Int32), σ))
def f0_judge_L15 (N : Nat) (d : DS)  : Nat → SS → Bool → Int32 → Option (Int32 × SS)
  | 0, _, _, _ => none
  | n + 1, σ, x1, x2 => (if (σ.1 58) ≤ x2 then (f3_become σ 0 2).bind fun r1 => some ((bI x1), r1) else (ldC σ 44 ((3 : Int32) * x2)).bind fun v2 => (f0_isAct σ v2).bind fun r3 => (if r3 = true then (f3_isOver σ 0).bind fun r5 => (if r5 = true then (f3_become σ 0 2).bind fun r12 => some (x2 + (1 : Int32), r12) else (f0_passes N d σ (v2 - (1 : Int32))).bind fun r6 => (ldC r6.2 44 (((3 : Int32) * x2) + (1 : Int32))).bind fun v7 => (if v7 = r6.1 then (ldC r6.2 44 (((3 : Int32) * x2) + (2 : Int32))).bind fun v9 => (f0_setOf N r6.2 (1 : Int32)).bind fun r10 => (if v9 = r10 then f0_judge_L15 N d n r6.2 false (x2 + 1) else (f3_become r6.2 0 2).bind fun r11 => some (x2 + (1 : Int32), r11)) else (f3_become r6.2 0 2).bind fun r8 => some (x2 + (1 : Int32), r8))) else (f3_become σ 0 2).bind fun r4 => some (x2 + (1 : Int32), r4)))
def f0_judge (N : Nat) (d : DS) (σ : SS) : Option (Int32 × SS) := (f3_become σ 2 0).bind fun r1 => f0_judge_L15 N d N r1 false (0 : Int32)
section
variable {p : Program} {l : Launch} {e : Env} {R : Room} {s : State} {m : MethodId} {args : Array Value} {below : List Frame} {meth : Method} {c : Code}
variable {G : cG} {d : DS} {KK : State → Prop}
variable {NX : Nat} {Q : State → Prop} {nL : Nat} {cc : ByteArray} {fr lo frc loc : Nat} {ret : Option FieldType}
variable {pc : Nat} {σ : SS} {lv : List (Nat × Value)} {st : List Value} {ρ : Type} {res : ρ}
theorem kc_X0_0_drawnAll (hk : jk p R s m args meth c NX cc nL RX0 fr lo ret) (hH : cH G KK) (hK : KK s)  {F : Option (Int32 × SS)} {K : (Int32 × SS) → Option ρ} (hM : ∀ r, F = some r → jM l yX0_drawnAll (ws_ yX0_drawnAll cX0_drawnAll 2 (some .int)) frc loc [.ref (ha G 0)] (cWo G d) (cnx d) KK σ (jU r) (hA G) d.2)  (hd : decode cc pc = .ok (.invokevirtual 506, 3)) (hr : frc + 1 ≤ fr ∧ 8 + (2 + 11) + loc ≤ lo) (hw : (st.map fun v => v.category).sum ≤ 8) (kk : ∀ r, jj p l e R s m args below meth c (hA G) NX Q (cWo G d) (cnx d) nL r.2 (pc + 3) lv (.int r.1 :: st) (K r = some res)) : jj p l e R s m args below meth c (hA G) NX Q (cWo G d) (cnx d) nL σ pc lv (.ref (ha G 0) :: st) (F.bind K = some res) :=
  jc_VUi (n := 0) hk hH hK [] hM (lw_V q1163 q1165 qs47 q118 q1166) (cRv_at (q := (RX0, TX0, 32)) (ci := 1) (q0 := 0) hH hK rfl rfl) (by decide +kernel) rfl rfl hd hr hw kk
theorem kc_X0_0_isAct (hk : jk p R s m args meth c NX cc nL RX0 fr lo ret) (hH : cH G KK) (hK : KK s) {a0 : Int32} {F : Option Bool} {K : Bool → Option ρ} (hM : ∀ r, F = some r → jM l yX0_isAct (ws_ yX0_isAct cX0_isAct 2 (some .boolean)) frc loc [.ref (ha G 0), .int a0] (cWo G d) (cnx d) KK σ (jRz σ r) (hA G) d.2)  (hd : decode cc pc = .ok (.invokevirtual 515, 3)) (hr : frc + 1 ≤ fr ∧ 8 + (2 + 11) + loc ≤ lo) (hw : (st.map fun v => v.category).sum ≤ 8) (kk : ∀ r, jj p l e R s m args below meth c (hA G) NX Q (cWo G d) (cnx d) nL σ (pc + 3) lv (.int (bI r) :: st) (K r = some res)) : jj p l e R s m args below meth c (hA G) NX Q (cWo G d) (cnx d) nL σ pc lv (.int a0 :: .ref (ha G 0) :: st) (F.bind K = some res) :=
  jc_VRz (n := 1) hk hH hK [.int a0] hM (lw_V q1187 q1189 qs49 q118 q1190) (cRv_at (q := (RX0, TX0, 32)) (ci := 1) (q0 := 0) hH hK rfl rfl) (by decide +kernel) rfl rfl hd hr hw kk
theorem kc_X0_0_restWorth (hk : jk p R s m args meth c NX cc nL RX0 fr lo ret) (hH : cH G KK) (hK : KK s)  {F : Option (Int32 × SS)} {K : (Int32 × SS) → Option ρ} (hM : ∀ r, F = some r → jM l yX0_restWorth (ws_ yX0_restWorth cX0_restWorth 2 (some .int)) frc loc [.ref (ha G 0)] (cWo G d) (cnx d) KK σ (jU r) (hA G) d.2)  (hd : decode cc pc = .ok (.invokevirtual 399, 3)) (hr : frc + 1 ≤ fr ∧ 8 + (2 + 11) + loc ≤ lo) (hw : (st.map fun v => v.category).sum ≤ 8) (kk : ∀ r, jj p l e R s m args below meth c (hA G) NX Q (cWo G d) (cnx d) nL r.2 (pc + 3) lv (.int r.1 :: st) (K r = some res)) : jj p l e R s m args below meth c (hA G) NX Q (cWo G d) (cnx d) nL σ pc lv (.ref (ha G 0) :: st) (F.bind K = some res) :=
  jc_VUi (n := 0) hk hH hK [] hM (lw_V q1006 q1008 qs32 q118 q1009) (cRv_at (q := (RX0, TX0, 32)) (ci := 1) (q0 := 0) hH hK rfl rfl) (by decide +kernel) rfl rfl hd hr hw kk
end
section
variable {p : Program} {l : Launch} {e : Env} {R : Room} {s : State} {m : MethodId} {args : Array Value} {below : List Frame} {meth : Method} {c : Code}
variable {G : cG} {d : DS} {KK : State → Prop}
variable {NX : Nat} {nL : Nat} {cc : ByteArray} {fr lo frc loc : Nat} {ret : Option FieldType}
variable {pc : Nat} {σ : SS} {lv : List (Nat × Value)} {st : List Value} {τ : Type} {nf : τ → Nat} {Ψ : τ → Outcome → SS × DS → Prop} {res : XR τ}

end
section
variable {p : Program} {l : Launch} {e : Env} {R : Room} {s : State} {m : MethodId} {args : Array Value} {below : List Frame} {meth : Method} {c : Code}
variable {G : cG} {KK : State → Prop}
set_option maxHeartbeats 4000000 in
theorem wb_f0_graceFor_L28 {res : (Int32 × SS × DS)} (hk : jk p R s m args meth c res.2.2.2 cX0_graceFor 8 RX0 487 12177 (some .int)) (hH : cH G KK) (hK : KK s) (N : Nat) : ∀ (n : Nat) (σ : SS) (d : DS) (x1 : Int32) (x2 : Int32) (x3 : Int32) (x4 : Int32) (x5 : Int32), jj p l e R s m args below meth c (hA G) res.2.2.2 (jZ below args s (hA G) res.2.2.2 (jUa (fun x : Int32 => .int x) res) (aWo G) anx) (cWo G d) (cnx d) 8 σ 28 [(0, .ref (ha G 0)), (1, .int x1), (2, .int x2), (3, .int x3), (4, .int x4), (5, .int x5)] [] (f0_graceFor_L28 N n σ d x1 x2 x3 x4 x5 = some res) := by
  intro n
  induction n with
  | zero => intro σ d x1 x2 x3 x4 x5; exact jj_eq (fun hz => by rw [f0_graceFor_L28] at hz; exact hz) jj_no
  | succ n ih =>
    intro σ d x1 x2 x3 x4 x5
    rw [f0_graceFor_L28]
    refine jj_iload hk (pc := 28) dX0_graceFor_28 5 rfl ?_
    refine jj_bipush hk (pc := 30) (v := (9 : Int32)) dX0_graceFor_30 (by decide) ?_
    refine jj_icmp_gt hk (pc := 32) 86 dX0_graceFor_32 (by decide) ?_ ?_
    · refine jj_iload_n hk (pc := 86) dX0_graceFor_86 3 rfl rfl ?_
      refine jj_istore hk (pc := 87) [(5, .int x3), (0, .ref (ha G 0)), (1, .int x1), (2, .int x2), (3, .int x3), (4, .int x4)] dX0_graceFor_87 (Nat.le_of_ble_eq_true rfl) rfl ?_
      refine jj_aload_n hk (pc := 89) dX0_graceFor_89 1 rfl rfl ?_
      refine jc_g_now hk hH hK (pc := 90) dX0_graceFor_90 ?_
      refine jc_t_grace hk hH hK (pc := 93) dX0_graceFor_93 ?_
      refine jj_iload_n hk (pc := 96) dX0_graceFor_96 2 rfl rfl ?_
      refine jj_iload_n hk (pc := 97) dX0_graceFor_97 3 rfl rfl ?_
      refine jc_st (j := 1) hk hH hK (pc := 98) (by decide) dX0_graceFor_98 (fun σ1 => ?_)
      refine jj_aload_n hk (pc := 99) dX0_graceFor_99 1 rfl rfl ?_
      refine jj_iload_n hk (pc := 100) dX0_graceFor_100 2 rfl rfl ?_
      refine kc_X0_0_renew hk hH hK (pc := 101) (a0 := x1) (fun r h => cc_f0_renew l hH σ1 d x1 r h) dX0_graceFor_101 ⟨Nat.le_of_ble_eq_true rfl, Nat.le_of_ble_eq_true rfl⟩ (Nat.le_of_ble_eq_true rfl) (fun r2 => ?_)
      refine jj_iload hk (pc := 104) dX0_graceFor_104 0 rfl ?_
      exact ja_retUi hk (pc := 106) dX0_graceFor_106
    · refine jj_aload_n hk (pc := 35) dX0_graceFor_35 0 rfl rfl ?_
      refine jc_g_now hk hH hK (pc := 36) dX0_graceFor_36 ?_
      refine jc_t_grace hk hH hK (pc := 39) dX0_graceFor_39 ?_
      refine jj_iload_n hk (pc := 42) dX0_graceFor_42 1 rfl rfl ?_
      refine jj_iload hk (pc := 43) dX0_graceFor_43 5 rfl ?_
      refine jc_st (j := 1) hk hH hK (pc := 45) (by decide) dX0_graceFor_45 (fun σ3 => ?_)
      refine jj_aload_n hk (pc := 46) dX0_graceFor_46 0 rfl rfl ?_
      refine jj_iload_n hk (pc := 47) dX0_graceFor_47 1 rfl rfl ?_
      refine kc_X0_0_renew hk hH hK (pc := 48) (a0 := x1) (fun r h => cc_f0_renew l hH σ3 d x1 r h) dX0_graceFor_48 ⟨Nat.le_of_ble_eq_true rfl, Nat.le_of_ble_eq_true rfl⟩ (Nat.le_of_ble_eq_true rfl) (fun r4 => ?_)
      refine jj_aload_n hk (pc := 51) dX0_graceFor_51 0 rfl rfl ?_
      refine kc_X0_0_restWorth hk hH hK (pc := 52)  (fun r h => cc_f0_restWorth l hH r4.2 N r4.1 r h) dX0_graceFor_52 ⟨Nat.le_of_ble_eq_true rfl, Nat.le_of_ble_eq_true rfl⟩ (Nat.le_of_ble_eq_true rfl) (fun r5 => ?_)
      refine jj_istore hk (pc := 55) [(6, .int r5.1), (0, .ref (ha G 0)), (1, .int x1), (2, .int x2), (3, .int x3), (4, .int x4), (5, .int x5)] dX0_graceFor_55 (Nat.le_of_ble_eq_true rfl) rfl ?_
      refine jj_iload hk (pc := 57) dX0_graceFor_57 0 rfl ?_
      refine jj_iload hk (pc := 59) dX0_graceFor_59 5 rfl ?_
      refine jj_icmp_le hk (pc := 61) 69 dX0_graceFor_61 (by decide) ?_ ?_
      · refine jj_iload_n hk (pc := 69) dX0_graceFor_69 4 rfl rfl ?_
        refine jj_istore_n hk (pc := 70) [(3, .int x3), (6, .int r5.1), (0, .ref (ha G 0)), (1, .int x1), (2, .int x2), (4, .int x4), (5, .int x5)] dX0_graceFor_70 rfl (Nat.le_of_ble_eq_true rfl) rfl ?_
        refine jj_iload hk (pc := 71) dX0_graceFor_71 5 rfl ?_
        refine jj_iload hk (pc := 73) dX0_graceFor_73 1 rfl ?_
        refine jc_max hk hH hK (pc := 75) q1010 dX0_graceFor_75 ⟨Nat.le_of_ble_eq_true rfl, Nat.le_of_ble_eq_true rfl⟩ (Nat.le_of_ble_eq_true rfl) ?_
        refine jj_istore hk (pc := 78) [(4, .int (if x4 < r5.1 then r5.1 else x4)), (3, .int x3), (6, .int r5.1), (0, .ref (ha G 0)), (1, .int x1), (2, .int x2), (5, .int x5)] dX0_graceFor_78 (Nat.le_of_ble_eq_true rfl) rfl ?_
        refine jj_iinc hk (pc := 80) [(5, .int (x5 + 1)), (4, .int (if x4 < r5.1 then r5.1 else x4)), (3, .int x3), (6, .int r5.1), (0, .ref (ha G 0)), (1, .int x1), (2, .int x2)] dX0_graceFor_80 6 rfl rfl (Nat.le_of_ble_eq_true rfl) rfl ?_
        refine jj_goto hk (pc := 83) 28 dX0_graceFor_83 (by decide) ?_
        refine jj_loc [(0, .ref (ha G 0)), (1, .int x1), (2, .int x2), (3, .int x3), (4, .int (if x4 < r5.1 then r5.1 else x4)), (5, .int (x5 + 1))] [4, 5, 6, 2, 1, 0] rfl ?_
        exact ih r5.2 r4.2 x1 x2 x3 (if x4 < r5.1 then r5.1 else x4) (x5 + 1)
      · refine jj_iload hk (pc := 64) dX0_graceFor_64 6 rfl ?_
        refine jj_goto hk (pc := 66) 70 dX0_graceFor_66 (by decide) ?_
        refine jj_istore_n hk (pc := 70) [(3, .int x5), (6, .int r5.1), (0, .ref (ha G 0)), (1, .int x1), (2, .int x2), (4, .int x4), (5, .int x5)] dX0_graceFor_70 rfl (Nat.le_of_ble_eq_true rfl) rfl ?_
        refine jj_iload hk (pc := 71) dX0_graceFor_71 5 rfl ?_
        refine jj_iload hk (pc := 73) dX0_graceFor_73 1 rfl ?_
        refine jc_max hk hH hK (pc := 75) q1010 dX0_graceFor_75 ⟨Nat.le_of_ble_eq_true rfl, Nat.le_of_ble_eq_true rfl⟩ (Nat.le_of_ble_eq_true rfl) ?_
        refine jj_istore hk (pc := 78) [(4, .int (if x4 < r5.1 then r5.1 else x4)), (3, .int x5), (6, .int r5.1), (0, .ref (ha G 0)), (1, .int x1), (2, .int x2), (5, .int x5)] dX0_graceFor_78 (Nat.le_of_ble_eq_true rfl) rfl ?_
        refine jj_iinc hk (pc := 80) [(5, .int (x5 + 1)), (4, .int (if x4 < r5.1 then r5.1 else x4)), (3, .int x5), (6, .int r5.1), (0, .ref (ha G 0)), (1, .int x1), (2, .int x2)] dX0_graceFor_80 6 rfl rfl (Nat.le_of_ble_eq_true rfl) rfl ?_
        refine jj_goto hk (pc := 83) 28 dX0_graceFor_83 (by decide) ?_
        refine jj_loc [(0, .ref (ha G 0)), (1, .int x1), (2, .int x2), (3, .int x5), (4, .int (if x4 < r5.1 then r5.1 else x4)), (5, .int (x5 + 1))] [4, 5, 6, 2, 1, 0] rfl ?_
        exact ih r5.2 r4.2 x1 x2 x5 (if x4 < r5.1 then r5.1 else x4) (x5 + 1)
set_option maxHeartbeats 4000000 in
theorem cc_f0_graceFor (l : Launch) {G : cG} {KK : State → Prop} (hH : cH G KK) (N : Nat) (σ : SS) (d : DS) (a0 : Int32) (res : (Int32 × SS × DS)) (hf : f0_graceFor N σ d a0 = some res) : jM l yX0_graceFor (wsW_ yX0_graceFor cX0_graceFor 8 (some .int) eX0_graceFor) 487 12177 [.ref (ha G 0), .int a0] (aWo G) anx KK (σ, d) (jUa (fun x : Int32 => .int x) res) (hA G) res.2.2.2 := by
  refine jj_startH [(0, .ref (ha G 0)), (1, .int a0)] (by decide) (Nat.le_of_ble_eq_true rfl) rfl (fun p e R s m args below meth c hk hK hsz => ?_) hf
  have hk : jk p R s m args meth c res.2.2.2 cX0_graceFor 8 RX0 487 12177 (some .int) := hk
  refine ja_in ?_
  unfold f0_graceFor
  refine jj_aload_n hk (pc := 0) dX0_graceFor_0 0 rfl rfl ?_
  refine jj_iload_n hk (pc := 1) dX0_graceFor_1 1 rfl rfl ?_
  refine kc_X0_0_isPerson hk hH hK (pc := 2) (a0 := a0) (fun r h => cc_f0_isPerson l hH d σ a0 r h) dX0_graceFor_2 ⟨Nat.le_of_ble_eq_true rfl, Nat.le_of_ble_eq_true rfl⟩ (Nat.le_of_ble_eq_true rfl) (fun r1 => ?_)
  refine jj_if_ne_b hk (pc := 5) 10 dX0_graceFor_5 (by decide) ?_ ?_
  · refine jj_aload_n hk (pc := 10) dX0_graceFor_10 0 rfl rfl ?_
    refine jc_g_now hk hH hK (pc := 11) dX0_graceFor_11 ?_
    refine jc_t_grace hk hH hK (pc := 14) dX0_graceFor_14 ?_
    refine jj_iload_n hk (pc := 17) dX0_graceFor_17 1 rfl rfl ?_
    refine jc_ld (j := 1) hk hH hK (pc := 18) (by decide) dX0_graceFor_18 (fun v2 => ?_)
    refine jj_istore_n hk (pc := 19) [(2, .int v2), (0, .ref (ha G 0)), (1, .int a0)] dX0_graceFor_19 rfl (Nat.le_of_ble_eq_true rfl) rfl ?_
    refine jj_iconst hk (pc := 20) (v := (1 : Int32)) dX0_graceFor_20 (by decide) ?_
    refine jj_istore_n hk (pc := 21) [(3, .int (1 : Int32)), (2, .int v2), (0, .ref (ha G 0)), (1, .int a0)] dX0_graceFor_21 rfl (Nat.le_of_ble_eq_true rfl) rfl ?_
    refine jj_iconst hk (pc := 22) (v := (-1 : Int32)) dX0_graceFor_22 (by decide) ?_
    refine jj_istore hk (pc := 23) [(4, .int (-1 : Int32)), (3, .int (1 : Int32)), (2, .int v2), (0, .ref (ha G 0)), (1, .int a0)] dX0_graceFor_23 (Nat.le_of_ble_eq_true rfl) rfl ?_
    refine jj_iconst hk (pc := 25) (v := (1 : Int32)) dX0_graceFor_25 (by decide) ?_
    refine jj_istore hk (pc := 26) [(5, .int (1 : Int32)), (4, .int (-1 : Int32)), (3, .int (1 : Int32)), (2, .int v2), (0, .ref (ha G 0)), (1, .int a0)] dX0_graceFor_26 (Nat.le_of_ble_eq_true rfl) rfl ?_
    refine jj_loc [(0, .ref (ha G 0)), (1, .int a0), (2, .int v2), (3, .int (1 : Int32)), (4, .int (-1 : Int32)), (5, .int (1 : Int32))] [4, 5, 3, 2, 1, 0] rfl ?_
    exact wb_f0_graceFor_L28 hk hH hK N N σ d a0 v2 (1 : Int32) (-1 : Int32) (1 : Int32)
  · refine jj_iconst hk (pc := 8) (v := (-1 : Int32)) dX0_graceFor_8 (by decide) ?_
    exact ja_retUi hk (pc := 9) dX0_graceFor_9
end
section
variable {p : Program} {l : Launch} {e : Env} {R : Room} {s : State} {m : MethodId} {args : Array Value} {below : List Frame} {meth : Method} {c : Code}
variable {G : cG} {d : DS} {KK : State → Prop}
set_option maxHeartbeats 4000000 in
theorem wb_f0_strengthFor_L30 {res : (Int32 × SS)} (hk : jk p R s m args meth c d.2 cX0_strengthFor 5 RX0 487 12179 (some .int)) (hH : cH G KK) (hK : KK s) (N : Nat) : ∀ (n : Nat) (σ : SS) (x1 : Int32) (x2 : Int32), jj p l e R s m args below meth c (hA G) d.2 (jZ below args s (hA G) d.2 (jU res) (cWo G d) (cnx d)) (cWo G d) (cnx d) 5 σ 30 [(0, .ref (ha G 0)), (1, .int x1), (2, .int x2)] [] (f0_strengthFor_L30 N d n σ x1 x2 = some res) := by
  intro n
  induction n with
  | zero => intro σ x1 x2; exact jj_eq (fun hz => by rw [f0_strengthFor_L30] at hz; exact hz) jj_no
  | succ n ih =>
    intro σ x1 x2
    rw [f0_strengthFor_L30]
    refine jj_aload_n hk (pc := 30) dX0_strengthFor_30 0 rfl rfl ?_
    refine jc_g_now hk hH hK (pc := 31) dX0_strengthFor_31 ?_
    refine jc_t_strength hk hH hK (pc := 34) dX0_strengthFor_34 ?_
    refine jj_iload_n hk (pc := 37) dX0_strengthFor_37 1 rfl rfl ?_
    refine jc_ld (j := 2) hk hH hK (pc := 38) (by decide) dX0_strengthFor_38 (fun v1 => ?_)
    refine jj_bipush hk (pc := 39) (v := (9 : Int32)) dX0_strengthFor_39 (by decide) ?_
    refine jj_icmp_gt hk (pc := 41) 93 dX0_strengthFor_41 (by decide) ?_ ?_
    · refine jj_bipush hk (pc := 93) (v := (-3 : Int32)) dX0_strengthFor_93 (by decide) ?_
      refine jj_istore_n hk (pc := 95) [(3, .int (-3 : Int32)), (0, .ref (ha G 0)), (1, .int x1), (2, .int x2)] dX0_strengthFor_95 rfl (Nat.le_of_ble_eq_true rfl) rfl ?_
      refine jj_aload_n hk (pc := 96) dX0_strengthFor_96 1 rfl rfl ?_
      refine jc_g_now hk hH hK (pc := 97) dX0_strengthFor_97 ?_
      refine jc_t_strength hk hH hK (pc := 100) dX0_strengthFor_100 ?_
      refine jj_iload_n hk (pc := 103) dX0_strengthFor_103 2 rfl rfl ?_
      refine jj_iload_n hk (pc := 104) dX0_strengthFor_104 3 rfl rfl ?_
      refine jc_st (j := 2) hk hH hK (pc := 105) (by decide) dX0_strengthFor_105 (fun σ2 => ?_)
      refine jj_iload_n hk (pc := 106) dX0_strengthFor_106 0 rfl rfl ?_
      exact jc_retUi hk (pc := 107) dX0_strengthFor_107
    · refine jj_aload_n hk (pc := 44) dX0_strengthFor_44 0 rfl rfl ?_
      refine kc_X0_0_lateSet hk hH hK (pc := 45)  (fun r h => cc_f0_lateSet l hH d N σ r h) dX0_strengthFor_45 ⟨Nat.le_of_ble_eq_true rfl, Nat.le_of_ble_eq_true rfl⟩ (Nat.le_of_ble_eq_true rfl) (fun r3 => ?_)
      refine jj_iload_n hk (pc := 48) dX0_strengthFor_48 1 rfl rfl ?_
      refine jj_ishr hk (pc := 49) dX0_strengthFor_49 ?_
      refine jj_iconst hk (pc := 50) (v := (1 : Int32)) dX0_strengthFor_50 (by decide) ?_
      refine jj_iand hk (pc := 51) dX0_strengthFor_51 ?_
      refine jj_if_ne hk (pc := 52) 77 dX0_strengthFor_52 (by decide) ?_ ?_
      · refine jj_aload_n hk (pc := 77) dX0_strengthFor_77 0 rfl rfl ?_
        refine jc_g_now hk hH hK (pc := 78) dX0_strengthFor_78 ?_
        refine jc_t_strength hk hH hK (pc := 81) dX0_strengthFor_81 ?_
        refine jj_iload_n hk (pc := 84) dX0_strengthFor_84 1 rfl rfl ?_
        refine jj_dup2 hk (pc := 85) dX0_strengthFor_85 rfl rfl ?_
        refine jc_ld (j := 2) hk hH hK (pc := 86) (by decide) dX0_strengthFor_86 (fun v4 => ?_)
        refine jj_iconst hk (pc := 87) (v := (1 : Int32)) dX0_strengthFor_87 (by decide) ?_
        refine jj_iadd hk (pc := 88) dX0_strengthFor_88 ?_
        refine jc_st (j := 2) hk hH hK (pc := 89) (by decide) dX0_strengthFor_89 (fun σ5 => ?_)
        refine jj_goto hk (pc := 90) 30 dX0_strengthFor_90 (by decide) ?_
        refine jj_loc [(0, .ref (ha G 0)), (1, .int x1), (2, .int x2)] [0, 1, 2] rfl ?_
        exact ih σ5 x1 x2
      · refine jj_aload_n hk (pc := 55) dX0_strengthFor_55 0 rfl rfl ?_
        refine jc_g_now hk hH hK (pc := 56) dX0_strengthFor_56 ?_
        refine jc_t_strength hk hH hK (pc := 59) dX0_strengthFor_59 ?_
        refine jj_iload_n hk (pc := 62) dX0_strengthFor_62 1 rfl rfl ?_
        refine jc_ld (j := 2) hk hH hK (pc := 63) (by decide) dX0_strengthFor_63 (fun v6 => ?_)
        refine jj_istore_n hk (pc := 64) [(3, .int v6), (0, .ref (ha G 0)), (1, .int x1), (2, .int x2)] dX0_strengthFor_64 rfl (Nat.le_of_ble_eq_true rfl) rfl ?_
        refine jj_aload_n hk (pc := 65) dX0_strengthFor_65 1 rfl rfl ?_
        refine jc_g_now hk hH hK (pc := 66) dX0_strengthFor_66 ?_
        refine jc_t_strength hk hH hK (pc := 69) dX0_strengthFor_69 ?_
        refine jj_iload_n hk (pc := 72) dX0_strengthFor_72 2 rfl rfl ?_
        refine jj_iload_n hk (pc := 73) dX0_strengthFor_73 3 rfl rfl ?_
        refine jc_st (j := 2) hk hH hK (pc := 74) (by decide) dX0_strengthFor_74 (fun σ7 => ?_)
        refine jj_iload_n hk (pc := 75) dX0_strengthFor_75 0 rfl rfl ?_
        exact jc_retUi hk (pc := 76) dX0_strengthFor_76
set_option maxHeartbeats 4000000 in
theorem cc_f0_strengthFor (l : Launch) {G : cG} {KK : State → Prop} (hH : cH G KK) (d : DS) (N : Nat) (σ : SS) (a0 : Int32) (res : (Int32 × SS)) (hf : f0_strengthFor N d σ a0 = some res) : jM l yX0_strengthFor (wsW_ yX0_strengthFor cX0_strengthFor 5 (some .int) eX0_strengthFor) 487 12179 [.ref (ha G 0), .int a0] (cWo G d) (cnx d) KK σ (jU res) (hA G) d.2 := by
  refine jj_startH [(0, .ref (ha G 0)), (1, .int a0)] (by decide) (Nat.le_of_ble_eq_true rfl) rfl (fun p e R s m args below meth c hk hK hsz => ?_) hf
  have hk : jk p R s m args meth c d.2 cX0_strengthFor 5 RX0 487 12179 (some .int) := hk
  unfold f0_strengthFor
  refine jj_aload_n hk (pc := 0) dX0_strengthFor_0 0 rfl rfl ?_
  refine jj_iload_n hk (pc := 1) dX0_strengthFor_1 1 rfl rfl ?_
  refine kc_X0_0_isPerson hk hH hK (pc := 2) (a0 := a0) (fun r h => cc_f0_isPerson l hH d σ a0 r h) dX0_strengthFor_2 ⟨Nat.le_of_ble_eq_true rfl, Nat.le_of_ble_eq_true rfl⟩ (Nat.le_of_ble_eq_true rfl) (fun r1 => ?_)
  refine jj_if_ne_b hk (pc := 5) 10 dX0_strengthFor_5 (by decide) ?_ ?_
  · refine jj_aload_n hk (pc := 10) dX0_strengthFor_10 0 rfl rfl ?_
    refine jc_g_now hk hH hK (pc := 11) dX0_strengthFor_11 ?_
    refine jc_t_strength hk hH hK (pc := 14) dX0_strengthFor_14 ?_
    refine jj_iload_n hk (pc := 17) dX0_strengthFor_17 1 rfl rfl ?_
    refine jc_ld (j := 2) hk hH hK (pc := 18) (by decide) dX0_strengthFor_18 (fun v2 => ?_)
    refine jj_istore_n hk (pc := 19) [(2, .int v2), (0, .ref (ha G 0)), (1, .int a0)] dX0_strengthFor_19 rfl (Nat.le_of_ble_eq_true rfl) rfl ?_
    refine jj_aload_n hk (pc := 20) dX0_strengthFor_20 1 rfl rfl ?_
    refine jc_g_now hk hH hK (pc := 21) dX0_strengthFor_21 ?_
    refine jc_t_strength hk hH hK (pc := 24) dX0_strengthFor_24 ?_
    refine jj_iload_n hk (pc := 27) dX0_strengthFor_27 2 rfl rfl ?_
    refine jj_iconst hk (pc := 28) (v := (1 : Int32)) dX0_strengthFor_28 (by decide) ?_
    refine jc_st (j := 2) hk hH hK (pc := 29) (by decide) dX0_strengthFor_29 (fun σ3 => ?_)
    refine jj_loc [(0, .ref (ha G 0)), (1, .int a0), (2, .int v2)] [1, 2, 0] rfl ?_
    exact wb_f0_strengthFor_L30 hk hH hK N N σ3 a0 v2
  · refine jj_iconst hk (pc := 8) (v := (-1 : Int32)) dX0_strengthFor_8 (by decide) ?_
    exact jc_retUi hk (pc := 9) dX0_strengthFor_9
end
section
variable {p : Program} {l : Launch} {e : Env} {R : Room} {s : State} {m : MethodId} {args : Array Value} {below : List Frame} {meth : Method} {c : Code}
variable {G : cG} {d : DS} {KK : State → Prop}
set_option maxHeartbeats 4000000 in
theorem wb_f0_often_L48 {res : (Int32 × SS)} (hk : jk p R s m args meth c d.2 cX0_often 8 RX0 488 12196 (some .int)) (hH : cH G KK) (hK : KK s) (N : Nat) : ∀ (n : Nat) (σ : SS) (x1 : Int32) (x2 : Int32) (x3 : Int32) (x4 : Int32) (x5 : Int32), jj p l e R s m args below meth c (hA G) d.2 (jZ below args s (hA G) d.2 (jU res) (cWo G d) (cnx d)) (cWo G d) (cnx d) 8 σ 48 [(0, .ref (ha G 0)), (1, .int x1), (2, .int x2), (3, .int x3), (4, .int x4), (5, .int x5)] [] (f0_often_L48 N d n σ x1 x2 x3 x4 x5 = some res) := by
  intro n
  induction n with
  | zero => intro σ x1 x2 x3 x4 x5; exact jj_eq (fun hz => by rw [f0_often_L48] at hz; exact hz) jj_no
  | succ n ih =>
    intro σ x1 x2 x3 x4 x5
    rw [f0_often_L48]
    refine jj_iload hk (pc := 48) dX0_often_48 5 rfl ?_
    refine jj_iload_n hk (pc := 50) dX0_often_50 1 rfl rfl ?_
    refine jj_icmp_ge hk (pc := 51) 107 dX0_often_51 (by decide) ?_ ?_
    · refine jj_iload_n hk (pc := 107) dX0_often_107 3 rfl rfl ?_
      refine jj_istore hk (pc := 108) [(5, .int x3), (0, .ref (ha G 0)), (1, .int x1), (2, .int x2), (3, .int x3), (4, .int x4)] dX0_often_108 (Nat.le_of_ble_eq_true rfl) rfl ?_
      refine jj_aload_n hk (pc := 110) dX0_often_110 1 rfl rfl ?_
      refine jc_g_now hk hH hK (pc := 111) dX0_often_111 ?_
      refine jj_aload_n hk (pc := 114) dX0_often_114 1 rfl rfl ?_
      refine jc_g_tried hk hH hK (pc := 115) dX0_often_115 ?_
      refine kc_X0_3_become hk hH hK (pc := 118) (t0 := 0) (t1 := 2) (fun r h => cc_f3_become l hH d σ 0 2 (by decide) (by decide) r h) (by decide) (by decide) dX0_often_118 ⟨Nat.le_of_ble_eq_true rfl, Nat.le_of_ble_eq_true rfl⟩ (Nat.le_of_ble_eq_true rfl) (fun r1 => ?_)
      refine jj_iload hk (pc := 121) dX0_often_121 0 rfl ?_
      exact jc_retUi hk (pc := 123) dX0_often_123
    · refine jj_aload_n hk (pc := 54) dX0_often_54 0 rfl rfl ?_
      refine jc_g_now hk hH hK (pc := 55) dX0_often_55 ?_
      refine jj_aload_n hk (pc := 58) dX0_often_58 0 rfl rfl ?_
      refine jc_g_tried hk hH hK (pc := 59) dX0_often_59 ?_
      refine kc_X0_3_become hk hH hK (pc := 62) (t0 := 0) (t1 := 2) (fun r h => cc_f3_become l hH d σ 0 2 (by decide) (by decide) r h) (by decide) (by decide) dX0_often_62 ⟨Nat.le_of_ble_eq_true rfl, Nat.le_of_ble_eq_true rfl⟩ (Nat.le_of_ble_eq_true rfl) (fun r2 => ?_)
      refine jj_aload_n hk (pc := 65) dX0_often_65 0 rfl rfl ?_
      refine jc_g_now hk hH hK (pc := 66) dX0_often_66 ?_
      refine jj_iload hk (pc := 69) dX0_often_69 4 rfl ?_
      refine jc_tp_z hk hH hK (pc := 71) dX0_often_71 (fun σ3 => ?_)
      refine jj_aload_n hk (pc := 74) dX0_often_74 0 rfl rfl ?_
      refine kc_X0_0_drawnAll hk hH hK (pc := 75)  (fun r h => cc_f0_drawnAll l hH d N σ3 r h) dX0_often_75 ⟨Nat.le_of_ble_eq_true rfl, Nat.le_of_ble_eq_true rfl⟩ (Nat.le_of_ble_eq_true rfl) (fun r4 => ?_)
      refine jj_istore hk (pc := 78) [(6, .int r4.1), (0, .ref (ha G 0)), (1, .int x1), (2, .int x2), (3, .int x3), (4, .int x4), (5, .int x5)] dX0_often_78 (Nat.le_of_ble_eq_true rfl) rfl ?_
      refine jj_aload_n hk (pc := 80) dX0_often_80 1 rfl rfl ?_
      refine jc_g_now hk hH hK (pc := 81) dX0_often_81 ?_
      refine jc_t_z hk hH hK (pc := 84) dX0_often_84 ?_
      refine jj_istore hk (pc := 87) [(4, .int (r4.2.1 6)), (6, .int r4.1), (0, .ref (ha G 0)), (1, .int x1), (2, .int x2), (3, .int x3), (5, .int x5)] dX0_often_87 (Nat.le_of_ble_eq_true rfl) rfl ?_
      refine jj_iload hk (pc := 89) dX0_often_89 1 rfl ?_
      refine jj_iload_n hk (pc := 91) dX0_often_91 4 rfl rfl ?_
      refine jj_icmp_ge hk (pc := 92) 98 dX0_often_92 (by decide) ?_ ?_
      · refine jj_iinc hk (pc := 98) [(3, .int (x3 + 1)), (4, .int (r4.2.1 6)), (6, .int r4.1), (0, .ref (ha G 0)), (1, .int x1), (2, .int x2), (5, .int x5)] dX0_often_98 5 rfl rfl (Nat.le_of_ble_eq_true rfl) rfl ?_
        refine jj_iinc hk (pc := 101) [(5, .int (x5 + 1)), (3, .int (x3 + 1)), (4, .int (r4.2.1 6)), (6, .int r4.1), (0, .ref (ha G 0)), (1, .int x1), (2, .int x2)] dX0_often_101 6 rfl rfl (Nat.le_of_ble_eq_true rfl) rfl ?_
        refine jj_goto hk (pc := 104) 48 dX0_often_104 (by decide) ?_
        refine jj_loc [(0, .ref (ha G 0)), (1, .int x1), (2, .int x2), (3, .int (x3 + 1)), (4, .int (r4.2.1 6)), (5, .int (x5 + 1))] [4, 5, 6, 1, 2, 0] rfl ?_
        exact ih r4.2 x1 x2 (x3 + 1) (r4.2.1 6) (x5 + 1)
      · refine jj_goto hk (pc := 95) 101 dX0_often_95 (by decide) ?_
        refine jj_iinc hk (pc := 101) [(5, .int (x5 + 1)), (4, .int (r4.2.1 6)), (6, .int r4.1), (0, .ref (ha G 0)), (1, .int x1), (2, .int x2), (3, .int x3)] dX0_often_101 6 rfl rfl (Nat.le_of_ble_eq_true rfl) rfl ?_
        refine jj_goto hk (pc := 104) 48 dX0_often_104 (by decide) ?_
        refine jj_loc [(0, .ref (ha G 0)), (1, .int x1), (2, .int x2), (3, .int x3), (4, .int (r4.2.1 6)), (5, .int (x5 + 1))] [3, 4, 5, 6, 1, 0] rfl ?_
        exact ih r4.2 x1 x2 x3 (r4.2.1 6) (x5 + 1)
set_option maxHeartbeats 4000000 in
theorem cc_f0_often (l : Launch) {G : cG} {KK : State → Prop} (hH : cH G KK) (d : DS) (N : Nat) (σ : SS) (a0 : Int32) (a1 : Int32) (res : (Int32 × SS)) (hf : f0_often N d σ a0 a1 = some res) : jM l yX0_often (wsW_ yX0_often cX0_often 8 (some .int) eX0_often) 488 12196 [.ref (ha G 0), .int a0, .int a1] (cWo G d) (cnx d) KK σ (jU res) (hA G) d.2 := by
  refine jj_startH [(0, .ref (ha G 0)), (1, .int a0), (2, .int a1)] (by decide) (Nat.le_of_ble_eq_true rfl) rfl (fun p e R s m args below meth c hk hK hsz => ?_) hf
  have hk : jk p R s m args meth c d.2 cX0_often 8 RX0 488 12196 (some .int) := hk
  unfold f0_often
  refine jj_iload_n hk (pc := 0) dX0_often_0 1 rfl rfl ?_
  refine jj_iconst hk (pc := 1) (v := (1 : Int32)) dX0_often_1 (by decide) ?_
  refine jj_bipush hk (pc := 2) (v := (40 : Int32)) dX0_often_2 (by decide) ?_
  refine kc_X0_0_isIn hk hH hK (pc := 4) (a0 := a0) (a1 := (1 : Int32)) (a2 := (40 : Int32)) (fun r h => cc_f0_isIn l hH d σ a0 (1 : Int32) (40 : Int32) r h) dX0_often_4 ⟨Nat.le_of_ble_eq_true rfl, Nat.le_of_ble_eq_true rfl⟩ (Nat.le_of_ble_eq_true rfl) (fun r1 => ?_)
  refine jj_if_eq_b hk (pc := 7) 21 dX0_often_7 (by decide) ?_ ?_
  · refine jj_iconst hk (pc := 21) (v := (-1 : Int32)) dX0_often_21 (by decide) ?_
    exact jc_retUi hk (pc := 22) dX0_often_22
  · refine jj_iload_n hk (pc := 10) dX0_often_10 2 rfl rfl ?_
    refine jj_iconst hk (pc := 11) (v := (0 : Int32)) dX0_often_11 (by decide) ?_
    refine jj_sipush hk (pc := 12) (v := (999 : Int32)) dX0_often_12 (by decide) ?_
    refine kc_X0_0_isIn hk hH hK (pc := 15) (a0 := a1) (a1 := (0 : Int32)) (a2 := (999 : Int32)) (fun r h => cc_f0_isIn l hH d σ a1 (0 : Int32) (999 : Int32) r h) dX0_often_15 ⟨Nat.le_of_ble_eq_true rfl, Nat.le_of_ble_eq_true rfl⟩ (Nat.le_of_ble_eq_true rfl) (fun r2 => ?_)
    refine jj_if_ne_b hk (pc := 18) 23 dX0_often_18 (by decide) ?_ ?_
    · refine jj_aload_n hk (pc := 23) dX0_often_23 0 rfl rfl ?_
      refine jc_g_tried hk hH hK (pc := 24) dX0_often_24 ?_
      refine jj_aload_n hk (pc := 27) dX0_often_27 0 rfl rfl ?_
      refine jc_g_now hk hH hK (pc := 28) dX0_often_28 ?_
      refine kc_X0_3_become hk hH hK (pc := 31) (t0 := 2) (t1 := 0) (fun r h => cc_f3_become l hH d σ 2 0 (by decide) (by decide) r h) (by decide) (by decide) dX0_often_31 ⟨Nat.le_of_ble_eq_true rfl, Nat.le_of_ble_eq_true rfl⟩ (Nat.le_of_ble_eq_true rfl) (fun r3 => ?_)
      refine jj_iconst hk (pc := 34) (v := (0 : Int32)) dX0_often_34 (by decide) ?_
      refine jj_istore_n hk (pc := 35) [(3, .int (0 : Int32)), (0, .ref (ha G 0)), (1, .int a0), (2, .int a1)] dX0_often_35 rfl (Nat.le_of_ble_eq_true rfl) rfl ?_
      refine jj_aload_n hk (pc := 36) dX0_often_36 1 rfl rfl ?_
      refine jc_g_now hk hH hK (pc := 37) dX0_often_37 ?_
      refine jc_t_z hk hH hK (pc := 40) dX0_often_40 ?_
      refine jj_istore hk (pc := 43) [(4, .int (r3.1 6)), (3, .int (0 : Int32)), (0, .ref (ha G 0)), (1, .int a0), (2, .int a1)] dX0_often_43 (Nat.le_of_ble_eq_true rfl) rfl ?_
      refine jj_iconst hk (pc := 45) (v := (0 : Int32)) dX0_often_45 (by decide) ?_
      refine jj_istore hk (pc := 46) [(5, .int (0 : Int32)), (4, .int (r3.1 6)), (3, .int (0 : Int32)), (0, .ref (ha G 0)), (1, .int a0), (2, .int a1)] dX0_often_46 (Nat.le_of_ble_eq_true rfl) rfl ?_
      refine jj_loc [(0, .ref (ha G 0)), (1, .int a0), (2, .int a1), (3, .int (0 : Int32)), (4, .int (r3.1 6)), (5, .int (0 : Int32))] [3, 4, 5, 2, 1, 0] rfl ?_
      exact wb_f0_often_L48 hk hH hK N N r3 a0 a1 (0 : Int32) (r3.1 6) (0 : Int32)
    · refine jj_iconst hk (pc := 21) (v := (-1 : Int32)) dX0_often_21 (by decide) ?_
      exact jc_retUi hk (pc := 22) dX0_often_22
end
section
variable {p : Program} {l : Launch} {e : Env} {R : Room} {s : State} {m : MethodId} {args : Array Value} {below : List Frame} {meth : Method} {c : Code}
variable {G : cG} {d : DS} {KK : State → Prop}
set_option maxHeartbeats 4000000 in
theorem wb_f0_judge_L15 {res : (Int32 × SS)} (hk : jk p R s m args meth c d.2 cX0_judge 6 RX0 485 12133 (some .int)) (hH : cH G KK) (hK : KK s) (N : Nat) : ∀ (n : Nat) (σ : SS) (x1 : Bool) (x2 : Int32), jj p l e R s m args below meth c (hA G) d.2 (jZ below args s (hA G) d.2 (jU res) (cWo G d) (cnx d)) (cWo G d) (cnx d) 6 σ 15 [(0, .ref (ha G 0)), (1, .int (bI x1)), (2, .int x2)] [] (f0_judge_L15 N d n σ x1 x2 = some res) := by
  intro n
  induction n with
  | zero => intro σ x1 x2; exact jj_eq (fun hz => by rw [f0_judge_L15] at hz; exact hz) jj_no
  | succ n ih =>
    intro σ x1 x2
    rw [f0_judge_L15]
    refine jj_iload_n hk (pc := 15) dX0_judge_15 2 rfl rfl ?_
    refine jj_aload_n hk (pc := 16) dX0_judge_16 0 rfl rfl ?_
    refine jc_g_rowMany hk hH hK (pc := 17) dX0_judge_17 ?_
    refine jj_icmp_ge hk (pc := 20) 110 dX0_judge_20 (by decide) ?_ ?_
    · refine jj_iload_n hk (pc := 110) dX0_judge_110 1 rfl rfl ?_
      refine jj_istore_n hk (pc := 111) [(2, .int (bI x1)), (0, .ref (ha G 0)), (1, .int (bI x1))] dX0_judge_111 rfl (Nat.le_of_ble_eq_true rfl) rfl ?_
      refine jj_aload_n hk (pc := 112) dX0_judge_112 1 rfl rfl ?_
      refine jc_g_now hk hH hK (pc := 113) dX0_judge_113 ?_
      refine jj_aload_n hk (pc := 116) dX0_judge_116 1 rfl rfl ?_
      refine jc_g_tried hk hH hK (pc := 117) dX0_judge_117 ?_
      refine kc_X0_3_become hk hH hK (pc := 120) (t0 := 0) (t1 := 2) (fun r h => cc_f3_become l hH d σ 0 2 (by decide) (by decide) r h) (by decide) (by decide) dX0_judge_120 ⟨Nat.le_of_ble_eq_true rfl, Nat.le_of_ble_eq_true rfl⟩ (Nat.le_of_ble_eq_true rfl) (fun r1 => ?_)
      refine jj_iload_n hk (pc := 123) dX0_judge_123 0 rfl rfl ?_
      exact jc_retUi hk (pc := 124) dX0_judge_124
    · refine jj_iload_n hk (pc := 23) dX0_judge_23 2 rfl rfl ?_
      refine jj_iconst hk (pc := 24) (v := (1 : Int32)) dX0_judge_24 (by decide) ?_
      refine jj_iadd hk (pc := 25) dX0_judge_25 ?_
      refine jj_istore_n hk (pc := 26) [(1, .int (x2 + (1 : Int32))), (0, .ref (ha G 0)), (2, .int x2)] dX0_judge_26 rfl (Nat.le_of_ble_eq_true rfl) rfl ?_
      refine jj_aload_n hk (pc := 27) dX0_judge_27 1 rfl rfl ?_
      refine jc_g_rows hk hH hK (pc := 28) dX0_judge_28 ?_
      refine jj_iconst hk (pc := 31) (v := (3 : Int32)) dX0_judge_31 (by decide) ?_
      refine jj_iload_n hk (pc := 32) dX0_judge_32 2 rfl rfl ?_
      refine jj_imul hk (pc := 33) dX0_judge_33 ?_
      refine jc_ld (j := 44) hk hH hK (pc := 34) (by decide) dX0_judge_34 (fun v2 => ?_)
      refine jj_istore_n hk (pc := 35) [(3, .int v2), (1, .int (x2 + (1 : Int32))), (0, .ref (ha G 0)), (2, .int x2)] dX0_judge_35 rfl (Nat.le_of_ble_eq_true rfl) rfl ?_
      refine jj_aload_n hk (pc := 36) dX0_judge_36 2 rfl rfl ?_
      refine jj_iload_n hk (pc := 37) dX0_judge_37 0 rfl rfl ?_
      refine kc_X0_0_isAct hk hH hK (pc := 38) (a0 := v2) (fun r h => cc_f0_isAct l hH d σ v2 r h) dX0_judge_38 ⟨Nat.le_of_ble_eq_true rfl, Nat.le_of_ble_eq_true rfl⟩ (Nat.le_of_ble_eq_true rfl) (fun r3 => ?_)
      refine jj_if_eq_b hk (pc := 41) 110 dX0_judge_41 (by decide) ?_ ?_
      · refine jj_iload_n hk (pc := 110) dX0_judge_110 1 rfl rfl ?_
        refine jj_istore_n hk (pc := 111) [(2, .int (x2 + (1 : Int32))), (3, .int v2), (1, .int (x2 + (1 : Int32))), (0, .ref (ha G 0))] dX0_judge_111 rfl (Nat.le_of_ble_eq_true rfl) rfl ?_
        refine jj_aload_n hk (pc := 112) dX0_judge_112 3 rfl rfl ?_
        refine jc_g_now hk hH hK (pc := 113) dX0_judge_113 ?_
        refine jj_aload_n hk (pc := 116) dX0_judge_116 3 rfl rfl ?_
        refine jc_g_tried hk hH hK (pc := 117) dX0_judge_117 ?_
        refine kc_X0_3_become hk hH hK (pc := 120) (t0 := 0) (t1 := 2) (fun r h => cc_f3_become l hH d σ 0 2 (by decide) (by decide) r h) (by decide) (by decide) dX0_judge_120 ⟨Nat.le_of_ble_eq_true rfl, Nat.le_of_ble_eq_true rfl⟩ (Nat.le_of_ble_eq_true rfl) (fun r4 => ?_)
        refine jj_iload_n hk (pc := 123) dX0_judge_123 0 rfl rfl ?_
        exact jc_retUi hk (pc := 124) dX0_judge_124
      · refine jj_aload_n hk (pc := 44) dX0_judge_44 2 rfl rfl ?_
        refine jc_g_now hk hH hK (pc := 45) dX0_judge_45 ?_
        refine kc_X0_3_isOver hk hH hK (pc := 48) (t0 := 0) (fun r h => cc_f3_isOver l hH d σ 0 (by decide) r h) (by decide) dX0_judge_48 ⟨Nat.le_of_ble_eq_true rfl, Nat.le_of_ble_eq_true rfl⟩ (Nat.le_of_ble_eq_true rfl) (fun r5 => ?_)
        refine jj_if_eq_b hk (pc := 51) 57 dX0_judge_51 (by decide) ?_ ?_
        · refine jj_aload_n hk (pc := 57) dX0_judge_57 2 rfl rfl ?_
          refine jj_iload_n hk (pc := 58) dX0_judge_58 0 rfl rfl ?_
          refine jj_iconst hk (pc := 59) (v := (1 : Int32)) dX0_judge_59 (by decide) ?_
          refine jj_isub hk (pc := 60) dX0_judge_60 ?_
          refine kc_X0_0_passes hk hH hK (pc := 61) (a0 := (v2 - (1 : Int32))) (fun r h => cc_f0_passes l hH d N σ (v2 - (1 : Int32)) r h) dX0_judge_61 ⟨Nat.le_of_ble_eq_true rfl, Nat.le_of_ble_eq_true rfl⟩ (Nat.le_of_ble_eq_true rfl) (fun r6 => ?_)
          refine jj_istore hk (pc := 64) [(4, .int r6.1), (3, .int v2), (1, .int (x2 + (1 : Int32))), (0, .ref (ha G 0)), (2, .int x2)] dX0_judge_64 (Nat.le_of_ble_eq_true rfl) rfl ?_
          refine jj_aload_n hk (pc := 66) dX0_judge_66 3 rfl rfl ?_
          refine jc_g_rows hk hH hK (pc := 67) dX0_judge_67 ?_
          refine jj_iconst hk (pc := 70) (v := (3 : Int32)) dX0_judge_70 (by decide) ?_
          refine jj_iload_n hk (pc := 71) dX0_judge_71 4 rfl rfl ?_
          refine jj_imul hk (pc := 72) dX0_judge_72 ?_
          refine jj_iconst hk (pc := 73) (v := (1 : Int32)) dX0_judge_73 (by decide) ?_
          refine jj_iadd hk (pc := 74) dX0_judge_74 ?_
          refine jc_ld (j := 44) hk hH hK (pc := 75) (by decide) dX0_judge_75 (fun v7 => ?_)
          refine jj_iload hk (pc := 76) dX0_judge_76 0 rfl ?_
          refine jj_icmp_ne hk (pc := 78) 110 dX0_judge_78 (by decide) ?_ ?_
          · refine jj_iload_n hk (pc := 110) dX0_judge_110 2 rfl rfl ?_
            refine jj_istore_n hk (pc := 111) [(2, .int (x2 + (1 : Int32))), (4, .int r6.1), (3, .int v2), (1, .int (x2 + (1 : Int32))), (0, .ref (ha G 0))] dX0_judge_111 rfl (Nat.le_of_ble_eq_true rfl) rfl ?_
            refine jj_aload_n hk (pc := 112) dX0_judge_112 4 rfl rfl ?_
            refine jc_g_now hk hH hK (pc := 113) dX0_judge_113 ?_
            refine jj_aload_n hk (pc := 116) dX0_judge_116 4 rfl rfl ?_
            refine jc_g_tried hk hH hK (pc := 117) dX0_judge_117 ?_
            refine kc_X0_3_become hk hH hK (pc := 120) (t0 := 0) (t1 := 2) (fun r h => cc_f3_become l hH d r6.2 0 2 (by decide) (by decide) r h) (by decide) (by decide) dX0_judge_120 ⟨Nat.le_of_ble_eq_true rfl, Nat.le_of_ble_eq_true rfl⟩ (Nat.le_of_ble_eq_true rfl) (fun r8 => ?_)
            refine jj_iload_n hk (pc := 123) dX0_judge_123 0 rfl rfl ?_
            exact jc_retUi hk (pc := 124) dX0_judge_124
          · refine jj_aload_n hk (pc := 81) dX0_judge_81 3 rfl rfl ?_
            refine jc_g_rows hk hH hK (pc := 82) dX0_judge_82 ?_
            refine jj_iconst hk (pc := 85) (v := (3 : Int32)) dX0_judge_85 (by decide) ?_
            refine jj_iload_n hk (pc := 86) dX0_judge_86 4 rfl rfl ?_
            refine jj_imul hk (pc := 87) dX0_judge_87 ?_
            refine jj_iconst hk (pc := 88) (v := (2 : Int32)) dX0_judge_88 (by decide) ?_
            refine jj_iadd hk (pc := 89) dX0_judge_89 ?_
            refine jc_ld (j := 44) hk hH hK (pc := 90) (by decide) dX0_judge_90 (fun v9 => ?_)
            refine jj_aload_n hk (pc := 91) dX0_judge_91 3 rfl rfl ?_
            refine jj_iconst hk (pc := 92) (v := (1 : Int32)) dX0_judge_92 (by decide) ?_
            refine kc_X0_0_setOf hk hH hK (pc := 93) (a0 := (1 : Int32)) (fun r h => cc_f0_setOf l hH d N r6.2 (1 : Int32) r h) dX0_judge_93 ⟨Nat.le_of_ble_eq_true rfl, Nat.le_of_ble_eq_true rfl⟩ (Nat.le_of_ble_eq_true rfl) (fun r10 => ?_)
            refine jj_icmp_eq hk (pc := 96) 102 dX0_judge_96 (by decide) ?_ ?_
            · refine jj_iconst hk (pc := 102) (v := (0 : Int32)) dX0_judge_102 (by decide) ?_
              refine jj_istore_n hk (pc := 103) [(1, .int (0 : Int32)), (4, .int r6.1), (3, .int v2), (0, .ref (ha G 0)), (2, .int x2)] dX0_judge_103 rfl (Nat.le_of_ble_eq_true rfl) rfl ?_
              refine jj_iinc hk (pc := 104) [(2, .int (x2 + 1)), (1, .int (0 : Int32)), (4, .int r6.1), (3, .int v2), (0, .ref (ha G 0))] dX0_judge_104 4 rfl rfl (Nat.le_of_ble_eq_true rfl) rfl ?_
              refine jj_goto hk (pc := 107) 15 dX0_judge_107 (by decide) ?_
              refine jj_loc [(0, .ref (ha G 0)), (1, .int (bI false)), (2, .int (x2 + 1))] [4, 1, 0] rfl ?_
              exact ih r6.2 false (x2 + 1)
            · refine jj_goto hk (pc := 99) 110 dX0_judge_99 (by decide) ?_
              refine jj_iload_n hk (pc := 110) dX0_judge_110 2 rfl rfl ?_
              refine jj_istore_n hk (pc := 111) [(2, .int (x2 + (1 : Int32))), (4, .int r6.1), (3, .int v2), (1, .int (x2 + (1 : Int32))), (0, .ref (ha G 0))] dX0_judge_111 rfl (Nat.le_of_ble_eq_true rfl) rfl ?_
              refine jj_aload_n hk (pc := 112) dX0_judge_112 4 rfl rfl ?_
              refine jc_g_now hk hH hK (pc := 113) dX0_judge_113 ?_
              refine jj_aload_n hk (pc := 116) dX0_judge_116 4 rfl rfl ?_
              refine jc_g_tried hk hH hK (pc := 117) dX0_judge_117 ?_
              refine kc_X0_3_become hk hH hK (pc := 120) (t0 := 0) (t1 := 2) (fun r h => cc_f3_become l hH d r6.2 0 2 (by decide) (by decide) r h) (by decide) (by decide) dX0_judge_120 ⟨Nat.le_of_ble_eq_true rfl, Nat.le_of_ble_eq_true rfl⟩ (Nat.le_of_ble_eq_true rfl) (fun r11 => ?_)
              refine jj_iload_n hk (pc := 123) dX0_judge_123 0 rfl rfl ?_
              exact jc_retUi hk (pc := 124) dX0_judge_124
        · refine jj_goto hk (pc := 54) 110 dX0_judge_54 (by decide) ?_
          refine jj_iload_n hk (pc := 110) dX0_judge_110 1 rfl rfl ?_
          refine jj_istore_n hk (pc := 111) [(2, .int (x2 + (1 : Int32))), (3, .int v2), (1, .int (x2 + (1 : Int32))), (0, .ref (ha G 0))] dX0_judge_111 rfl (Nat.le_of_ble_eq_true rfl) rfl ?_
          refine jj_aload_n hk (pc := 112) dX0_judge_112 3 rfl rfl ?_
          refine jc_g_now hk hH hK (pc := 113) dX0_judge_113 ?_
          refine jj_aload_n hk (pc := 116) dX0_judge_116 3 rfl rfl ?_
          refine jc_g_tried hk hH hK (pc := 117) dX0_judge_117 ?_
          refine kc_X0_3_become hk hH hK (pc := 120) (t0 := 0) (t1 := 2) (fun r h => cc_f3_become l hH d σ 0 2 (by decide) (by decide) r h) (by decide) (by decide) dX0_judge_120 ⟨Nat.le_of_ble_eq_true rfl, Nat.le_of_ble_eq_true rfl⟩ (Nat.le_of_ble_eq_true rfl) (fun r12 => ?_)
          refine jj_iload_n hk (pc := 123) dX0_judge_123 0 rfl rfl ?_
          exact jc_retUi hk (pc := 124) dX0_judge_124
set_option maxHeartbeats 4000000 in
theorem cc_f0_judge (l : Launch) {G : cG} {KK : State → Prop} (hH : cH G KK) (d : DS) (N : Nat) (σ : SS)  (res : (Int32 × SS)) (hf : f0_judge N d σ = some res) : jM l yX0_judge (wsW_ yX0_judge cX0_judge 6 (some .int) eX0_judge) 485 12133 [.ref (ha G 0)] (cWo G d) (cnx d) KK σ (jU res) (hA G) d.2 := by
  refine jj_startH [(0, .ref (ha G 0))] (by decide) (Nat.le_of_ble_eq_true rfl) rfl (fun p e R s m args below meth c hk hK hsz => ?_) hf
  have hk : jk p R s m args meth c d.2 cX0_judge 6 RX0 485 12133 (some .int) := hk
  unfold f0_judge
  refine jj_aload_n hk (pc := 0) dX0_judge_0 0 rfl rfl ?_
  refine jc_g_tried hk hH hK (pc := 1) dX0_judge_1 ?_
  refine jj_aload_n hk (pc := 4) dX0_judge_4 0 rfl rfl ?_
  refine jc_g_now hk hH hK (pc := 5) dX0_judge_5 ?_
  refine kc_X0_3_become hk hH hK (pc := 8) (t0 := 2) (t1 := 0) (fun r h => cc_f3_become l hH d σ 2 0 (by decide) (by decide) r h) (by decide) (by decide) dX0_judge_8 ⟨Nat.le_of_ble_eq_true rfl, Nat.le_of_ble_eq_true rfl⟩ (Nat.le_of_ble_eq_true rfl) (fun r1 => ?_)
  refine jj_iconst hk (pc := 11) (v := (0 : Int32)) dX0_judge_11 (by decide) ?_
  refine jj_istore_n hk (pc := 12) [(1, .int (0 : Int32)), (0, .ref (ha G 0))] dX0_judge_12 rfl (Nat.le_of_ble_eq_true rfl) rfl ?_
  refine jj_iconst hk (pc := 13) (v := (0 : Int32)) dX0_judge_13 (by decide) ?_
  refine jj_istore_n hk (pc := 14) [(2, .int (0 : Int32)), (1, .int (0 : Int32)), (0, .ref (ha G 0))] dX0_judge_14 rfl (Nat.le_of_ble_eq_true rfl) rfl ?_
  refine jj_loc [(0, .ref (ha G 0)), (1, .int (bI false)), (2, .int (0 : Int32))] [2, 1, 0] rfl ?_
  exact wb_f0_judge_L15 hk hH hK N N r1 false (0 : Int32)
end
