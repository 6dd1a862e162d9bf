/-! THE COMPONENT's METHODS that read texts or throw, printed by gen/gen4.py -/
set_option maxRecDepth 100000
def f0_isName_L20 (N : Nat) (σ : SS)  : Nat → Nat → Int32 → Option Bool
  | 0, _, _ => none
  | n + 1, x1, x2 => (sLen x1).bind fun v1 => (if v1 ≤ x2 then some true else (ldC σ 46 ((σ.1 42) + x2)).bind fun v2 => (sCh x1 x2).bind fun v3 => (if v2 = v3 then f0_isName_L20 N σ n x1 (x2 + 1) else some false))
def f0_isName (N : Nat) (σ : SS) (a0 : Nat) : Option Bool := (sLen a0).bind fun v1 => (if ((σ.1 43) - (σ.1 42)) = v1 then f0_isName_L20 N σ N a0 (0 : Int32) else some false)
def f0_goesOn (N : Nat) (σ : SS) (a0 : Nat) : Option (Bool × SS) := (f0_isName N σ a0).bind fun r1 => (if r1 = true then (f0_next N σ).bind fun r2 => some (true, r2) else some (false, σ))
def f0_nameOf_L5 (N : Nat)  : Nat → SS → Nat → Int32 → Option (Int32 × SS)
  | 0, _, _, _ => none
  | n + 1, σ, x1, x2 => (if x2 < 0 then (if x2 < 0 then some (x2, σ) else (f0_next N σ).bind fun r1 => some (x2, r1)) else (wLd x1 x2).bind fun i2 => (f0_isName N σ i2).bind fun r3 => (if r3 = true then (if x2 < 0 then some (x2, σ) else (f0_next N σ).bind fun r4 => some (x2, r4)) else f0_nameOf_L5 N n σ x1 (x2 + (-1))))
def f0_nameOf (N : Nat) (σ : SS) (a0 : Nat) : Option (Int32 × SS) := (wLen a0).bind fun v1 => f0_nameOf_L5 N N σ a0 (v1 - (1 : Int32))
def f0_must (σ : SS) (d : DS) (a0 : Bool) (a1 : Int32) : Option (XR (SS × DS)) := (if a0 = true then some (Sum.inr (σ, d)) else (some (sI σ 71 a1)).bind fun σ1 => some (Sum.inl (1, σ1, d)))
def f0_want (N : Nat) (σ : SS) (d : DS) (a0 : Nat) : Option (XR (SS × DS)) := (f0_goesOn N σ a0).bind fun r1 => (if r1.1 = true then some (Sum.inr (r1.2, d)) else (some (sI r1.2 72 (r1.2.1 42))).bind fun σ2 => some (Sum.inl (2, σ2, d)))
def f0_figure_L47 (N : Nat)  : Nat → SS → DS → Int32 → Int32 → Option (XR (Int32 × SS × DS))
  | 0, _, _, _, _ => none
  | n + 1, σ, d, x2, x3 => (if (σ.1 43) ≤ x3 then (f0_next N σ).bind fun r1 => some (Sum.inr (x2, r1, d)) else (ldC σ 46 x3).bind fun v2 => f0_figure_L47 N n σ d ((((10 : Int32) * x2) + v2) - (48 : Int32)) (x3 + 1))
def f0_figure (N : Nat) (σ : SS) (d : DS) : Option (XR (Int32 × SS × DS)) := (if ((σ.1 43) - (σ.1 42)) < (1 : Int32) then (some (sI σ 72 (σ.1 42))).bind fun σ1 => some (Sum.inl (2, σ1, d)) else (if (4 : Int32) < ((σ.1 43) - (σ.1 42)) then (some (sI σ 72 (σ.1 42))).bind fun σ2 => some (Sum.inl (2, σ2, d)) else (ldC σ 46 (σ.1 42)).bind fun v3 => (f0_isDigit v3).bind fun r4 => (if r4 = true then f0_figure_L47 N N σ d (0 : Int32) (σ.1 42) else (some (sI σ 72 (σ.1 42))).bind fun σ5 => some (Sum.inl (2, σ5, d)))))
def f0_value (N : Nat) (σ : SS) (d : DS) : Option (XR (Nat × SS × DS)) := (f0_nameOf N σ 2).bind fun r1 => (if r1.1 < 0 then (some (dNew d 16 [.int 0, .int 0])).bind fun d2 => xb xnA d2 (f0_figure N r1.2 d2) fun r3 => (dMonV r3.2.2 (f15_init r3.2.1 r3.2.2 d.2 (-1 : Int32) r3.1)).bind fun r4 => some (Sum.inr (d.2, r4.1, r4.2)) else (some (dNew d 16 [.int 0, .int 0])).bind fun d5 => (dMonV d5 (f15_init r1.2 d5 d.2 r1.1 (0 : Int32))).bind fun r6 => some (Sum.inr (d.2, r6.1, r6.2)))
def f0_all_L6 (N : Nat) (k_oneOf : SS → DS → Int32 → Option (XR (Nat × SS × DS)))  : Nat → SS → DS → Int32 → Nat → Option (XR (Nat × SS × DS))
  | 0, _, _, _, _ => none
  | n + 1, σ, d, x1, x2 => (f0_goesOn N σ 17).bind fun r1 => (if r1.1 = true then (some (dNew d 14 [.null, .null])).bind fun d2 => xb xnA d2 (k_oneOf r1.2 d2 x1) fun r3 => (dMonV r3.2.2 (f17_init r3.2.1 r3.2.2 d.2 x2 r3.1)).bind fun r4 => f0_all_L6 N k_oneOf n r4.1 r4.2 x1 d.2 else some (Sum.inr (x2, r1.2, d)))
def f0_all (N : Nat) (k_oneOf : SS → DS → Int32 → Option (XR (Nat × SS × DS))) (σ : SS) (d : DS) (a0 : Int32) : Option (XR (Nat × SS × DS)) := xb xnA d (k_oneOf σ d a0) fun r1 => f0_all_L6 N k_oneOf N r1.2.1 r1.2.2 a0 r1.1
def f0_cond_L6 (N : Nat) (k_oneOf : SS → DS → Int32 → Option (XR (Nat × SS × DS)))  : Nat → SS → DS → Int32 → Nat → Option (XR (Nat × SS × DS))
  | 0, _, _, _, _ => none
  | n + 1, σ, d, x1, x2 => (f0_goesOn N σ 18).bind fun r1 => (if r1.1 = true then (some (dNew d 15 [.null, .null])).bind fun d2 => xb xnA d2 (f0_all N k_oneOf r1.2 d2 x1) fun r3 => (dMonV r3.2.2 (f18_init r3.2.1 r3.2.2 d.2 x2 r3.1)).bind fun r4 => f0_cond_L6 N k_oneOf n r4.1 r4.2 x1 d.2 else some (Sum.inr (x2, r1.2, d)))
def f0_cond (N : Nat) (k_oneOf : SS → DS → Int32 → Option (XR (Nat × SS × DS))) (σ : SS) (d : DS) (a0 : Int32) : Option (XR (Nat × SS × DS)) := xb xnA d (f0_all N k_oneOf σ d a0) fun r1 => f0_cond_L6 N k_oneOf N r1.2.1 r1.2.2 a0 r1.1
def f0_oneOf_B86 (N : Nat) (k_oneOf : SS → DS → Int32 → Option (XR (Nat × SS × DS)))  (σ : SS) (d : DS) (x2 : Nat) (y0 : Int32) : Option (XR (Nat × SS × DS)) := (if y0 = (60 : Int32) then (f0_next N σ).bind fun r1 => (some (dNew d 13 [.null, .null, .int 0])).bind fun d2 => xb xnA d2 (f0_value N r1 d2) fun r3 => (dMonV r3.2.2 (f16_init r3.2.1 r3.2.2 d.2 x2 y0 r3.1)).bind fun r4 => some (Sum.inr (d.2, r4.1, r4.2)) else (if y0 = (61 : Int32) then (f0_next N σ).bind fun r5 => (some (dNew d 13 [.null, .null, .int 0])).bind fun d6 => xb xnA d6 (f0_value N r5 d6) fun r7 => (dMonV r7.2.2 (f16_init r7.2.1 r7.2.2 d.2 x2 y0 r7.1)).bind fun r8 => some (Sum.inr (d.2, r8.1, r8.2)) else (if y0 = (62 : Int32) then (f0_next N σ).bind fun r9 => (some (dNew d 13 [.null, .null, .int 0])).bind fun d10 => xb xnA d10 (f0_value N r9 d10) fun r11 => (dMonV r11.2.2 (f16_init r11.2.1 r11.2.2 d.2 x2 y0 r11.1)).bind fun r12 => some (Sum.inr (d.2, r12.1, r12.2)) else (some (sI σ 72 (σ.1 42))).bind fun σ13 => some (Sum.inl (2, σ13, d)))))
def f0_oneOf (N : Nat) : Nat → SS → DS → Int32 → Option (XR (Nat × SS × DS))
  | 0, _, _, _ => none
  | D + 1, σ, d, a0 => (f0_goesOn N σ 14).bind fun r1 => (if r1.1 = true then (some (dNew d 12 [.null])).bind fun d9 => xb xnA d9 ((f0_oneOf N D) r1.2 d9 a0) fun r10 => (dMonV r10.2.2 (f14_init r10.2.1 r10.2.2 d.2 r10.1)).bind fun r11 => some (Sum.inr (d.2, r11.1, r11.2)) else (if (3 : Int32) ≤ a0 then xb xnA d (f0_value N r1.2 d) fun r2 => (if ((r2.2.1.1 43) - (r2.2.1.1 42)) = (1 : Int32) then (ldC r2.2.1 46 (r2.2.1.1 42)).bind fun v3 => f0_oneOf_B86 N (f0_oneOf N D) r2.2.1 r2.2.2 r2.1 v3 else f0_oneOf_B86 N (f0_oneOf N D) r2.2.1 r2.2.2 r2.1 (-1 : Int32)) else (f0_goesOn N r1.2 15).bind fun r4 => (if r4.1 = true then xb xnA d (f0_cond N (f0_oneOf N D) r4.2 d (a0 + (1 : Int32))) fun r7 => xb xnV r7.2.2 (f0_want N r7.2.1 r7.2.2 16) fun r8 => some (Sum.inr (r7.1, r8.1, r8.2)) else xb xnA d (f0_value N r4.2 d) fun r5 => (if ((r5.2.1.1 43) - (r5.2.1.1 42)) = (1 : Int32) then (ldC r5.2.1 46 (r5.2.1.1 42)).bind fun v6 => f0_oneOf_B86 N (f0_oneOf N D) r5.2.1 r5.2.2 r5.1 v6 else f0_oneOf_B86 N (f0_oneOf N D) r5.2.1 r5.2.2 r5.1 (-1 : Int32)))))
def f0_upTo (N : Nat) (σ : SS) (d : DS) (a0 : Int32) : Option (XR (Int32 × SS × DS)) := xb xnA d (f0_figure N σ d) fun r1 => (if r1.1 ≤ a0 then some (Sum.inr (r1.1, r1.2.1, r1.2.2)) else (some (sI r1.2.1 72 (σ.1 42))).bind fun σ2 => some (Sum.inl (2, σ2, r1.2.2)))
def f0_rule_B37 (N : Nat)  (σ : SS) (d : DS) (x1 : Int32) (y0 : Option Nat) : Option (XR (Nat × SS × DS)) := (f0_nameOf N σ 1).bind fun r1 => (if 0 ≤ r1.1 then (if r1.1 = (2 : Int32) then xb xnV d (f0_want N r1.2 d 20) fun r6 => (some (dNew r6.2 17 [.int 0, .int 0, .int 0, .null])).bind fun d7 => (dMonV d7 (f19_init r6.1 d7 r6.2.2 x1 y0 r1.1 (0 : Int32))).bind fun r8 => some (Sum.inr (r6.2.2, r8.1, r8.2)) else xb xnA d (f0_upTo N r1.2 d (99 : Int32)) fun r2 => xb xnV r2.2.2 (f0_want N r2.2.1 r2.2.2 20) fun r3 => (some (dNew r3.2 17 [.int 0, .int 0, .int 0, .null])).bind fun d4 => (dMonV d4 (f19_init r3.1 d4 r3.2.2 x1 y0 r1.1 r2.1)).bind fun r5 => some (Sum.inr (r3.2.2, r5.1, r5.2))) else (some (sI r1.2 72 (r1.2.1 42))).bind fun σ9 => some (Sum.inl (2, σ9, d)))
def f0_rule (N : Nat) (σ : SS) (d : DS) : Option (XR (Nat × SS × DS)) := (f0_nameOf N σ 0).bind fun r1 => (if 0 ≤ r1.1 then (f0_goesOn N r1.2 19).bind fun r2 => (if r2.1 = true then xb xnA d (f0_cond N (f0_oneOf N 72) r2.2 d (0 : Int32)) fun r3 => f0_rule_B37 N r3.2.1 r3.2.2 r1.1 (some r3.1) else f0_rule_B37 N r2.2 d r1.1 none) else (some (sI r1.2 72 (r1.2.1 42))).bind fun σ4 => some (Sum.inl (2, σ4, d)))
section
variable {p : Program} {l : Launch} {e : Env} {R : Room} {s : State} {m : MethodId} {args : Array Value} {below : List Frame} {meth : Method} {c : Code}
variable {G : cG} {d : DS} {KK : State → Prop}
variable {NX : Nat} {Q : State → Prop} {nL : Nat} {cc : ByteArray} {fr lo frc loc : Nat} {ret : Option FieldType}
variable {pc : Nat} {σ : SS} {lv : List (Nat × Value)} {st : List Value} {ρ : Type} {res : ρ}
theorem kc_X0_0_goesOn (hk : jk p R s m args meth c NX cc nL RX0 fr lo ret) (hH : cH G KK) (hK : KK s) {a0 : Nat} {F : Option (Bool × SS)} {K : (Bool × SS) → Option ρ} (hM : ∀ r, F = some r → jM l yX0_goesOn (ws_ yX0_goesOn cX0_goesOn 2 (some .boolean)) frc loc [.ref (ha G 0), .ref (hs G a0)] (cWo G d) (cnx d) KK σ (jUz r) (hA G) d.2)  (hd : decode cc pc = .ok (.invokevirtual 258, 3)) (hr : frc + 1 ≤ fr ∧ 8 + (2 + 11) + loc ≤ lo) (hw : (st.map fun v => v.category).sum ≤ 8) (kk : ∀ r, jj p l e R s m args below meth c (hA G) NX Q (cWo G d) (cnx d) nL r.2 (pc + 3) lv (.int (bI r.1) :: st) (K r = some res)) : jj p l e R s m args below meth c (hA G) NX Q (cWo G d) (cnx d) nL σ pc lv (.ref (hs G a0) :: .ref (ha G 0) :: st) (F.bind K = some res) :=
  jc_VUz (n := 1) hk hH hK [.ref (hs G a0)] hM (lw_V q805 q807 qs15 q118 q808) (cRv_at (q := (RX0, TX0, 32)) (ci := 1) (q0 := 0) hH hK rfl rfl) (by decide +kernel) rfl rfl hd hr hw kk
theorem kc_X0_0_isName (hk : jk p R s m args meth c NX cc nL RX0 fr lo ret) (hH : cH G KK) (hK : KK s) {a0 : Nat} {F : Option Bool} {K : Bool → Option ρ} (hM : ∀ r, F = some r → jM l yX0_isName (ws_ yX0_isName cX0_isName 3 (some .boolean)) frc loc [.ref (ha G 0), .ref (hs G a0)] (cWo G d) (cnx d) KK σ (jRz σ r) (hA G) d.2)  (hd : decode cc pc = .ok (.invokevirtual 251, 3)) (hr : frc + 1 ≤ fr ∧ 8 + (3 + 11) + loc ≤ lo) (hw : (st.map fun v => v.category).sum ≤ 8) (kk : ∀ r, jj p l e R s m args below meth c (hA G) NX Q (cWo G d) (cnx d) nL σ (pc + 3) lv (.int (bI r) :: st) (K r = some res)) : jj p l e R s m args below meth c (hA G) NX Q (cWo G d) (cnx d) nL σ pc lv (.ref (hs G a0) :: .ref (ha G 0) :: st) (F.bind K = some res) :=
  jc_VRz (n := 1) hk hH hK [.ref (hs G a0)] hM (lw_V q752 q754 qs14 q118 q755) (cRv_at (q := (RX0, TX0, 32)) (ci := 1) (q0 := 0) hH hK rfl rfl) (by decide +kernel) rfl rfl hd hr hw kk
theorem kc_X0_0_nameOf (hk : jk p R s m args meth c NX cc nL RX0 fr lo ret) (hH : cH G KK) (hK : KK s) {a0 : Nat} {F : Option (Int32 × SS)} {K : (Int32 × SS) → Option ρ} (hM : ∀ r, F = some r → jM l yX0_nameOf (ws_ yX0_nameOf cX0_nameOf 3 (some .int)) frc loc [.ref (ha G 0), .ref (ha G (64 + a0))] (cWo G d) (cnx d) KK σ (jU r) (hA G) d.2)  (hd : decode cc pc = .ok (.invokevirtual 265, 3)) (hr : frc + 1 ≤ fr ∧ 8 + (3 + 11) + loc ≤ lo) (hw : (st.map fun v => v.category).sum ≤ 8) (kk : ∀ r, jj p l e R s m args below meth c (hA G) NX Q (cWo G d) (cnx d) nL r.2 (pc + 3) lv (.int r.1 :: st) (K r = some res)) : jj p l e R s m args below meth c (hA G) NX Q (cWo G d) (cnx d) nL σ pc lv (.ref (ha G (64 + a0)) :: .ref (ha G 0) :: st) (F.bind K = some res) :=
  jc_VUi (n := 1) hk hH hK [.ref (ha G (64 + a0))] hM (lw_V q748 q750 qs13 q118 q751) (cRv_at (q := (RX0, TX0, 32)) (ci := 1) (q0 := 0) hH hK rfl rfl) (by decide +kernel) rfl rfl hd hr hw kk
theorem kc_X0_0_next (hk : jk p R s m args meth c NX cc nL RX0 fr lo ret) (hH : cH G KK) (hK : KK s)  {F : Option SS} {K : SS → Option ρ} (hM : ∀ r, F = some r → jM l yX0_next (ws_ yX0_next cX0_next 4 none) frc loc [.ref (ha G 0)] (cWo G d) (cnx d) KK σ (jV r) (hA G) d.2)  (hd : decode cc pc = .ok (.invokevirtual 255, 3)) (hr : frc + 1 ≤ fr ∧ 8 + (4 + 11) + loc ≤ lo) (hw : (st.map fun v => v.category).sum ≤ 8) (kk : ∀ r, jj p l e R s m args below meth c (hA G) NX Q (cWo G d) (cnx d) nL r (pc + 3) lv st (K r = some res)) : jj p l e R s m args below meth c (hA G) NX Q (cWo G d) (cnx d) nL σ pc lv (.ref (ha G 0) :: st) (F.bind K = some res) :=
  jc_VV (n := 0) hk hH hK [] hM (lw_V q724 q726 qs10 q118 q727) (cRv_at (q := (RX0, TX0, 32)) (ci := 1) (q0 := 0) hH hK rfl rfl) (by decide +kernel) rfl rfl hd hr hw kk
theorem kc_X0_14_init (hk : jk p R s m args meth c NX cc nL RX0 fr lo ret) (hH : cH G KK) (hK : KK s) {q0 : Nat} {a0 : Nat} {F : Option (SS × DS)} {K : (SS × DS) → Option ρ} (hM : ∀ r, F = some r → jM l yX14_init (ws_ yX14_init cX14_init 2 none) frc loc [.ref q0, .ref a0] (aWo G) anx KK (σ, d) (jVa r) (hA G) r.2.2) (hd : decode cc pc = .ok (.invokespecial 283, 3)) (hr : frc + 1 ≤ fr ∧ 8 + (2 + 11) + loc ≤ lo) (hw : (st.map fun v => v.category).sum ≤ 8) (kk : ∀ r, jj p l e R s m args below meth c (hA G) NX Q (cWo G r.2) (cnx r.2) nL r.1 (pc + 3) lv st (K r = some res)) : jj p l e R s m args below meth c (hA G) NX Q (cWo G d) (cnx d) nL σ pc lv (.ref a0 :: .ref q0 :: st) ((dMonV d F).bind K = some res) :=
  ja_I (n := 1) hk hH hK [.ref a0] hM q826 q139 q824 q825 rfl (by decide +kernel) rfl rfl hd hr hw kk
theorem kc_X0_15_init (hk : jk p R s m args meth c NX cc nL RX0 fr lo ret) (hH : cH G KK) (hK : KK s) {q0 : Nat} {a0 : Int32} {a1 : Int32} {F : Option (SS × DS)} {K : (SS × DS) → Option ρ} (hM : ∀ r, F = some r → jM l yX15_init (ws_ yX15_init cX15_init 3 none) frc loc [.ref q0, .int a0, .int a1] (aWo G) anx KK (σ, d) (jVa r) (hA G) r.2.2) (hd : decode cc pc = .ok (.invokespecial 271, 3)) (hr : frc + 1 ≤ fr ∧ 8 + (3 + 11) + loc ≤ lo) (hw : (st.map fun v => v.category).sum ≤ 8) (kk : ∀ r, jj p l e R s m args below meth c (hA G) NX Q (cWo G r.2) (cnx r.2) nL r.1 (pc + 3) lv st (K r = some res)) : jj p l e R s m args below meth c (hA G) NX Q (cWo G d) (cnx d) nL σ pc lv (.int a1 :: .int a0 :: .ref q0 :: st) ((dMonV d F).bind K = some res) :=
  ja_I (n := 2) hk hH hK [.int a0, .int a1] hM q849 q140 q847 q848 rfl (by decide +kernel) rfl rfl hd hr hw kk
theorem kc_X0_16_init (hk : jk p R s m args meth c NX cc nL RX0 fr lo ret) (hH : cH G KK) (hK : KK s) {q0 : Nat} {a0 : Nat} {a1 : Int32} {a2 : Nat} {F : Option (SS × DS)} {K : (SS × DS) → Option ρ} (hM : ∀ r, F = some r → jM l yX16_init (ws_ yX16_init cX16_init 4 none) frc loc [.ref q0, .ref a0, .int a1, .ref a2] (aWo G) anx KK (σ, d) (jVa r) (hA G) r.2.2) (hd : decode cc pc = .ok (.invokespecial 303, 3)) (hr : frc + 1 ≤ fr ∧ 8 + (4 + 11) + loc ≤ lo) (hw : (st.map fun v => v.category).sum ≤ 8) (kk : ∀ r, jj p l e R s m args below meth c (hA G) NX Q (cWo G r.2) (cnx r.2) nL r.1 (pc + 3) lv st (K r = some res)) : jj p l e R s m args below meth c (hA G) NX Q (cWo G d) (cnx d) nL σ pc lv (.ref a2 :: .int a1 :: .ref a0 :: .ref q0 :: st) ((dMonV d F).bind K = some res) :=
  ja_I (n := 3) hk hH hK [.ref a0, .int a1, .ref a2] hM q866 q141 q864 q865 rfl (by decide +kernel) rfl rfl hd hr hw kk
theorem kc_X0_17_init (hk : jk p R s m args meth c NX cc nL RX0 fr lo ret) (hH : cH G KK) (hK : KK s) {q0 : Nat} {a0 : Nat} {a1 : Nat} {F : Option (SS × DS)} {K : (SS × DS) → Option ρ} (hM : ∀ r, F = some r → jM l yX17_init (ws_ yX17_init cX17_init 3 none) frc loc [.ref q0, .ref a0, .ref a1] (aWo G) anx KK (σ, d) (jVa r) (hA G) r.2.2) (hd : decode cc pc = .ok (.invokespecial 310, 3)) (hr : frc + 1 ≤ fr ∧ 8 + (3 + 11) + loc ≤ lo) (hw : (st.map fun v => v.category).sum ≤ 8) (kk : ∀ r, jj p l e R s m args below meth c (hA G) NX Q (cWo G r.2) (cnx r.2) nL r.1 (pc + 3) lv st (K r = some res)) : jj p l e R s m args below meth c (hA G) NX Q (cWo G d) (cnx d) nL σ pc lv (.ref a1 :: .ref a0 :: .ref q0 :: st) ((dMonV d F).bind K = some res) :=
  ja_I (n := 2) hk hH hK [.ref a0, .ref a1] hM q883 q142 q881 q882 rfl (by decide +kernel) rfl rfl hd hr hw kk
theorem kc_X0_18_init (hk : jk p R s m args meth c NX cc nL RX0 fr lo ret) (hH : cH G KK) (hK : KK s) {q0 : Nat} {a0 : Nat} {a1 : Nat} {F : Option (SS × DS)} {K : (SS × DS) → Option ρ} (hM : ∀ r, F = some r → jM l yX18_init (ws_ yX18_init cX18_init 3 none) frc loc [.ref q0, .ref a0, .ref a1] (aWo G) anx KK (σ, d) (jVa r) (hA G) r.2.2) (hd : decode cc pc = .ok (.invokespecial 320, 3)) (hr : frc + 1 ≤ fr ∧ 8 + (3 + 11) + loc ≤ lo) (hw : (st.map fun v => v.category).sum ≤ 8) (kk : ∀ r, jj p l e R s m args below meth c (hA G) NX Q (cWo G r.2) (cnx r.2) nL r.1 (pc + 3) lv st (K r = some res)) : jj p l e R s m args below meth c (hA G) NX Q (cWo G d) (cnx d) nL σ pc lv (.ref a1 :: .ref a0 :: .ref q0 :: st) ((dMonV d F).bind K = some res) :=
  ja_I (n := 2) hk hH hK [.ref a0, .ref a1] hM q901 q143 q899 q900 rfl (by decide +kernel) rfl rfl hd hr hw kk
theorem kc_X0_19_init (hk : jk p R s m args meth c NX cc nL RX0 fr lo ret) (hH : cH G KK) (hK : KK s) {q0 : Nat} {a0 : Int32} {a1 : Option Nat} {a2 : Int32} {a3 : Int32} {F : Option (SS × DS)} {K : (SS × DS) → Option ρ} (hM : ∀ r, F = some r → jM l yX19_init (ws_ yX19_init cX19_init 5 none) frc loc [.ref q0, .int a0, va_rf a1, .int a2, .int a3] (aWo G) anx KK (σ, d) (jVa r) (hA G) r.2.2) (hd : decode cc pc = .ok (.invokespecial 330, 3)) (hr : frc + 1 ≤ fr ∧ 8 + (5 + 11) + loc ≤ lo) (hw : (st.map fun v => v.category).sum ≤ 8) (kk : ∀ r, jj p l e R s m args below meth c (hA G) NX Q (cWo G r.2) (cnx r.2) nL r.1 (pc + 3) lv st (K r = some res)) : jj p l e R s m args below meth c (hA G) NX Q (cWo G d) (cnx d) nL σ pc lv (.int a3 :: .int a2 :: va_rf a1 :: .int a0 :: .ref q0 :: st) ((dMonV d F).bind K = some res) :=
  ja_I (n := 4) hk hH hK [.int a0, va_rf a1, .int a2, .int a3] hM q914 q144 q912 q913 rfl (by decide +kernel) rfl rfl hd hr hw kk
end
section
variable {p : Program} {l : Launch} {e : Env} {R : Room} {s : State} {m : MethodId} {args : Array Value} {below : List Frame} {meth : Method} {c : Code}
variable {G : cG} {d : DS} {KK : State → Prop}
variable {NX : Nat} {nL : Nat} {cc : ByteArray} {fr lo frc loc : Nat} {ret : Option FieldType}
variable {pc : Nat} {σ : SS} {lv : List (Nat × Value)} {st : List Value} {τ : Type} {nf : τ → Nat} {Ψ : τ → Outcome → SS × DS → Prop} {res : XR τ}
theorem kx_X0_0_all (hk : jk p R s m args meth c (xnx nf res) cc nL RX0 fr lo ret) (hH : cH G KK) (hK : KK s) (ht : ∀ x ∈ c.exceptionTable.toList, False) {a0 : Int32} {F : Option (XR (Nat × SS × DS))} {K : (Nat × SS × DS) → Option (XR τ)} (hM : ∀ r, F = some r → jMX l yX0_all (ws_ yX0_all cX0_all 3 (some (.object "LeftUndoes$Cond"))) frc loc [.ref (ha G 0), .int a0] G KK (σ, d) xnA (jUa (fun x : Nat => .ref x)) r) (hd : decode cc pc = .ok (.invokevirtual 313, 3)) (hr : frc + 1 ≤ fr ∧ 8 + (3 + 11) + loc ≤ lo) (hw : (st.map fun v => v.category).sum ≤ 8) (kk : ∀ r : (Nat × SS × DS), jj p l e R s m args below meth c (hA G) (xnx nf res) (jZX below args s G nf Ψ res) (cWo G r.2.2) (cnx r.2.2) nL r.2.1 (pc + 3) lv (.ref r.1 :: st) (K r = some res)) : jj p l e R s m args below meth c (hA G) (xnx nf res) (jZX below args s G nf Ψ res) (cWo G d) (cnx d) nL σ pc lv (.int a0 :: .ref (ha G 0) :: st) (xb xnA d F K = some res) :=
  jx_VUa (n := 1) hk hH hK ht [.int a0] hM (lw_V q813 q815 qs17 q118 q816) (cRv_at (q := (RX0, TX0, 32)) (ci := 1) (q0 := 0) hH hK rfl rfl) (by decide +kernel) rfl rfl hd hr hw kk
theorem kx_X0_0_cond (hk : jk p R s m args meth c (xnx nf res) cc nL RX0 fr lo ret) (hH : cH G KK) (hK : KK s) (ht : ∀ x ∈ c.exceptionTable.toList, False) {a0 : Int32} {F : Option (XR (Nat × SS × DS))} {K : (Nat × SS × DS) → Option (XR τ)} (hM : ∀ r, F = some r → jMX l yX0_cond (ws_ yX0_cond cX0_cond 3 (some (.object "LeftUndoes$Cond"))) frc loc [.ref (ha G 0), .int a0] G KK (σ, d) xnA (jUa (fun x : Nat => .ref x)) r) (hd : decode cc pc = .ok (.invokevirtual 288, 3)) (hr : frc + 1 ≤ fr ∧ 8 + (3 + 11) + loc ≤ lo) (hw : (st.map fun v => v.category).sum ≤ 8) (kk : ∀ r : (Nat × SS × DS), jj p l e R s m args below meth c (hA G) (xnx nf res) (jZX below args s G nf Ψ res) (cWo G r.2.2) (cnx r.2.2) nL r.2.1 (pc + 3) lv (.ref r.1 :: st) (K r = some res)) : jj p l e R s m args below meth c (hA G) (xnx nf res) (jZX below args s G nf Ψ res) (cWo G d) (cnx d) nL σ pc lv (.int a0 :: .ref (ha G 0) :: st) (xb xnA d F K = some res) :=
  jx_VUa (n := 1) hk hH hK ht [.int a0] hM (lw_V q809 q811 qs16 q118 q812) (cRv_at (q := (RX0, TX0, 32)) (ci := 1) (q0 := 0) hH hK rfl rfl) (by decide +kernel) rfl rfl hd hr hw kk
theorem kx_X0_0_figure (hk : jk p R s m args meth c (xnx nf res) cc nL RX0 fr lo ret) (hH : cH G KK) (hK : KK s) (ht : ∀ x ∈ c.exceptionTable.toList, False)  {F : Option (XR (Int32 × SS × DS))} {K : (Int32 × SS × DS) → Option (XR τ)} (hM : ∀ r, F = some r → jMX l yX0_figure (ws_ yX0_figure cX0_figure 4 (some .int)) frc loc [.ref (ha G 0)] G KK (σ, d) xnA (jUa (fun x : Int32 => .int x)) r) (hd : decode cc pc = .ok (.invokevirtual 272, 3)) (hr : frc + 1 ≤ fr ∧ 8 + (4 + 11) + loc ≤ lo) (hw : (st.map fun v => v.category).sum ≤ 8) (kk : ∀ r : (Int32 × SS × DS), jj p l e R s m args below meth c (hA G) (xnx nf res) (jZX below args s G nf Ψ res) (cWo G r.2.2) (cnx r.2.2) nL r.2.1 (pc + 3) lv (.int r.1 :: st) (K r = some res)) : jj p l e R s m args below meth c (hA G) (xnx nf res) (jZX below args s G nf Ψ res) (cWo G d) (cnx d) nL σ pc lv (.ref (ha G 0) :: st) (xb xnA d F K = some res) :=
  jx_VUi (n := 0) hk hH hK ht [] hM (lw_V q858 q860 qs21 q118 q861) (cRv_at (q := (RX0, TX0, 32)) (ci := 1) (q0 := 0) hH hK rfl rfl) (by decide +kernel) rfl rfl hd hr hw kk
theorem kx_X0_0_oneOf (hk : jk p R s m args meth c (xnx nf res) cc nL RX0 fr lo ret) (hH : cH G KK) (hK : KK s) (ht : ∀ x ∈ c.exceptionTable.toList, False) {a0 : Int32} {F : Option (XR (Nat × SS × DS))} {K : (Nat × SS × DS) → Option (XR τ)} (hM : ∀ r, F = some r → jMX l yX0_oneOf (ws_ yX0_oneOf cX0_oneOf 4 (some (.object "LeftUndoes$Cond"))) frc loc [.ref (ha G 0), .int a0] G KK (σ, d) xnA (jUa (fun x : Nat => .ref x)) r) (hd : decode cc pc = .ok (.invokevirtual 279, 3)) (hr : frc + 1 ≤ fr ∧ 8 + (4 + 11) + loc ≤ lo) (hw : (st.map fun v => v.category).sum ≤ 8) (kk : ∀ r : (Nat × SS × DS), jj p l e R s m args below meth c (hA G) (xnx nf res) (jZX below args s G nf Ψ res) (cWo G r.2.2) (cnx r.2.2) nL r.2.1 (pc + 3) lv (.ref r.1 :: st) (K r = some res)) : jj p l e R s m args below meth c (hA G) (xnx nf res) (jZX below args s G nf Ψ res) (cWo G d) (cnx d) nL σ pc lv (.int a0 :: .ref (ha G 0) :: st) (xb xnA d F K = some res) :=
  jx_VUa (n := 1) hk hH hK ht [.int a0] hM (lw_V q817 q819 qs18 q118 q820) (cRv_at (q := (RX0, TX0, 32)) (ci := 1) (q0 := 0) hH hK rfl rfl) (by decide +kernel) rfl rfl hd hr hw kk
theorem kx_X0_0_upTo (hk : jk p R s m args meth c (xnx nf res) cc nL RX0 fr lo ret) (hH : cH G KK) (hK : KK s) (ht : ∀ x ∈ c.exceptionTable.toList, False) {a0 : Int32} {F : Option (XR (Int32 × SS × DS))} {K : (Int32 × SS × DS) → Option (XR τ)} (hM : ∀ r, F = some r → jMX l yX0_upTo (ws_ yX0_upTo cX0_upTo 4 (some .int)) frc loc [.ref (ha G 0), .int a0] G KK (σ, d) xnA (jUa (fun x : Int32 => .int x)) r) (hd : decode cc pc = .ok (.invokevirtual 323, 3)) (hr : frc + 1 ≤ fr ∧ 8 + (4 + 11) + loc ≤ lo) (hw : (st.map fun v => v.category).sum ≤ 8) (kk : ∀ r : (Int32 × SS × DS), jj p l e R s m args below meth c (hA G) (xnx nf res) (jZX below args s G nf Ψ res) (cWo G r.2.2) (cnx r.2.2) nL r.2.1 (pc + 3) lv (.int r.1 :: st) (K r = some res)) : jj p l e R s m args below meth c (hA G) (xnx nf res) (jZX below args s G nf Ψ res) (cWo G d) (cnx d) nL σ pc lv (.int a0 :: .ref (ha G 0) :: st) (xb xnA d F K = some res) :=
  jx_VUi (n := 1) hk hH hK ht [.int a0] hM (lw_V q906 q908 qs22 q118 q909) (cRv_at (q := (RX0, TX0, 32)) (ci := 1) (q0 := 0) hH hK rfl rfl) (by decide +kernel) rfl rfl hd hr hw kk
theorem kx_X0_0_value (hk : jk p R s m args meth c (xnx nf res) cc nL RX0 fr lo ret) (hH : cH G KK) (hK : KK s) (ht : ∀ x ∈ c.exceptionTable.toList, False)  {F : Option (XR (Nat × SS × DS))} {K : (Nat × SS × DS) → Option (XR τ)} (hM : ∀ r, F = some r → jMX l yX0_value (ws_ yX0_value cX0_value 2 (some (.object "LeftUndoes$Value"))) frc loc [.ref (ha G 0)] G KK (σ, d) xnA (jUa (fun x : Nat => .ref x)) r) (hd : decode cc pc = .ok (.invokevirtual 297, 3)) (hr : frc + 1 ≤ fr ∧ 8 + (2 + 11) + loc ≤ lo) (hw : (st.map fun v => v.category).sum ≤ 8) (kk : ∀ r : (Nat × SS × DS), jj p l e R s m args below meth c (hA G) (xnx nf res) (jZX below args s G nf Ψ res) (cWo G r.2.2) (cnx r.2.2) nL r.2.1 (pc + 3) lv (.ref r.1 :: st) (K r = some res)) : jj p l e R s m args below meth c (hA G) (xnx nf res) (jZX below args s G nf Ψ res) (cWo G d) (cnx d) nL σ pc lv (.ref (ha G 0) :: st) (xb xnA d F K = some res) :=
  jx_VUa (n := 0) hk hH hK ht [] hM (lw_V q841 q843 qs20 q118 q844) (cRv_at (q := (RX0, TX0, 32)) (ci := 1) (q0 := 0) hH hK rfl rfl) (by decide +kernel) rfl rfl hd hr hw kk
theorem kx_X0_0_want (hk : jk p R s m args meth c (xnx nf res) cc nL RX0 fr lo ret) (hH : cH G KK) (hK : KK s) (ht : ∀ x ∈ c.exceptionTable.toList, False) {a0 : Nat} {F : Option (XR (SS × DS))} {K : (SS × DS) → Option (XR τ)} (hM : ∀ r, F = some r → jMX l yX0_want (ws_ yX0_want cX0_want 2 none) frc loc [.ref (ha G 0), .ref (hs G a0)] G KK (σ, d) xnV jVa r) (hd : decode cc pc = .ok (.invokevirtual 293, 3)) (hr : frc + 1 ≤ fr ∧ 8 + (2 + 11) + loc ≤ lo) (hw : (st.map fun v => v.category).sum ≤ 8) (kk : ∀ r : (SS × DS), jj p l e R s m args below meth c (hA G) (xnx nf res) (jZX below args s G nf Ψ res) (cWo G r.2) (cnx r.2) nL r.1 (pc + 3) lv st (K r = some res)) : jj p l e R s m args below meth c (hA G) (xnx nf res) (jZX below args s G nf Ψ res) (cWo G d) (cnx d) nL σ pc lv (.ref (hs G a0) :: .ref (ha G 0) :: st) (xb xnV d F K = some res) :=
  jx_VV (n := 1) hk hH hK ht [.ref (hs G a0)] hM (lw_V q837 q839 qs19 q118 q840) (cRv_at (q := (RX0, TX0, 32)) (ci := 1) (q0 := 0) hH hK rfl rfl) (by decide +kernel) rfl rfl hd hr hw kk
end
section
variable {p : Program} {l : Launch} {e : Env} {R : Room} {s : State} {m : MethodId} {args : Array Value} {below : List Frame} {meth : Method} {c : Code}
variable {G : cG} {d : DS} {KK : State → Prop}
set_option maxHeartbeats 4000000 in
theorem wb_f0_isName_L20 {res : Bool} (hk : jk p R s m args meth c d.2 cX0_isName 3 RX0 5 190 (some .boolean)) (hH : cH G KK) (hK : KK s) (N : Nat) (σ : SS) : ∀ (n : Nat) (x1 : Nat) (x2 : Int32), jj p l e R s m args below meth c (hA G) d.2 (jZ below args s (hA G) d.2 (jRz σ res) (cWo G d) (cnx d)) (cWo G d) (cnx d) 3 σ 20 [(0, .ref (ha G 0)), (1, .ref (hs G x1)), (2, .int x2)] [] (f0_isName_L20 N σ n x1 x2 = some res) := by
  intro n
  induction n with
  | zero => intro x1 x2; exact jj_eq (fun hz => by rw [f0_isName_L20] at hz; exact hz) jj_no
  | succ n ih =>
    intro x1 x2
    rw [f0_isName_L20]
    refine jj_iload_n hk (pc := 20) dX0_isName_20 2 rfl rfl ?_
    refine jj_aload_n hk (pc := 21) dX0_isName_21 1 rfl rfl ?_
    refine kc_length hk hH hK (pc := 22) dX0_isName_22 ⟨Nat.le_of_ble_eq_true rfl, Nat.le_of_ble_eq_true rfl⟩ (Nat.le_of_ble_eq_true rfl) (fun v1 => ?_)
    refine jj_icmp_ge hk (pc := 25) 55 dX0_isName_25 (by decide) ?_ ?_
    · refine jj_iconst hk (pc := 55) (v := (1 : Int32)) dX0_isName_55 (by decide) ?_
      exact jc_retRz hk (pc := 56) (b := true) dX0_isName_56
    · refine jj_aload_n hk (pc := 28) dX0_isName_28 0 rfl rfl ?_
      refine jc_g_tape hk hH hK (pc := 29) dX0_isName_29 ?_
      refine jj_aload_n hk (pc := 32) dX0_isName_32 0 rfl rfl ?_
      refine jc_g_at hk hH hK (pc := 33) dX0_isName_33 ?_
      refine jj_iload_n hk (pc := 36) dX0_isName_36 2 rfl rfl ?_
      refine jj_iadd hk (pc := 37) dX0_isName_37 ?_
      refine jc_bld hk hH hK (pc := 38) dX0_isName_38 (fun v2 => ?_)
      refine jj_aload_n hk (pc := 39) dX0_isName_39 1 rfl rfl ?_
      refine jj_iload_n hk (pc := 40) dX0_isName_40 2 rfl rfl ?_
      refine kc_charAt hk hH hK (pc := 41) dX0_isName_41 ⟨Nat.le_of_ble_eq_true rfl, Nat.le_of_ble_eq_true rfl⟩ (Nat.le_of_ble_eq_true rfl) (fun v3 => ?_)
      refine jj_icmp_eq hk (pc := 44) 49 dX0_isName_44 (by decide) ?_ ?_
      · refine jj_iinc hk (pc := 49) [(2, .int (x2 + 1)), (0, .ref (ha G 0)), (1, .ref (hs G x1))] dX0_isName_49 2 rfl rfl (Nat.le_of_ble_eq_true rfl) rfl ?_
        refine jj_goto hk (pc := 52) 20 dX0_isName_52 (by decide) ?_
        refine jj_loc [(0, .ref (ha G 0)), (1, .ref (hs G x1)), (2, .int (x2 + 1))] [1, 2, 0] rfl ?_
        exact ih x1 (x2 + 1)
      · refine jj_iconst hk (pc := 47) (v := (0 : Int32)) dX0_isName_47 (by decide) ?_
        exact jc_retRz hk (pc := 48) (b := false) dX0_isName_48
set_option maxHeartbeats 4000000 in
theorem cc_f0_isName (l : Launch) {G : cG} {KK : State → Prop} (hH : cH G KK) (d : DS) (N : Nat) (σ : SS) (a0 : Nat) (res : Bool) (hf : f0_isName N σ a0 = some res) : jM l yX0_isName (ws_ yX0_isName cX0_isName 3 (some .boolean)) 5 190 [.ref (ha G 0), .ref (hs G a0)] (cWo G d) (cnx d) KK σ (jRz σ res) (hA G) d.2 := by
  refine jj_start [(0, .ref (ha G 0)), (1, .ref (hs G a0))] (by decide) (Nat.le_of_ble_eq_true rfl) rfl (fun p e R s m args below meth c hk hK hsz => ?_) hf
  have hk : jk p R s m args meth c d.2 cX0_isName 3 RX0 5 190 (some .boolean) := hk
  unfold f0_isName
  refine jj_aload_n hk (pc := 0) dX0_isName_0 0 rfl rfl ?_
  refine jc_g_end hk hH hK (pc := 1) dX0_isName_1 ?_
  refine jj_aload_n hk (pc := 4) dX0_isName_4 0 rfl rfl ?_
  refine jc_g_at hk hH hK (pc := 5) dX0_isName_5 ?_
  refine jj_isub hk (pc := 8) dX0_isName_8 ?_
  refine jj_aload_n hk (pc := 9) dX0_isName_9 1 rfl rfl ?_
  refine kc_length hk hH hK (pc := 10) dX0_isName_10 ⟨Nat.le_of_ble_eq_true rfl, Nat.le_of_ble_eq_true rfl⟩ (Nat.le_of_ble_eq_true rfl) (fun v1 => ?_)
  refine jj_icmp_eq hk (pc := 13) 18 dX0_isName_13 (by decide) ?_ ?_
  · refine jj_iconst hk (pc := 18) (v := (0 : Int32)) dX0_isName_18 (by decide) ?_
    refine jj_istore_n hk (pc := 19) [(2, .int (0 : Int32)), (0, .ref (ha G 0)), (1, .ref (hs G a0))] dX0_isName_19 rfl (Nat.le_of_ble_eq_true rfl) rfl ?_
    refine jj_loc [(0, .ref (ha G 0)), (1, .ref (hs G a0)), (2, .int (0 : Int32))] [1, 2, 0] rfl ?_
    exact wb_f0_isName_L20 hk hH hK N σ N a0 (0 : Int32)
  · refine jj_iconst hk (pc := 16) (v := (0 : Int32)) dX0_isName_16 (by decide) ?_
    exact jc_retRz hk (pc := 17) (b := false) dX0_isName_17
end
section
variable {p : Program} {l : Launch} {e : Env} {R : Room} {s : State} {m : MethodId} {args : Array Value} {below : List Frame} {meth : Method} {c : Code}
variable {G : cG} {d : DS} {KK : State → Prop}
set_option maxHeartbeats 4000000 in
theorem cc_f0_goesOn (l : Launch) {G : cG} {KK : State → Prop} (hH : cH G KK) (d : DS) (N : Nat) (σ : SS) (a0 : Nat) (res : (Bool × SS)) (hf : f0_goesOn N σ a0 = some res) : jM l yX0_goesOn (ws_ yX0_goesOn cX0_goesOn 2 (some .boolean)) 6 212 [.ref (ha G 0), .ref (hs G a0)] (cWo G d) (cnx d) KK σ (jUz res) (hA G) d.2 := by
  refine jj_start [(0, .ref (ha G 0)), (1, .ref (hs G a0))] (by decide) (Nat.le_of_ble_eq_true rfl) rfl (fun p e R s m args below meth c hk hK hsz => ?_) hf
  have hk : jk p R s m args meth c d.2 cX0_goesOn 2 RX0 6 212 (some .boolean) := hk
  unfold f0_goesOn
  refine jj_aload_n hk (pc := 0) dX0_goesOn_0 0 rfl rfl ?_
  refine jj_aload_n hk (pc := 1) dX0_goesOn_1 1 rfl rfl ?_
  refine kc_X0_0_isName hk hH hK (pc := 2) (a0 := a0) (fun r h => cc_f0_isName l hH d N σ a0 r h) dX0_goesOn_2 ⟨Nat.le_of_ble_eq_true rfl, Nat.le_of_ble_eq_true rfl⟩ (Nat.le_of_ble_eq_true rfl) (fun r1 => ?_)
  refine jj_if_ne_b hk (pc := 5) 10 dX0_goesOn_5 (by decide) ?_ ?_
  · refine jj_aload_n hk (pc := 10) dX0_goesOn_10 0 rfl rfl ?_
    refine kc_X0_0_next hk hH hK (pc := 11)  (fun r h => cc_f0_next l hH d N σ r h) dX0_goesOn_11 ⟨Nat.le_of_ble_eq_true rfl, Nat.le_of_ble_eq_true rfl⟩ (Nat.le_of_ble_eq_true rfl) (fun r2 => ?_)
    refine jj_iconst hk (pc := 14) (v := (1 : Int32)) dX0_goesOn_14 (by decide) ?_
    exact jc_retUz hk (pc := 15) (b := true) dX0_goesOn_15
  · refine jj_iconst hk (pc := 8) (v := (0 : Int32)) dX0_goesOn_8 (by decide) ?_
    exact jc_retUz hk (pc := 9) (b := false) dX0_goesOn_9
end
section
variable {p : Program} {l : Launch} {e : Env} {R : Room} {s : State} {m : MethodId} {args : Array Value} {below : List Frame} {meth : Method} {c : Code}
variable {G : cG} {d : DS} {KK : State → Prop}
set_option maxHeartbeats 4000000 in
theorem wb_f0_nameOf_L5 {res : (Int32 × SS)} (hk : jk p R s m args meth c d.2 cX0_nameOf 3 RX0 6 212 (some .int)) (hH : cH G KK) (hK : KK s) (N : Nat) : ∀ (n : Nat) (σ : SS) (x1 : Nat) (x2 : Int32), jj p l e R s m args below meth c (hA G) d.2 (jZ below args s (hA G) d.2 (jU res) (cWo G d) (cnx d)) (cWo G d) (cnx d) 3 σ 5 [(0, .ref (ha G 0)), (1, .ref (ha G (64 + x1))), (2, .int x2)] [] (f0_nameOf_L5 N n σ x1 x2 = some res) := by
  intro n
  induction n with
  | zero => intro σ x1 x2; exact jj_eq (fun hz => by rw [f0_nameOf_L5] at hz; exact hz) jj_no
  | succ n ih =>
    intro σ x1 x2
    rw [f0_nameOf_L5]
    refine jj_iload_n hk (pc := 5) dX0_nameOf_5 2 rfl rfl ?_
    refine jj_if_lt hk (pc := 6) 25 dX0_nameOf_6 (by decide) ?_ ?_
    · refine jj_iload_n hk (pc := 25) dX0_nameOf_25 2 rfl rfl ?_
      refine jj_if_lt hk (pc := 26) 33 dX0_nameOf_26 (by decide) ?_ ?_
      · refine jj_iload_n hk (pc := 33) dX0_nameOf_33 2 rfl rfl ?_
        exact jc_retUi hk (pc := 34) dX0_nameOf_34
      · refine jj_aload_n hk (pc := 29) dX0_nameOf_29 0 rfl rfl ?_
        refine kc_X0_0_next hk hH hK (pc := 30)  (fun r h => cc_f0_next l hH d N σ r h) dX0_nameOf_30 ⟨Nat.le_of_ble_eq_true rfl, Nat.le_of_ble_eq_true rfl⟩ (Nat.le_of_ble_eq_true rfl) (fun r1 => ?_)
        refine jj_iload_n hk (pc := 33) dX0_nameOf_33 2 rfl rfl ?_
        exact jc_retUi hk (pc := 34) dX0_nameOf_34
    · refine jj_aload_n hk (pc := 9) dX0_nameOf_9 0 rfl rfl ?_
      refine jj_aload_n hk (pc := 10) dX0_nameOf_10 1 rfl rfl ?_
      refine jj_iload_n hk (pc := 11) dX0_nameOf_11 2 rfl rfl ?_
      refine jc_wld hk hH hK (pc := 12) dX0_nameOf_12 (fun i2 => ?_)
      refine kc_X0_0_isName hk hH hK (pc := 13) (a0 := i2) (fun r h => cc_f0_isName l hH d N σ i2 r h) dX0_nameOf_13 ⟨Nat.le_of_ble_eq_true rfl, Nat.le_of_ble_eq_true rfl⟩ (Nat.le_of_ble_eq_true rfl) (fun r3 => ?_)
      refine jj_if_ne_b hk (pc := 16) 25 dX0_nameOf_16 (by decide) ?_ ?_
      · refine jj_iload_n hk (pc := 25) dX0_nameOf_25 2 rfl rfl ?_
        refine jj_if_lt hk (pc := 26) 33 dX0_nameOf_26 (by decide) ?_ ?_
        · refine jj_iload_n hk (pc := 33) dX0_nameOf_33 2 rfl rfl ?_
          exact jc_retUi hk (pc := 34) dX0_nameOf_34
        · refine jj_aload_n hk (pc := 29) dX0_nameOf_29 0 rfl rfl ?_
          refine kc_X0_0_next hk hH hK (pc := 30)  (fun r h => cc_f0_next l hH d N σ r h) dX0_nameOf_30 ⟨Nat.le_of_ble_eq_true rfl, Nat.le_of_ble_eq_true rfl⟩ (Nat.le_of_ble_eq_true rfl) (fun r4 => ?_)
          refine jj_iload_n hk (pc := 33) dX0_nameOf_33 2 rfl rfl ?_
          exact jc_retUi hk (pc := 34) dX0_nameOf_34
      · refine jj_iinc hk (pc := 19) [(2, .int (x2 + (-1))), (0, .ref (ha G 0)), (1, .ref (ha G (64 + x1)))] dX0_nameOf_19 2 rfl rfl (Nat.le_of_ble_eq_true rfl) rfl ?_
        refine jj_goto hk (pc := 22) 5 dX0_nameOf_22 (by decide) ?_
        refine jj_loc [(0, .ref (ha G 0)), (1, .ref (ha G (64 + x1))), (2, .int (x2 + (-1)))] [1, 2, 0] rfl ?_
        exact ih σ x1 (x2 + (-1))
set_option maxHeartbeats 4000000 in
theorem cc_f0_nameOf (l : Launch) {G : cG} {KK : State → Prop} (hH : cH G KK) (d : DS) (N : Nat) (σ : SS) (a0 : Nat) (res : (Int32 × SS)) (hf : f0_nameOf N σ a0 = some res) : jM l yX0_nameOf (ws_ yX0_nameOf cX0_nameOf 3 (some .int)) 6 212 [.ref (ha G 0), .ref (ha G (64 + a0))] (cWo G d) (cnx d) KK σ (jU res) (hA G) d.2 := by
  refine jj_start [(0, .ref (ha G 0)), (1, .ref (ha G (64 + a0)))] (by decide) (Nat.le_of_ble_eq_true rfl) rfl (fun p e R s m args below meth c hk hK hsz => ?_) hf
  have hk : jk p R s m args meth c d.2 cX0_nameOf 3 RX0 6 212 (some .int) := hk
  unfold f0_nameOf
  refine jj_aload_n hk (pc := 0) dX0_nameOf_0 1 rfl rfl ?_
  refine jc_wlen hk hH hK (pc := 1) dX0_nameOf_1 (fun v1 => ?_)
  refine jj_iconst hk (pc := 2) (v := (1 : Int32)) dX0_nameOf_2 (by decide) ?_
  refine jj_isub hk (pc := 3) dX0_nameOf_3 ?_
  refine jj_istore_n hk (pc := 4) [(2, .int (v1 - (1 : Int32))), (0, .ref (ha G 0)), (1, .ref (ha G (64 + a0)))] dX0_nameOf_4 rfl (Nat.le_of_ble_eq_true rfl) rfl ?_
  refine jj_loc [(0, .ref (ha G 0)), (1, .ref (ha G (64 + a0))), (2, .int (v1 - (1 : Int32)))] [1, 2, 0] rfl ?_
  exact wb_f0_nameOf_L5 hk hH hK N N σ a0 (v1 - (1 : Int32))
end
section
variable {p : Program} {l : Launch} {e : Env} {R : Room} {s : State} {m : MethodId} {args : Array Value} {below : List Frame} {meth : Method} {c : Code}
variable {G : cG} {KK : State → Prop}
set_option maxHeartbeats 4000000 in
theorem cc_f0_must (l : Launch) {G : cG} {KK : State → Prop} (hH : cH G KK)  (σ : SS) (d : DS) (a0 : Bool) (a1 : Int32) (res : (XR (SS × DS))) (hf : f0_must σ d a0 a1 = some res) : jMX l yX0_must (ws_ yX0_must cX0_must 3 none) 2 80 [.ref (ha G 0), .int (bI a0), .int a1] G KK (σ, d) xnV jVa res := by
  refine jx_start [(0, .ref (ha G 0)), (1, .int (bI a0)), (2, .int a1)] (by decide) (Nat.le_of_ble_eq_true rfl) rfl (fun p e R s m args below meth c hk hK ht => ?_) hf
  have hk : jk p R s m args meth c (xnx xnV res) cX0_must 3 RX0 2 80 none := hk
  unfold f0_must
  refine jj_iload_n hk (pc := 0) dX0_must_0 1 rfl rfl ?_
  refine jj_if_ne_b hk (pc := 1) 13 dX0_must_1 (by decide) ?_ ?_
  · exact jx_retV hk (pc := 13) dX0_must_13
  · refine jj_aload_n hk (pc := 4) dX0_must_4 0 rfl rfl ?_
    refine jc_g_refusal hk hH hK (pc := 5) dX0_must_5 ?_
    refine jj_iload_n hk (pc := 8) dX0_must_8 2 rfl rfl ?_
    refine kc_of1 hk hH hK (pc := 9) dX0_must_9 ⟨Nat.le_of_ble_eq_true rfl, Nat.le_of_ble_eq_true rfl⟩ (Nat.le_of_ble_eq_true rfl) (fun σ1 => ?_)
    exact jx_athrow hk hH hK ht (pc := 12) (Or.inl rfl) dX0_must_12
end
section
variable {p : Program} {l : Launch} {e : Env} {R : Room} {s : State} {m : MethodId} {args : Array Value} {below : List Frame} {meth : Method} {c : Code}
variable {G : cG} {KK : State → Prop}
set_option maxHeartbeats 4000000 in
theorem cc_f0_want (l : Launch) {G : cG} {KK : State → Prop} (hH : cH G KK) (N : Nat) (σ : SS) (d : DS) (a0 : Nat) (res : (XR (SS × DS))) (hf : f0_want N σ d a0 = some res) : jMX l yX0_want (ws_ yX0_want cX0_want 2 none) 7 233 [.ref (ha G 0), .ref (hs G a0)] G KK (σ, d) xnV jVa res := by
  refine jx_start [(0, .ref (ha G 0)), (1, .ref (hs G a0))] (by decide) (Nat.le_of_ble_eq_true rfl) rfl (fun p e R s m args below meth c hk hK ht => ?_) hf
  have hk : jk p R s m args meth c (xnx xnV res) cX0_want 2 RX0 7 233 none := hk
  unfold f0_want
  refine jj_aload_n hk (pc := 0) dX0_want_0 0 rfl rfl ?_
  refine jj_aload_n hk (pc := 1) dX0_want_1 1 rfl rfl ?_
  refine kc_X0_0_goesOn hk hH hK (pc := 2) (a0 := a0) (fun r h => cc_f0_goesOn l hH d N σ a0 r h) dX0_want_2 ⟨Nat.le_of_ble_eq_true rfl, Nat.le_of_ble_eq_true rfl⟩ (Nat.le_of_ble_eq_true rfl) (fun r1 => ?_)
  refine jj_if_ne_b hk (pc := 5) 13 dX0_want_5 (by decide) ?_ ?_
  · exact jx_retV hk (pc := 13) dX0_want_13
  · refine jj_aload_n hk (pc := 8) dX0_want_8 0 rfl rfl ?_
    refine kc_faultHere hk hH hK (pc := 9) dX0_want_9 ⟨Nat.le_of_ble_eq_true rfl, Nat.le_of_ble_eq_true rfl⟩ (Nat.le_of_ble_eq_true rfl) (fun σ2 => ?_)
    exact jx_athrow hk hH hK ht (pc := 12) (Or.inr rfl) dX0_want_12
end
section
variable {p : Program} {l : Launch} {e : Env} {R : Room} {s : State} {m : MethodId} {args : Array Value} {below : List Frame} {meth : Method} {c : Code}
variable {G : cG} {KK : State → Prop}
set_option maxHeartbeats 4000000 in
theorem wb_f0_figure_L47 {res : (XR (Int32 × SS × DS))} (hk : jk p R s m args meth c (xnx xnA res) cX0_figure 4 RX0 3 120 (some .int)) (hH : cH G KK) (hK : KK s) (ht : ∀ x ∈ c.exceptionTable.toList, False) (N : Nat) : ∀ (n : Nat) (σ : SS) (d : DS) (x2 : Int32) (x3 : Int32), jj p l e R s m args below meth c (hA G) (xnx xnA res) (jZX below args s G xnA (jUa (fun x : Int32 => .int x)) res) (cWo G d) (cnx d) 4 σ 47 [(0, .ref (ha G 0)), (2, .int x2), (3, .int x3)] [] (f0_figure_L47 N n σ d x2 x3 = some res) := by
  intro n
  induction n with
  | zero => intro σ d x2 x3; exact jj_eq (fun hz => by rw [f0_figure_L47] at hz; exact hz) jj_no
  | succ n ih =>
    intro σ d x2 x3
    rw [f0_figure_L47]
    refine jj_iload_n hk (pc := 47) dX0_figure_47 2 rfl rfl ?_
    refine jj_aload_n hk (pc := 48) dX0_figure_48 0 rfl rfl ?_
    refine jc_g_end hk hH hK (pc := 49) dX0_figure_49 ?_
    refine jj_icmp_ge hk (pc := 52) 76 dX0_figure_52 (by decide) ?_ ?_
    · refine jj_aload_n hk (pc := 76) dX0_figure_76 0 rfl rfl ?_
      refine kc_X0_0_next hk hH hK (pc := 77)  (fun r h => cc_f0_next l hH d N σ r h) dX0_figure_77 ⟨Nat.le_of_ble_eq_true rfl, Nat.le_of_ble_eq_true rfl⟩ (Nat.le_of_ble_eq_true rfl) (fun r1 => ?_)
      refine jj_iload_n hk (pc := 80) dX0_figure_80 1 rfl rfl ?_
      exact jx_retUi hk (pc := 81) dX0_figure_81
    · refine jj_bipush hk (pc := 55) (v := (10 : Int32)) dX0_figure_55 (by decide) ?_
      refine jj_iload_n hk (pc := 57) dX0_figure_57 1 rfl rfl ?_
      refine jj_imul hk (pc := 58) dX0_figure_58 ?_
      refine jj_aload_n hk (pc := 59) dX0_figure_59 0 rfl rfl ?_
      refine jc_g_tape hk hH hK (pc := 60) dX0_figure_60 ?_
      refine jj_iload_n hk (pc := 63) dX0_figure_63 2 rfl rfl ?_
      refine jc_bld hk hH hK (pc := 64) dX0_figure_64 (fun v2 => ?_)
      refine jj_iadd hk (pc := 65) dX0_figure_65 ?_
      refine jj_bipush hk (pc := 66) (v := (48 : Int32)) dX0_figure_66 (by decide) ?_
      refine jj_isub hk (pc := 68) dX0_figure_68 ?_
      refine jj_istore_n hk (pc := 69) [(2, .int ((((10 : Int32) * x2) + v2) - (48 : Int32))), (0, .ref (ha G 0)), (3, .int x3)] dX0_figure_69 rfl (Nat.le_of_ble_eq_true rfl) rfl ?_
      refine jj_iinc hk (pc := 70) [(3, .int (x3 + 1)), (2, .int ((((10 : Int32) * x2) + v2) - (48 : Int32))), (0, .ref (ha G 0))] dX0_figure_70 2 rfl rfl (Nat.le_of_ble_eq_true rfl) rfl ?_
      refine jj_goto hk (pc := 73) 47 dX0_figure_73 (by decide) ?_
      refine jj_loc [(0, .ref (ha G 0)), (2, .int ((((10 : Int32) * x2) + v2) - (48 : Int32))), (3, .int (x3 + 1))] [2, 1, 0] rfl ?_
      exact ih σ d ((((10 : Int32) * x2) + v2) - (48 : Int32)) (x3 + 1)
set_option maxHeartbeats 4000000 in
theorem cc_f0_figure (l : Launch) {G : cG} {KK : State → Prop} (hH : cH G KK) (N : Nat) (σ : SS) (d : DS)  (res : (XR (Int32 × SS × DS))) (hf : f0_figure N σ d = some res) : jMX l yX0_figure (ws_ yX0_figure cX0_figure 4 (some .int)) 3 120 [.ref (ha G 0)] G KK (σ, d) xnA (jUa (fun x : Int32 => .int x)) res := by
  refine jx_start [(0, .ref (ha G 0))] (by decide) (Nat.le_of_ble_eq_true rfl) rfl (fun p e R s m args below meth c hk hK ht => ?_) hf
  have hk : jk p R s m args meth c (xnx xnA res) cX0_figure 4 RX0 3 120 (some .int) := hk
  unfold f0_figure
  refine jj_aload_n hk (pc := 0) dX0_figure_0 0 rfl rfl ?_
  refine jc_g_end hk hH hK (pc := 1) dX0_figure_1 ?_
  refine jj_aload_n hk (pc := 4) dX0_figure_4 0 rfl rfl ?_
  refine jc_g_at hk hH hK (pc := 5) dX0_figure_5 ?_
  refine jj_isub hk (pc := 8) dX0_figure_8 ?_
  refine jj_istore_n hk (pc := 9) [(1, .int ((σ.1 43) - (σ.1 42))), (0, .ref (ha G 0))] dX0_figure_9 rfl (Nat.le_of_ble_eq_true rfl) rfl ?_
  refine jj_iload_n hk (pc := 10) dX0_figure_10 0 rfl rfl ?_
  refine jj_iconst hk (pc := 11) (v := (1 : Int32)) dX0_figure_11 (by decide) ?_
  refine jj_icmp_lt hk (pc := 12) 35 dX0_figure_12 (by decide) ?_ ?_
  · refine jj_aload_n hk (pc := 35) dX0_figure_35 1 rfl rfl ?_
    refine kc_faultHere hk hH hK (pc := 36) dX0_figure_36 ⟨Nat.le_of_ble_eq_true rfl, Nat.le_of_ble_eq_true rfl⟩ (Nat.le_of_ble_eq_true rfl) (fun σ1 => ?_)
    exact jx_athrow hk hH hK ht (pc := 39) (Or.inr rfl) dX0_figure_39
  · refine jj_iload_n hk (pc := 15) dX0_figure_15 0 rfl rfl ?_
    refine jj_iconst hk (pc := 16) (v := (4 : Int32)) dX0_figure_16 (by decide) ?_
    refine jj_icmp_gt hk (pc := 17) 35 dX0_figure_17 (by decide) ?_ ?_
    · refine jj_aload_n hk (pc := 35) dX0_figure_35 1 rfl rfl ?_
      refine kc_faultHere hk hH hK (pc := 36) dX0_figure_36 ⟨Nat.le_of_ble_eq_true rfl, Nat.le_of_ble_eq_true rfl⟩ (Nat.le_of_ble_eq_true rfl) (fun σ2 => ?_)
      exact jx_athrow hk hH hK ht (pc := 39) (Or.inr rfl) dX0_figure_39
    · refine jj_aload_n hk (pc := 20) dX0_figure_20 1 rfl rfl ?_
      refine jc_g_tape hk hH hK (pc := 21) dX0_figure_21 ?_
      refine jj_aload_n hk (pc := 24) dX0_figure_24 1 rfl rfl ?_
      refine jc_g_at hk hH hK (pc := 25) dX0_figure_25 ?_
      refine jc_bld hk hH hK (pc := 28) dX0_figure_28 (fun v3 => ?_)
      refine kc_X0_0_isDigit hk hH hK (pc := 29) (a0 := v3) (fun r h => cc_f0_isDigit l hH d σ v3 r h) dX0_figure_29 ⟨Nat.le_of_ble_eq_true rfl, Nat.le_of_ble_eq_true rfl⟩ (Nat.le_of_ble_eq_true rfl) (fun r4 => ?_)
      refine jj_if_ne_b hk (pc := 32) 40 dX0_figure_32 (by decide) ?_ ?_
      · refine jj_iconst hk (pc := 40) (v := (0 : Int32)) dX0_figure_40 (by decide) ?_
        refine jj_istore_n hk (pc := 41) [(2, .int (0 : Int32)), (1, .int ((σ.1 43) - (σ.1 42))), (0, .ref (ha G 0))] dX0_figure_41 rfl (Nat.le_of_ble_eq_true rfl) rfl ?_
        refine jj_aload_n hk (pc := 42) dX0_figure_42 2 rfl rfl ?_
        refine jc_g_at hk hH hK (pc := 43) dX0_figure_43 ?_
        refine jj_istore_n hk (pc := 46) [(3, .int (σ.1 42)), (2, .int (0 : Int32)), (1, .int ((σ.1 43) - (σ.1 42))), (0, .ref (ha G 0))] dX0_figure_46 rfl (Nat.le_of_ble_eq_true rfl) rfl ?_
        refine jj_loc [(0, .ref (ha G 0)), (2, .int (0 : Int32)), (3, .int (σ.1 42))] [3, 1, 0] rfl ?_
        exact wb_f0_figure_L47 hk hH hK ht N N σ d (0 : Int32) (σ.1 42)
      · refine jj_aload_n hk (pc := 35) dX0_figure_35 1 rfl rfl ?_
        refine kc_faultHere hk hH hK (pc := 36) dX0_figure_36 ⟨Nat.le_of_ble_eq_true rfl, Nat.le_of_ble_eq_true rfl⟩ (Nat.le_of_ble_eq_true rfl) (fun σ5 => ?_)
        exact jx_athrow hk hH hK ht (pc := 39) (Or.inr rfl) dX0_figure_39
end
section
variable {p : Program} {l : Launch} {e : Env} {R : Room} {s : State} {m : MethodId} {args : Array Value} {below : List Frame} {meth : Method} {c : Code}
variable {G : cG} {KK : State → Prop}
set_option maxHeartbeats 4000000 in
theorem cc_f0_value (l : Launch) {G : cG} {KK : State → Prop} (hH : cH G KK) (N : Nat) (σ : SS) (d : DS)  (res : (XR (Nat × SS × DS))) (hf : f0_value N σ d = some res) : jMX l yX0_value (ws_ yX0_value cX0_value 2 (some (.object "LeftUndoes$Value"))) 7 234 [.ref (ha G 0)] G KK (σ, d) xnA (jUa (fun x : Nat => .ref x)) res := by
  refine jx_start [(0, .ref (ha G 0))] (by decide) (Nat.le_of_ble_eq_true rfl) rfl (fun p e R s m args below meth c hk hK ht => ?_) hf
  have hk : jk p R s m args meth c (xnx xnA res) cX0_value 2 RX0 7 234 (some (.object "LeftUndoes$Value")) := hk
  unfold f0_value
  refine jj_aload_n hk (pc := 0) dX0_value_0 0 rfl rfl ?_
  refine jj_aload_n hk (pc := 1) dX0_value_1 0 rfl rfl ?_
  refine jc_g_names hk hH hK (pc := 2) dX0_value_2 ?_
  refine kc_X0_0_nameOf hk hH hK (pc := 5) (a0 := 2) (fun r h => cc_f0_nameOf l hH d N σ 2 r h) dX0_value_5 ⟨Nat.le_of_ble_eq_true rfl, Nat.le_of_ble_eq_true rfl⟩ (Nat.le_of_ble_eq_true rfl) (fun r1 => ?_)
  refine jj_istore_n hk (pc := 8) [(1, .int r1.1), (0, .ref (ha G 0))] dX0_value_8 rfl (Nat.le_of_ble_eq_true rfl) rfl ?_
  refine jj_iload_n hk (pc := 9) dX0_value_9 0 rfl rfl ?_
  refine jj_if_lt hk (pc := 10) 25 dX0_value_10 (by decide) ?_ ?_
  · refine ja_new (ci := 16) (fs := [.int 0, .int 0]) hk hH hK (pc := 25) in_X15 tyX15 tyX15_ok q845 q846 q140 rfl (fun j hj => match j, hj with | 0, _ => rfl | 1, _ => rfl | n + 2, h => absurd h (by omega)) (by decide) dX0_value_25 (fun d2 => ?_)
    refine jj_dup hk (pc := 28) dX0_value_28 rfl ?_
    refine jj_iconst hk (pc := 29) (v := (-1 : Int32)) dX0_value_29 (by decide) ?_
    refine jj_aload_n hk (pc := 30) dX0_value_30 1 rfl rfl ?_
    refine kx_X0_0_figure hk hH hK ht (pc := 31)  (fun r h => cc_f0_figure l hH N r1.2 d2 r h) dX0_value_31 ⟨Nat.le_of_ble_eq_true rfl, Nat.le_of_ble_eq_true rfl⟩ (Nat.le_of_ble_eq_true rfl) (fun r3 => ?_)
    refine kc_X0_15_init hk hH hK (pc := 34) (q0 := d.2) (a0 := (-1 : Int32)) (a1 := r3.1) (fun r h => cc_f15_init l hH r3.2.1 r3.2.2 d.2 (-1 : Int32) r3.1 r h) dX0_value_34 ⟨Nat.le_of_ble_eq_true rfl, Nat.le_of_ble_eq_true rfl⟩ (Nat.le_of_ble_eq_true rfl) (fun r4 => ?_)
    exact jx_retUa hk (pc := 37) (Or.inl ⟨_, rfl⟩) dX0_value_37
  · refine ja_new (ci := 16) (fs := [.int 0, .int 0]) hk hH hK (pc := 13) in_X15 tyX15 tyX15_ok q845 q846 q140 rfl (fun j hj => match j, hj with | 0, _ => rfl | 1, _ => rfl | n + 2, h => absurd h (by omega)) (by decide) dX0_value_13 (fun d5 => ?_)
    refine jj_dup hk (pc := 16) dX0_value_16 rfl ?_
    refine jj_iload_n hk (pc := 17) dX0_value_17 0 rfl rfl ?_
    refine jj_iconst hk (pc := 18) (v := (0 : Int32)) dX0_value_18 (by decide) ?_
    refine kc_X0_15_init hk hH hK (pc := 19) (q0 := d.2) (a0 := r1.1) (a1 := (0 : Int32)) (fun r h => cc_f15_init l hH r1.2 d5 d.2 r1.1 (0 : Int32) r h) dX0_value_19 ⟨Nat.le_of_ble_eq_true rfl, Nat.le_of_ble_eq_true rfl⟩ (Nat.le_of_ble_eq_true rfl) (fun r6 => ?_)
    refine jj_goto hk (pc := 22) 37 dX0_value_22 (by decide) ?_
    exact jx_retUa hk (pc := 37) (Or.inl ⟨_, rfl⟩) dX0_value_37
end
section
variable {p : Program} {l : Launch} {e : Env} {R : Room} {s : State} {m : MethodId} {args : Array Value} {below : List Frame} {meth : Method} {c : Code}
variable {G : cG} {KK : State → Prop}
set_option maxHeartbeats 4000000 in
theorem wb_f0_all_L6 {res : (XR (Nat × SS × DS))} {fr0 lo0 : Nat} (hk : jk p R s m args meth c (xnx xnA res) cX0_all 3 RX0 (fr0 + 7) (lo0 + 233) (some (.object "LeftUndoes$Cond"))) (hH : cH G KK) (hK : KK s) (ht : ∀ x ∈ c.exceptionTable.toList, False) {k_oneOf : SS → DS → Int32 → Option (XR (Nat × SS × DS))} (hk_oneOf : ∀ (σ : SS) (d : DS) (b0 : Int32) (r : (XR (Nat × SS × DS))), k_oneOf σ d b0 = some r → jMX l yX0_oneOf (ws_ yX0_oneOf cX0_oneOf 4 (some (.object "LeftUndoes$Cond"))) fr0 lo0 [.ref (ha G 0), .int b0] G KK (σ, d) xnA (jUa (fun x : Nat => .ref x)) r) (N : Nat) : ∀ (n : Nat) (σ : SS) (d : DS) (x1 : Int32) (x2 : Nat), jj p l e R s m args below meth c (hA G) (xnx xnA res) (jZX below args s G xnA (jUa (fun x : Nat => .ref x)) res) (cWo G d) (cnx d) 3 σ 6 [(0, .ref (ha G 0)), (1, .int x1), (2, .ref x2)] [] (f0_all_L6 N k_oneOf n σ d x1 x2 = some res) := by
  intro n
  induction n with
  | zero => intro σ d x1 x2; exact jj_eq (fun hz => by rw [f0_all_L6] at hz; exact hz) jj_no
  | succ n ih =>
    intro σ d x1 x2
    rw [f0_all_L6]
    refine jj_aload_n hk (pc := 6) dX0_all_6 0 rfl rfl ?_
    refine js_ldcw hk hH hK (pc := 7) 17 (by decide) rfl dX0_all_7 ?_
    refine kc_X0_0_goesOn hk hH hK (pc := 10) (a0 := 17) (fun r h => cc_f0_goesOn l hH d N σ 17 r h) dX0_all_10 ⟨by omega, by omega⟩ (Nat.le_of_ble_eq_true rfl) (fun r1 => ?_)
    refine jj_if_eq_b hk (pc := 13) 33 dX0_all_13 (by decide) ?_ ?_
    · refine jj_aload_n hk (pc := 33) dX0_all_33 2 rfl rfl ?_
      exact jx_retUa hk (pc := 34) (Or.inl ⟨_, rfl⟩) dX0_all_34
    · refine ja_new (ci := 14) (fs := [.null, .null]) hk hH hK (pc := 16) in_X17 tyX17 tyX17_ok q879 q880 q142 rfl (fun j hj => match j, hj with | 0, _ => rfl | 1, _ => rfl | n + 2, h => absurd h (by omega)) (by decide) dX0_all_16 (fun d2 => ?_)
      refine jj_dup hk (pc := 19) dX0_all_19 rfl ?_
      refine jj_aload_n hk (pc := 20) dX0_all_20 2 rfl rfl ?_
      refine jj_aload_n hk (pc := 21) dX0_all_21 0 rfl rfl ?_
      refine jj_iload_n hk (pc := 22) dX0_all_22 1 rfl rfl ?_
      refine kx_X0_0_oneOf hk hH hK ht (pc := 23) (a0 := x1) (hk_oneOf r1.2 d2 x1) dX0_all_23 ⟨by omega, by omega⟩ (Nat.le_of_ble_eq_true rfl) (fun r3 => ?_)
      refine kc_X0_17_init hk hH hK (pc := 26) (q0 := d.2) (a0 := x2) (a1 := r3.1) (fun r h => cc_f17_init l hH r3.2.1 r3.2.2 d.2 x2 r3.1 r h) dX0_all_26 ⟨by omega, by omega⟩ (Nat.le_of_ble_eq_true rfl) (fun r4 => ?_)
      refine jj_astore_n hk (pc := 29) [(2, .ref d.2), (0, .ref (ha G 0)), (1, .int x1)] dX0_all_29 rfl (Nat.le_of_ble_eq_true rfl) rfl ?_
      refine jj_goto hk (pc := 30) 6 dX0_all_30 (by decide) ?_
      refine jj_loc [(0, .ref (ha G 0)), (1, .int x1), (2, .ref d.2)] [1, 2, 0] rfl ?_
      exact ih r4.1 r4.2 x1 d.2
set_option maxHeartbeats 4000000 in
theorem cc_f0_all (l : Launch) {G : cG} {KK : State → Prop} (hH : cH G KK) (N : Nat) (k_oneOf : SS → DS → Int32 → Option (XR (Nat × SS × DS))) (fr0 lo0 : Nat) (hk_oneOf : ∀ (σ : SS) (d : DS) (b0 : Int32) (r : (XR (Nat × SS × DS))), k_oneOf σ d b0 = some r → jMX l yX0_oneOf (ws_ yX0_oneOf cX0_oneOf 4 (some (.object "LeftUndoes$Cond"))) fr0 lo0 [.ref (ha G 0), .int b0] G KK (σ, d) xnA (jUa (fun x : Nat => .ref x)) r) (σ : SS) (d : DS) (a0 : Int32) (res : (XR (Nat × SS × DS))) (hf : f0_all N k_oneOf σ d a0 = some res) : jMX l yX0_all (ws_ yX0_all cX0_all 3 (some (.object "LeftUndoes$Cond"))) (fr0 + 7) (lo0 + 233) [.ref (ha G 0), .int a0] G KK (σ, d) xnA (jUa (fun x : Nat => .ref x)) res := by
  refine jx_start [(0, .ref (ha G 0)), (1, .int a0)] (by decide) (Nat.le_of_ble_eq_true rfl) rfl (fun p e R s m args below meth c hk hK ht => ?_) hf
  have hk : jk p R s m args meth c (xnx xnA res) cX0_all 3 RX0 (fr0 + 7) (lo0 + 233) (some (.object "LeftUndoes$Cond")) := hk
  unfold f0_all
  refine jj_aload_n hk (pc := 0) dX0_all_0 0 rfl rfl ?_
  refine jj_iload_n hk (pc := 1) dX0_all_1 1 rfl rfl ?_
  refine kx_X0_0_oneOf hk hH hK ht (pc := 2) (a0 := a0) (hk_oneOf σ d a0) dX0_all_2 ⟨by omega, by omega⟩ (Nat.le_of_ble_eq_true rfl) (fun r1 => ?_)
  refine jj_astore_n hk (pc := 5) [(2, .ref r1.1), (0, .ref (ha G 0)), (1, .int a0)] dX0_all_5 rfl (Nat.le_of_ble_eq_true rfl) rfl ?_
  refine jj_loc [(0, .ref (ha G 0)), (1, .int a0), (2, .ref r1.1)] [1, 2, 0] rfl ?_
  exact wb_f0_all_L6 hk hH hK ht hk_oneOf N N r1.2.1 r1.2.2 a0 r1.1
end
section
variable {p : Program} {l : Launch} {e : Env} {R : Room} {s : State} {m : MethodId} {args : Array Value} {below : List Frame} {meth : Method} {c : Code}
variable {G : cG} {KK : State → Prop}
set_option maxHeartbeats 4000000 in
theorem wb_f0_cond_L6 {res : (XR (Nat × SS × DS))} {fr0 lo0 : Nat} (hk : jk p R s m args meth c (xnx xnA res) cX0_cond 3 RX0 (fr0 + 8) (lo0 + 255) (some (.object "LeftUndoes$Cond"))) (hH : cH G KK) (hK : KK s) (ht : ∀ x ∈ c.exceptionTable.toList, False) {k_oneOf : SS → DS → Int32 → Option (XR (Nat × SS × DS))} (hk_oneOf : ∀ (σ : SS) (d : DS) (b0 : Int32) (r : (XR (Nat × SS × DS))), k_oneOf σ d b0 = some r → jMX l yX0_oneOf (ws_ yX0_oneOf cX0_oneOf 4 (some (.object "LeftUndoes$Cond"))) fr0 lo0 [.ref (ha G 0), .int b0] G KK (σ, d) xnA (jUa (fun x : Nat => .ref x)) r) (N : Nat) : ∀ (n : Nat) (σ : SS) (d : DS) (x1 : Int32) (x2 : Nat), jj p l e R s m args below meth c (hA G) (xnx xnA res) (jZX below args s G xnA (jUa (fun x : Nat => .ref x)) res) (cWo G d) (cnx d) 3 σ 6 [(0, .ref (ha G 0)), (1, .int x1), (2, .ref x2)] [] (f0_cond_L6 N k_oneOf n σ d x1 x2 = some res) := by
  intro n
  induction n with
  | zero => intro σ d x1 x2; exact jj_eq (fun hz => by rw [f0_cond_L6] at hz; exact hz) jj_no
  | succ n ih =>
    intro σ d x1 x2
    rw [f0_cond_L6]
    refine jj_aload_n hk (pc := 6) dX0_cond_6 0 rfl rfl ?_
    refine js_ldcw hk hH hK (pc := 7) 18 (by decide) rfl dX0_cond_7 ?_
    refine kc_X0_0_goesOn hk hH hK (pc := 10) (a0 := 18) (fun r h => cc_f0_goesOn l hH d N σ 18 r h) dX0_cond_10 ⟨by omega, by omega⟩ (Nat.le_of_ble_eq_true rfl) (fun r1 => ?_)
    refine jj_if_eq_b hk (pc := 13) 33 dX0_cond_13 (by decide) ?_ ?_
    · refine jj_aload_n hk (pc := 33) dX0_cond_33 2 rfl rfl ?_
      exact jx_retUa hk (pc := 34) (Or.inl ⟨_, rfl⟩) dX0_cond_34
    · refine ja_new (ci := 15) (fs := [.null, .null]) hk hH hK (pc := 16) in_X18 tyX18 tyX18_ok q897 q898 q143 rfl (fun j hj => match j, hj with | 0, _ => rfl | 1, _ => rfl | n + 2, h => absurd h (by omega)) (by decide) dX0_cond_16 (fun d2 => ?_)
      refine jj_dup hk (pc := 19) dX0_cond_19 rfl ?_
      refine jj_aload_n hk (pc := 20) dX0_cond_20 2 rfl rfl ?_
      refine jj_aload_n hk (pc := 21) dX0_cond_21 0 rfl rfl ?_
      refine jj_iload_n hk (pc := 22) dX0_cond_22 1 rfl rfl ?_
      refine kx_X0_0_all hk hH hK ht (pc := 23) (a0 := x1) (fun r h => cc_f0_all l hH N k_oneOf fr0 lo0 hk_oneOf r1.2 d2 x1 r h) dX0_cond_23 ⟨by omega, by omega⟩ (Nat.le_of_ble_eq_true rfl) (fun r3 => ?_)
      refine kc_X0_18_init hk hH hK (pc := 26) (q0 := d.2) (a0 := x2) (a1 := r3.1) (fun r h => cc_f18_init l hH r3.2.1 r3.2.2 d.2 x2 r3.1 r h) dX0_cond_26 ⟨by omega, by omega⟩ (Nat.le_of_ble_eq_true rfl) (fun r4 => ?_)
      refine jj_astore_n hk (pc := 29) [(2, .ref d.2), (0, .ref (ha G 0)), (1, .int x1)] dX0_cond_29 rfl (Nat.le_of_ble_eq_true rfl) rfl ?_
      refine jj_goto hk (pc := 30) 6 dX0_cond_30 (by decide) ?_
      refine jj_loc [(0, .ref (ha G 0)), (1, .int x1), (2, .ref d.2)] [1, 2, 0] rfl ?_
      exact ih r4.1 r4.2 x1 d.2
set_option maxHeartbeats 4000000 in
theorem cc_f0_cond (l : Launch) {G : cG} {KK : State → Prop} (hH : cH G KK) (N : Nat) (k_oneOf : SS → DS → Int32 → Option (XR (Nat × SS × DS))) (fr0 lo0 : Nat) (hk_oneOf : ∀ (σ : SS) (d : DS) (b0 : Int32) (r : (XR (Nat × SS × DS))), k_oneOf σ d b0 = some r → jMX l yX0_oneOf (ws_ yX0_oneOf cX0_oneOf 4 (some (.object "LeftUndoes$Cond"))) fr0 lo0 [.ref (ha G 0), .int b0] G KK (σ, d) xnA (jUa (fun x : Nat => .ref x)) r) (σ : SS) (d : DS) (a0 : Int32) (res : (XR (Nat × SS × DS))) (hf : f0_cond N k_oneOf σ d a0 = some res) : jMX l yX0_cond (ws_ yX0_cond cX0_cond 3 (some (.object "LeftUndoes$Cond"))) (fr0 + 8) (lo0 + 255) [.ref (ha G 0), .int a0] G KK (σ, d) xnA (jUa (fun x : Nat => .ref x)) res := by
  refine jx_start [(0, .ref (ha G 0)), (1, .int a0)] (by decide) (Nat.le_of_ble_eq_true rfl) rfl (fun p e R s m args below meth c hk hK ht => ?_) hf
  have hk : jk p R s m args meth c (xnx xnA res) cX0_cond 3 RX0 (fr0 + 8) (lo0 + 255) (some (.object "LeftUndoes$Cond")) := hk
  unfold f0_cond
  refine jj_aload_n hk (pc := 0) dX0_cond_0 0 rfl rfl ?_
  refine jj_iload_n hk (pc := 1) dX0_cond_1 1 rfl rfl ?_
  refine kx_X0_0_all hk hH hK ht (pc := 2) (a0 := a0) (fun r h => cc_f0_all l hH N k_oneOf fr0 lo0 hk_oneOf σ d a0 r h) dX0_cond_2 ⟨by omega, by omega⟩ (Nat.le_of_ble_eq_true rfl) (fun r1 => ?_)
  refine jj_astore_n hk (pc := 5) [(2, .ref r1.1), (0, .ref (ha G 0)), (1, .int a0)] dX0_cond_5 rfl (Nat.le_of_ble_eq_true rfl) rfl ?_
  refine jj_loc [(0, .ref (ha G 0)), (1, .int a0), (2, .ref r1.1)] [1, 2, 0] rfl ?_
  exact wb_f0_cond_L6 hk hH hK ht hk_oneOf N N r1.2.1 r1.2.2 a0 r1.1
end
section
variable {p : Program} {l : Launch} {e : Env} {R : Room} {s : State} {m : MethodId} {args : Array Value} {below : List Frame} {meth : Method} {c : Code}
variable {G : cG} {KK : State → Prop}
set_option maxHeartbeats 4000000 in
theorem wb_f0_oneOf_B86 {res : (XR (Nat × SS × DS))} {fr0 lo0 : Nat} (hk : jk p R s m args meth c (xnx xnA res) cX0_oneOf 4 RX0 (fr0 + 9) (lo0 + 277) (some (.object "LeftUndoes$Cond"))) (hH : cH G KK) (hK : KK s) (ht : ∀ x ∈ c.exceptionTable.toList, False) {k_oneOf : SS → DS → Int32 → Option (XR (Nat × SS × DS))} (hk_oneOf : ∀ (σ : SS) (d : DS) (b0 : Int32) (r : (XR (Nat × SS × DS))), k_oneOf σ d b0 = some r → jMX l yX0_oneOf (ws_ yX0_oneOf cX0_oneOf 4 (some (.object "LeftUndoes$Cond"))) fr0 lo0 [.ref (ha G 0), .int b0] G KK (σ, d) xnA (jUa (fun x : Nat => .ref x)) r) (N : Nat) (σ : SS) (d : DS) (x2 : Nat) (y0 : Int32) : jj p l e R s m args below meth c (hA G) (xnx xnA res) (jZX below args s G xnA (jUa (fun x : Nat => .ref x)) res) (cWo G d) (cnx d) 4 σ 86 [(0, .ref (ha G 0)), (2, .ref x2)] [.int y0] (f0_oneOf_B86 N k_oneOf σ d x2 y0 = some res) := by
  unfold f0_oneOf_B86
  refine jj_istore_n hk (pc := 86) [(3, .int y0), (0, .ref (ha G 0)), (2, .ref x2)] dX0_oneOf_86 rfl (Nat.le_of_ble_eq_true rfl) rfl ?_
  refine jj_iload_n hk (pc := 87) dX0_oneOf_87 0 rfl rfl ?_
  refine jj_bipush hk (pc := 88) (v := (60 : Int32)) dX0_oneOf_88 (by decide) ?_
  refine jj_icmp_eq hk (pc := 90) 110 dX0_oneOf_90 (by decide) ?_ ?_
  · refine jj_aload_n hk (pc := 110) dX0_oneOf_110 1 rfl rfl ?_
    refine kc_X0_0_next hk hH hK (pc := 111)  (fun r h => cc_f0_next l hH d N σ r h) dX0_oneOf_111 ⟨by omega, by omega⟩ (Nat.le_of_ble_eq_true rfl) (fun r1 => ?_)
    refine ja_new (ci := 13) (fs := [.null, .null, .int 0]) hk hH hK (pc := 114) in_X16 tyX16 tyX16_ok q862 q863 q141 rfl (fun j hj => match j, hj with | 0, _ => rfl | 1, _ => rfl | 2, _ => rfl | n + 3, h => absurd h (by omega)) (by decide) dX0_oneOf_114 (fun d2 => ?_)
    refine jj_dup hk (pc := 117) dX0_oneOf_117 rfl ?_
    refine jj_aload_n hk (pc := 118) dX0_oneOf_118 2 rfl rfl ?_
    refine jj_iload_n hk (pc := 119) dX0_oneOf_119 0 rfl rfl ?_
    refine jj_aload_n hk (pc := 120) dX0_oneOf_120 1 rfl rfl ?_
    refine kx_X0_0_value hk hH hK ht (pc := 121)  (fun r h => cc_f0_value l hH N r1 d2 r h) dX0_oneOf_121 ⟨by omega, by omega⟩ (Nat.le_of_ble_eq_true rfl) (fun r3 => ?_)
    refine kc_X0_16_init hk hH hK (pc := 124) (q0 := d.2) (a0 := x2) (a1 := y0) (a2 := r3.1) (fun r h => cc_f16_init l hH r3.2.1 r3.2.2 d.2 x2 y0 r3.1 r h) dX0_oneOf_124 ⟨by omega, by omega⟩ (Nat.le_of_ble_eq_true rfl) (fun r4 => ?_)
    exact jx_retUa hk (pc := 127) (Or.inl ⟨_, rfl⟩) dX0_oneOf_127
  · refine jj_iload_n hk (pc := 93) dX0_oneOf_93 0 rfl rfl ?_
    refine jj_bipush hk (pc := 94) (v := (61 : Int32)) dX0_oneOf_94 (by decide) ?_
    refine jj_icmp_eq hk (pc := 96) 110 dX0_oneOf_96 (by decide) ?_ ?_
    · refine jj_aload_n hk (pc := 110) dX0_oneOf_110 1 rfl rfl ?_
      refine kc_X0_0_next hk hH hK (pc := 111)  (fun r h => cc_f0_next l hH d N σ r h) dX0_oneOf_111 ⟨by omega, by omega⟩ (Nat.le_of_ble_eq_true rfl) (fun r5 => ?_)
      refine ja_new (ci := 13) (fs := [.null, .null, .int 0]) hk hH hK (pc := 114) in_X16 tyX16 tyX16_ok q862 q863 q141 rfl (fun j hj => match j, hj with | 0, _ => rfl | 1, _ => rfl | 2, _ => rfl | n + 3, h => absurd h (by omega)) (by decide) dX0_oneOf_114 (fun d6 => ?_)
      refine jj_dup hk (pc := 117) dX0_oneOf_117 rfl ?_
      refine jj_aload_n hk (pc := 118) dX0_oneOf_118 2 rfl rfl ?_
      refine jj_iload_n hk (pc := 119) dX0_oneOf_119 0 rfl rfl ?_
      refine jj_aload_n hk (pc := 120) dX0_oneOf_120 1 rfl rfl ?_
      refine kx_X0_0_value hk hH hK ht (pc := 121)  (fun r h => cc_f0_value l hH N r5 d6 r h) dX0_oneOf_121 ⟨by omega, by omega⟩ (Nat.le_of_ble_eq_true rfl) (fun r7 => ?_)
      refine kc_X0_16_init hk hH hK (pc := 124) (q0 := d.2) (a0 := x2) (a1 := y0) (a2 := r7.1) (fun r h => cc_f16_init l hH r7.2.1 r7.2.2 d.2 x2 y0 r7.1 r h) dX0_oneOf_124 ⟨by omega, by omega⟩ (Nat.le_of_ble_eq_true rfl) (fun r8 => ?_)
      exact jx_retUa hk (pc := 127) (Or.inl ⟨_, rfl⟩) dX0_oneOf_127
    · refine jj_iload_n hk (pc := 99) dX0_oneOf_99 0 rfl rfl ?_
      refine jj_bipush hk (pc := 100) (v := (62 : Int32)) dX0_oneOf_100 (by decide) ?_
      refine jj_icmp_eq hk (pc := 102) 110 dX0_oneOf_102 (by decide) ?_ ?_
      · refine jj_aload_n hk (pc := 110) dX0_oneOf_110 1 rfl rfl ?_
        refine kc_X0_0_next hk hH hK (pc := 111)  (fun r h => cc_f0_next l hH d N σ r h) dX0_oneOf_111 ⟨by omega, by omega⟩ (Nat.le_of_ble_eq_true rfl) (fun r9 => ?_)
        refine ja_new (ci := 13) (fs := [.null, .null, .int 0]) hk hH hK (pc := 114) in_X16 tyX16 tyX16_ok q862 q863 q141 rfl (fun j hj => match j, hj with | 0, _ => rfl | 1, _ => rfl | 2, _ => rfl | n + 3, h => absurd h (by omega)) (by decide) dX0_oneOf_114 (fun d10 => ?_)
        refine jj_dup hk (pc := 117) dX0_oneOf_117 rfl ?_
        refine jj_aload_n hk (pc := 118) dX0_oneOf_118 2 rfl rfl ?_
        refine jj_iload_n hk (pc := 119) dX0_oneOf_119 0 rfl rfl ?_
        refine jj_aload_n hk (pc := 120) dX0_oneOf_120 1 rfl rfl ?_
        refine kx_X0_0_value hk hH hK ht (pc := 121)  (fun r h => cc_f0_value l hH N r9 d10 r h) dX0_oneOf_121 ⟨by omega, by omega⟩ (Nat.le_of_ble_eq_true rfl) (fun r11 => ?_)
        refine kc_X0_16_init hk hH hK (pc := 124) (q0 := d.2) (a0 := x2) (a1 := y0) (a2 := r11.1) (fun r h => cc_f16_init l hH r11.2.1 r11.2.2 d.2 x2 y0 r11.1 r h) dX0_oneOf_124 ⟨by omega, by omega⟩ (Nat.le_of_ble_eq_true rfl) (fun r12 => ?_)
        exact jx_retUa hk (pc := 127) (Or.inl ⟨_, rfl⟩) dX0_oneOf_127
      · refine jj_aload_n hk (pc := 105) dX0_oneOf_105 1 rfl rfl ?_
        refine kc_faultHere hk hH hK (pc := 106) dX0_oneOf_106 ⟨by omega, by omega⟩ (Nat.le_of_ble_eq_true rfl) (fun σ13 => ?_)
        exact jx_athrow hk hH hK ht (pc := 109) (Or.inr rfl) dX0_oneOf_109
set_option maxHeartbeats 4000000 in
theorem cc_f0_oneOf (l : Launch) {G : cG} {KK : State → Prop} (hH : cH G KK) (N : Nat) : ∀ (D : Nat) (σ : SS) (d : DS) (a0 : Int32) (res : (XR (Nat × SS × DS))) (hf : f0_oneOf N D σ d a0 = some res), jMX l yX0_oneOf (ws_ yX0_oneOf cX0_oneOf 4 (some (.object "LeftUndoes$Cond"))) (9 * D) (277 * D) [.ref (ha G 0), .int a0] G KK (σ, d) xnA (jUa (fun x : Nat => .ref x)) res := by
  intro D
  induction D with
  | zero => intro σ d a0 res hf; rw [f0_oneOf] at hf; cases hf
  | succ D ih =>
    intro σ d a0 res hf
    rw [f0_oneOf] at hf
    have hk_oneOf := ih
    refine jx_start [(0, .ref (ha G 0)), (1, .int a0)] (by decide) (Nat.le_of_ble_eq_true rfl) rfl (fun p e R s m args below meth c hk hK ht => ?_) hf
    have hk : jk p R s m args meth c (xnx xnA res) cX0_oneOf 4 RX0 (9 * D + 9) (277 * D + 277) (some (.object "LeftUndoes$Cond")) := hk
    refine jj_aload_n hk (pc := 0) dX0_oneOf_0 0 rfl rfl ?_
    refine js_ldcw hk hH hK (pc := 1) 14 (by decide) rfl dX0_oneOf_1 ?_
    refine kc_X0_0_goesOn hk hH hK (pc := 4) (a0 := 14) (fun r h => cc_f0_goesOn l hH d N σ 14 r h) dX0_oneOf_4 ⟨by omega, by omega⟩ (Nat.le_of_ble_eq_true rfl) (fun r1 => ?_)
    refine jj_if_eq_b hk (pc := 7) 23 dX0_oneOf_7 (by decide) ?_ ?_
    · refine jj_iload_n hk (pc := 23) dX0_oneOf_23 1 rfl rfl ?_
      refine jj_iconst hk (pc := 24) (v := (3 : Int32)) dX0_oneOf_24 (by decide) ?_
      refine jj_icmp_ge hk (pc := 25) 55 dX0_oneOf_25 (by decide) ?_ ?_
      · refine jj_aload_n hk (pc := 55) dX0_oneOf_55 0 rfl rfl ?_
        refine kx_X0_0_value hk hH hK ht (pc := 56)  (fun r h => cc_f0_value l hH N r1.2 d r h) dX0_oneOf_56 ⟨by omega, by omega⟩ (Nat.le_of_ble_eq_true rfl) (fun r2 => ?_)
        refine jj_astore_n hk (pc := 59) [(2, .ref r2.1), (0, .ref (ha G 0)), (1, .int a0)] dX0_oneOf_59 rfl (Nat.le_of_ble_eq_true rfl) rfl ?_
        refine jj_aload_n hk (pc := 60) dX0_oneOf_60 1 rfl rfl ?_
        refine jc_g_end hk hH hK (pc := 61) dX0_oneOf_61 ?_
        refine jj_aload_n hk (pc := 64) dX0_oneOf_64 1 rfl rfl ?_
        refine jc_g_at hk hH hK (pc := 65) dX0_oneOf_65 ?_
        refine jj_isub hk (pc := 68) dX0_oneOf_68 ?_
        refine jj_iconst hk (pc := 69) (v := (1 : Int32)) dX0_oneOf_69 (by decide) ?_
        refine jj_icmp_ne hk (pc := 70) 85 dX0_oneOf_70 (by decide) ?_ ?_
        · refine jj_iconst hk (pc := 85) (v := (-1 : Int32)) dX0_oneOf_85 (by decide) ?_
          refine jj_loc [(0, .ref (ha G 0)), (2, .ref r2.1)] [1, 0] rfl ?_
          exact wb_f0_oneOf_B86 hk hH hK ht hk_oneOf N r2.2.1 r2.2.2 r2.1 (-1 : Int32)
        · refine jj_aload_n hk (pc := 73) dX0_oneOf_73 1 rfl rfl ?_
          refine jc_g_tape hk hH hK (pc := 74) dX0_oneOf_74 ?_
          refine jj_aload_n hk (pc := 77) dX0_oneOf_77 1 rfl rfl ?_
          refine jc_g_at hk hH hK (pc := 78) dX0_oneOf_78 ?_
          refine jc_bld hk hH hK (pc := 81) dX0_oneOf_81 (fun v3 => ?_)
          refine jj_goto hk (pc := 82) 86 dX0_oneOf_82 (by decide) ?_
          refine jj_loc [(0, .ref (ha G 0)), (2, .ref r2.1)] [1, 0] rfl ?_
          exact wb_f0_oneOf_B86 hk hH hK ht hk_oneOf N r2.2.1 r2.2.2 r2.1 v3
      · refine jj_aload_n hk (pc := 28) dX0_oneOf_28 0 rfl rfl ?_
        refine js_ldcw hk hH hK (pc := 29) 15 (by decide) rfl dX0_oneOf_29 ?_
        refine kc_X0_0_goesOn hk hH hK (pc := 32) (a0 := 15) (fun r h => cc_f0_goesOn l hH d N r1.2 15 r h) dX0_oneOf_32 ⟨by omega, by omega⟩ (Nat.le_of_ble_eq_true rfl) (fun r4 => ?_)
        refine jj_if_eq_b hk (pc := 35) 55 dX0_oneOf_35 (by decide) ?_ ?_
        · refine jj_aload_n hk (pc := 55) dX0_oneOf_55 0 rfl rfl ?_
          refine kx_X0_0_value hk hH hK ht (pc := 56)  (fun r h => cc_f0_value l hH N r4.2 d r h) dX0_oneOf_56 ⟨by omega, by omega⟩ (Nat.le_of_ble_eq_true rfl) (fun r5 => ?_)
          refine jj_astore_n hk (pc := 59) [(2, .ref r5.1), (0, .ref (ha G 0)), (1, .int a0)] dX0_oneOf_59 rfl (Nat.le_of_ble_eq_true rfl) rfl ?_
          refine jj_aload_n hk (pc := 60) dX0_oneOf_60 1 rfl rfl ?_
          refine jc_g_end hk hH hK (pc := 61) dX0_oneOf_61 ?_
          refine jj_aload_n hk (pc := 64) dX0_oneOf_64 1 rfl rfl ?_
          refine jc_g_at hk hH hK (pc := 65) dX0_oneOf_65 ?_
          refine jj_isub hk (pc := 68) dX0_oneOf_68 ?_
          refine jj_iconst hk (pc := 69) (v := (1 : Int32)) dX0_oneOf_69 (by decide) ?_
          refine jj_icmp_ne hk (pc := 70) 85 dX0_oneOf_70 (by decide) ?_ ?_
          · refine jj_iconst hk (pc := 85) (v := (-1 : Int32)) dX0_oneOf_85 (by decide) ?_
            refine jj_loc [(0, .ref (ha G 0)), (2, .ref r5.1)] [1, 0] rfl ?_
            exact wb_f0_oneOf_B86 hk hH hK ht hk_oneOf N r5.2.1 r5.2.2 r5.1 (-1 : Int32)
          · refine jj_aload_n hk (pc := 73) dX0_oneOf_73 1 rfl rfl ?_
            refine jc_g_tape hk hH hK (pc := 74) dX0_oneOf_74 ?_
            refine jj_aload_n hk (pc := 77) dX0_oneOf_77 1 rfl rfl ?_
            refine jc_g_at hk hH hK (pc := 78) dX0_oneOf_78 ?_
            refine jc_bld hk hH hK (pc := 81) dX0_oneOf_81 (fun v6 => ?_)
            refine jj_goto hk (pc := 82) 86 dX0_oneOf_82 (by decide) ?_
            refine jj_loc [(0, .ref (ha G 0)), (2, .ref r5.1)] [1, 0] rfl ?_
            exact wb_f0_oneOf_B86 hk hH hK ht hk_oneOf N r5.2.1 r5.2.2 r5.1 v6
        · refine jj_aload_n hk (pc := 38) dX0_oneOf_38 0 rfl rfl ?_
          refine jj_iload_n hk (pc := 39) dX0_oneOf_39 1 rfl rfl ?_
          refine jj_iconst hk (pc := 40) (v := (1 : Int32)) dX0_oneOf_40 (by decide) ?_
          refine jj_iadd hk (pc := 41) dX0_oneOf_41 ?_
          refine kx_X0_0_cond hk hH hK ht (pc := 42) (a0 := (a0 + (1 : Int32))) (fun r h => cc_f0_cond l hH N (f0_oneOf N D) (9 * D) (277 * D) hk_oneOf r4.2 d (a0 + (1 : Int32)) r h) dX0_oneOf_42 ⟨by omega, by omega⟩ (Nat.le_of_ble_eq_true rfl) (fun r7 => ?_)
          refine jj_astore_n hk (pc := 45) [(2, .ref r7.1), (0, .ref (ha G 0)), (1, .int a0)] dX0_oneOf_45 rfl (Nat.le_of_ble_eq_true rfl) rfl ?_
          refine jj_aload_n hk (pc := 46) dX0_oneOf_46 1 rfl rfl ?_
          refine js_ldcw hk hH hK (pc := 47) 16 (by decide) rfl dX0_oneOf_47 ?_
          refine kx_X0_0_want hk hH hK ht (pc := 50) (a0 := 16) (fun r h => cc_f0_want l hH N r7.2.1 r7.2.2 16 r h) dX0_oneOf_50 ⟨by omega, by omega⟩ (Nat.le_of_ble_eq_true rfl) (fun r8 => ?_)
          refine jj_aload_n hk (pc := 53) dX0_oneOf_53 0 rfl rfl ?_
          exact jx_retUa hk (pc := 54) (Or.inl ⟨_, rfl⟩) dX0_oneOf_54
    · refine ja_new (ci := 12) (fs := [.null]) hk hH hK (pc := 10) in_X14 tyX14 tyX14_ok q822 q823 q139 rfl (fun j hj => match j, hj with | 0, _ => rfl | n + 1, h => absurd h (by omega)) (by decide) dX0_oneOf_10 (fun d9 => ?_)
      refine jj_dup hk (pc := 13) dX0_oneOf_13 rfl ?_
      refine jj_aload_n hk (pc := 14) dX0_oneOf_14 0 rfl rfl ?_
      refine jj_iload_n hk (pc := 15) dX0_oneOf_15 1 rfl rfl ?_
      refine kx_X0_0_oneOf hk hH hK ht (pc := 16) (a0 := a0) (hk_oneOf r1.2 d9 a0) dX0_oneOf_16 ⟨by omega, by omega⟩ (Nat.le_of_ble_eq_true rfl) (fun r10 => ?_)
      refine kc_X0_14_init hk hH hK (pc := 19) (q0 := d.2) (a0 := r10.1) (fun r h => cc_f14_init l hH r10.2.1 r10.2.2 d.2 r10.1 r h) dX0_oneOf_19 ⟨by omega, by omega⟩ (Nat.le_of_ble_eq_true rfl) (fun r11 => ?_)
      exact jx_retUa hk (pc := 22) (Or.inl ⟨_, rfl⟩) dX0_oneOf_22
end
section
variable {p : Program} {l : Launch} {e : Env} {R : Room} {s : State} {m : MethodId} {args : Array Value} {below : List Frame} {meth : Method} {c : Code}
variable {G : cG} {KK : State → Prop}
set_option maxHeartbeats 4000000 in
theorem cc_f0_upTo (l : Launch) {G : cG} {KK : State → Prop} (hH : cH G KK) (N : Nat) (σ : SS) (d : DS) (a0 : Int32) (res : (XR (Int32 × SS × DS))) (hf : f0_upTo N σ d a0 = some res) : jMX l yX0_upTo (ws_ yX0_upTo cX0_upTo 4 (some .int)) 4 143 [.ref (ha G 0), .int a0] G KK (σ, d) xnA (jUa (fun x : Int32 => .int x)) res := by
  refine jx_start [(0, .ref (ha G 0)), (1, .int a0)] (by decide) (Nat.le_of_ble_eq_true rfl) rfl (fun p e R s m args below meth c hk hK ht => ?_) hf
  have hk : jk p R s m args meth c (xnx xnA res) cX0_upTo 4 RX0 4 143 (some .int) := hk
  unfold f0_upTo
  refine jj_aload_n hk (pc := 0) dX0_upTo_0 0 rfl rfl ?_
  refine jc_g_at hk hH hK (pc := 1) dX0_upTo_1 ?_
  refine jj_istore_n hk (pc := 4) [(2, .int (σ.1 42)), (0, .ref (ha G 0)), (1, .int a0)] dX0_upTo_4 rfl (Nat.le_of_ble_eq_true rfl) rfl ?_
  refine jj_aload_n hk (pc := 5) dX0_upTo_5 1 rfl rfl ?_
  refine kx_X0_0_figure hk hH hK ht (pc := 6)  (fun r h => cc_f0_figure l hH N σ d r h) dX0_upTo_6 ⟨Nat.le_of_ble_eq_true rfl, Nat.le_of_ble_eq_true rfl⟩ (Nat.le_of_ble_eq_true rfl) (fun r1 => ?_)
  refine jj_istore_n hk (pc := 9) [(3, .int r1.1), (2, .int (σ.1 42)), (0, .ref (ha G 0)), (1, .int a0)] dX0_upTo_9 rfl (Nat.le_of_ble_eq_true rfl) rfl ?_
  refine jj_iload_n hk (pc := 10) dX0_upTo_10 0 rfl rfl ?_
  refine jj_iload_n hk (pc := 11) dX0_upTo_11 3 rfl rfl ?_
  refine jj_icmp_le hk (pc := 12) 24 dX0_upTo_12 (by decide) ?_ ?_
  · refine jj_iload_n hk (pc := 24) dX0_upTo_24 0 rfl rfl ?_
    exact jx_retUi hk (pc := 25) dX0_upTo_25
  · refine jj_aload_n hk (pc := 15) dX0_upTo_15 2 rfl rfl ?_
    refine jc_g_fault hk hH hK (pc := 16) dX0_upTo_16 ?_
    refine jj_iload_n hk (pc := 19) dX0_upTo_19 1 rfl rfl ?_
    refine kc_of2 hk hH hK (pc := 20) dX0_upTo_20 ⟨Nat.le_of_ble_eq_true rfl, Nat.le_of_ble_eq_true rfl⟩ (Nat.le_of_ble_eq_true rfl) (fun σ2 => ?_)
    exact jx_athrow hk hH hK ht (pc := 23) (Or.inr rfl) dX0_upTo_23
end
section
variable {p : Program} {l : Launch} {e : Env} {R : Room} {s : State} {m : MethodId} {args : Array Value} {below : List Frame} {meth : Method} {c : Code}
variable {G : cG} {KK : State → Prop}
set_option maxHeartbeats 4000000 in
theorem wb_f0_rule_B37 {res : (XR (Nat × SS × DS))} (hk : jk p R s m args meth c (xnx xnA res) cX0_rule 5 RX0 657 20221 (some (.object "LeftUndoes$Rule"))) (hH : cH G KK) (hK : KK s) (ht : ∀ x ∈ c.exceptionTable.toList, False) (N : Nat) (σ : SS) (d : DS) (x1 : Int32) (y0 : Option Nat) : jj p l e R s m args below meth c (hA G) (xnx xnA res) (jZX below args s G xnA (jUa (fun x : Nat => .ref x)) res) (cWo G d) (cnx d) 5 σ 37 [(0, .ref (ha G 0)), (1, .int x1)] [va_rf y0] (f0_rule_B37 N σ d x1 y0 = some res) := by
  unfold f0_rule_B37
  refine jj_astore_no hk (pc := 37) (x := y0) [(2, va_rf y0), (0, .ref (ha G 0)), (1, .int x1)] dX0_rule_37 rfl (Nat.le_of_ble_eq_true rfl) rfl ?_
  refine jj_aload_n hk (pc := 38) dX0_rule_38 1 rfl rfl ?_
  refine jj_aload_n hk (pc := 39) dX0_rule_39 1 rfl rfl ?_
  refine jc_g_doings hk hH hK (pc := 40) dX0_rule_40 ?_
  refine kc_X0_0_nameOf hk hH hK (pc := 43) (a0 := 1) (fun r h => cc_f0_nameOf l hH d N σ 1 r h) dX0_rule_43 ⟨Nat.le_of_ble_eq_true rfl, Nat.le_of_ble_eq_true rfl⟩ (Nat.le_of_ble_eq_true rfl) (fun r1 => ?_)
  refine jj_istore_n hk (pc := 46) [(3, .int r1.1), (2, va_rf y0), (0, .ref (ha G 0)), (1, .int x1)] dX0_rule_46 rfl (Nat.le_of_ble_eq_true rfl) (by cases y0 <;> rfl) ?_
  refine jj_iload_n hk (pc := 47) dX0_rule_47 0 rfl rfl ?_
  refine jj_if_ge hk (pc := 48) 56 dX0_rule_48 (by decide) ?_ ?_
  · refine jj_iload_n hk (pc := 56) dX0_rule_56 0 rfl rfl ?_
    refine jj_iconst hk (pc := 57) (v := (2 : Int32)) dX0_rule_57 (by decide) ?_
    refine jj_icmp_ne hk (pc := 58) 65 dX0_rule_58 (by decide) ?_ ?_
    · refine jj_aload_n hk (pc := 65) dX0_rule_65 2 rfl rfl ?_
      refine jj_bipush hk (pc := 66) (v := (99 : Int32)) dX0_rule_66 (by decide) ?_
      refine kx_X0_0_upTo hk hH hK ht (pc := 68) (a0 := (99 : Int32)) (fun r h => cc_f0_upTo l hH N r1.2 d (99 : Int32) r h) dX0_rule_68 ⟨Nat.le_of_ble_eq_true rfl, Nat.le_of_ble_eq_true rfl⟩ (Nat.le_of_ble_eq_true rfl) (fun r2 => ?_)
      refine jj_istore hk (pc := 71) [(4, .int r2.1), (3, .int r1.1), (2, va_rf y0), (0, .ref (ha G 0)), (1, .int x1)] dX0_rule_71 (Nat.le_of_ble_eq_true rfl) rfl ?_
      refine jj_aload_n hk (pc := 73) dX0_rule_73 3 rfl rfl ?_
      refine js_ldcw hk hH hK (pc := 74) 20 (by decide) rfl dX0_rule_74 ?_
      refine kx_X0_0_want hk hH hK ht (pc := 77) (a0 := 20) (fun r h => cc_f0_want l hH N r2.2.1 r2.2.2 20 r h) dX0_rule_77 ⟨Nat.le_of_ble_eq_true rfl, Nat.le_of_ble_eq_true rfl⟩ (Nat.le_of_ble_eq_true rfl) (fun r3 => ?_)
      refine ja_new (ci := 17) (fs := [.int 0, .int 0, .int 0, .null]) hk hH hK (pc := 80) in_X19 tyX19 tyX19_ok q723 q911 q144 rfl (fun j hj => match j, hj with | 0, _ => rfl | 1, _ => rfl | 2, _ => rfl | 3, _ => rfl | n + 4, h => absurd h (by omega)) (by decide) dX0_rule_80 (fun d4 => ?_)
      refine jj_dup hk (pc := 83) dX0_rule_83 rfl ?_
      refine jj_iload_n hk (pc := 84) dX0_rule_84 4 rfl rfl ?_
      refine jj_aload_no hk (pc := 85) (x := y0) dX0_rule_85 2 rfl rfl ?_
      refine jj_iload_n hk (pc := 86) dX0_rule_86 1 rfl rfl ?_
      refine jj_iload hk (pc := 87) dX0_rule_87 0 rfl ?_
      refine kc_X0_19_init hk hH hK (pc := 89) (q0 := r3.2.2) (a0 := x1) (a1 := y0) (a2 := r1.1) (a3 := r2.1) (fun r h => cc_f19_init l hH r3.1 d4 r3.2.2 x1 y0 r1.1 r2.1 r h) dX0_rule_89 ⟨Nat.le_of_ble_eq_true rfl, Nat.le_of_ble_eq_true rfl⟩ (Nat.le_of_ble_eq_true rfl) (fun r5 => ?_)
      exact jx_retUa hk (pc := 92) (Or.inl ⟨_, rfl⟩) dX0_rule_92
    · refine jj_iconst hk (pc := 61) (v := (0 : Int32)) dX0_rule_61 (by decide) ?_
      refine jj_goto hk (pc := 62) 71 dX0_rule_62 (by decide) ?_
      refine jj_istore hk (pc := 71) [(4, .int (0 : Int32)), (3, .int r1.1), (2, va_rf y0), (0, .ref (ha G 0)), (1, .int x1)] dX0_rule_71 (Nat.le_of_ble_eq_true rfl) rfl ?_
      refine jj_aload_n hk (pc := 73) dX0_rule_73 3 rfl rfl ?_
      refine js_ldcw hk hH hK (pc := 74) 20 (by decide) rfl dX0_rule_74 ?_
      refine kx_X0_0_want hk hH hK ht (pc := 77) (a0 := 20) (fun r h => cc_f0_want l hH N r1.2 d 20 r h) dX0_rule_77 ⟨Nat.le_of_ble_eq_true rfl, Nat.le_of_ble_eq_true rfl⟩ (Nat.le_of_ble_eq_true rfl) (fun r6 => ?_)
      refine ja_new (ci := 17) (fs := [.int 0, .int 0, .int 0, .null]) hk hH hK (pc := 80) in_X19 tyX19 tyX19_ok q723 q911 q144 rfl (fun j hj => match j, hj with | 0, _ => rfl | 1, _ => rfl | 2, _ => rfl | 3, _ => rfl | n + 4, h => absurd h (by omega)) (by decide) dX0_rule_80 (fun d7 => ?_)
      refine jj_dup hk (pc := 83) dX0_rule_83 rfl ?_
      refine jj_iload_n hk (pc := 84) dX0_rule_84 4 rfl rfl ?_
      refine jj_aload_no hk (pc := 85) (x := y0) dX0_rule_85 2 rfl rfl ?_
      refine jj_iload_n hk (pc := 86) dX0_rule_86 1 rfl rfl ?_
      refine jj_iload hk (pc := 87) dX0_rule_87 0 rfl ?_
      refine kc_X0_19_init hk hH hK (pc := 89) (q0 := r6.2.2) (a0 := x1) (a1 := y0) (a2 := r1.1) (a3 := (0 : Int32)) (fun r h => cc_f19_init l hH r6.1 d7 r6.2.2 x1 y0 r1.1 (0 : Int32) r h) dX0_rule_89 ⟨Nat.le_of_ble_eq_true rfl, Nat.le_of_ble_eq_true rfl⟩ (Nat.le_of_ble_eq_true rfl) (fun r8 => ?_)
      exact jx_retUa hk (pc := 92) (Or.inl ⟨_, rfl⟩) dX0_rule_92
  · refine jj_aload_n hk (pc := 51) dX0_rule_51 2 rfl rfl ?_
    refine kc_faultHere hk hH hK (pc := 52) dX0_rule_52 ⟨Nat.le_of_ble_eq_true rfl, Nat.le_of_ble_eq_true rfl⟩ (Nat.le_of_ble_eq_true rfl) (fun σ9 => ?_)
    exact jx_athrow hk hH hK ht (pc := 55) (Or.inr rfl) dX0_rule_55
set_option maxHeartbeats 4000000 in
theorem cc_f0_rule (l : Launch) {G : cG} {KK : State → Prop} (hH : cH G KK) (N : Nat) (σ : SS) (d : DS)  (res : (XR (Nat × SS × DS))) (hf : f0_rule N σ d = some res) : jMX l yX0_rule (ws_ yX0_rule cX0_rule 5 (some (.object "LeftUndoes$Rule"))) 657 20221 [.ref (ha G 0)] G KK (σ, d) xnA (jUa (fun x : Nat => .ref x)) res := by
  refine jx_start [(0, .ref (ha G 0))] (by decide) (Nat.le_of_ble_eq_true rfl) rfl (fun p e R s m args below meth c hk hK ht => ?_) hf
  have hk : jk p R s m args meth c (xnx xnA res) cX0_rule 5 RX0 657 20221 (some (.object "LeftUndoes$Rule")) := hk
  unfold f0_rule
  refine jj_aload_n hk (pc := 0) dX0_rule_0 0 rfl rfl ?_
  refine jj_aload_n hk (pc := 1) dX0_rule_1 0 rfl rfl ?_
  refine jc_g_kindNames hk hH hK (pc := 2) dX0_rule_2 ?_
  refine kc_X0_0_nameOf hk hH hK (pc := 5) (a0 := 0) (fun r h => cc_f0_nameOf l hH d N σ 0 r h) dX0_rule_5 ⟨Nat.le_of_ble_eq_true rfl, Nat.le_of_ble_eq_true rfl⟩ (Nat.le_of_ble_eq_true rfl) (fun r1 => ?_)
  refine jj_istore_n hk (pc := 8) [(1, .int r1.1), (0, .ref (ha G 0))] dX0_rule_8 rfl (Nat.le_of_ble_eq_true rfl) rfl ?_
  refine jj_iload_n hk (pc := 9) dX0_rule_9 0 rfl rfl ?_
  refine jj_if_ge hk (pc := 10) 18 dX0_rule_10 (by decide) ?_ ?_
  · refine jj_aload_n hk (pc := 18) dX0_rule_18 1 rfl rfl ?_
    refine js_ldcw hk hH hK (pc := 19) 19 (by decide) rfl dX0_rule_19 ?_
    refine kc_X0_0_goesOn hk hH hK (pc := 22) (a0 := 19) (fun r h => cc_f0_goesOn l hH d N r1.2 19 r h) dX0_rule_22 ⟨Nat.le_of_ble_eq_true rfl, Nat.le_of_ble_eq_true rfl⟩ (Nat.le_of_ble_eq_true rfl) (fun r2 => ?_)
    refine jj_if_eq_b hk (pc := 25) 36 dX0_rule_25 (by decide) ?_ ?_
    · refine jj_null hk (pc := 36) dX0_rule_36 ?_
      refine jj_loc [(0, .ref (ha G 0)), (1, .int r1.1)] [1, 0] rfl ?_
      exact wb_f0_rule_B37 hk hH hK ht N r2.2 d r1.1 none
    · refine jj_aload_n hk (pc := 28) dX0_rule_28 1 rfl rfl ?_
      refine jj_iconst hk (pc := 29) (v := (0 : Int32)) dX0_rule_29 (by decide) ?_
      refine kx_X0_0_cond hk hH hK ht (pc := 30) (a0 := (0 : Int32)) (fun r h => cc_f0_cond l hH N (f0_oneOf N 72) (9 * 72) (277 * 72) (fun σ d b0 r h => cc_f0_oneOf l hH N 72 σ d b0 r h) r2.2 d (0 : Int32) r h) dX0_rule_30 ⟨Nat.le_of_ble_eq_true rfl, Nat.le_of_ble_eq_true rfl⟩ (Nat.le_of_ble_eq_true rfl) (fun r3 => ?_)
      refine jj_goto hk (pc := 33) 37 dX0_rule_33 (by decide) ?_
      refine jj_loc [(0, .ref (ha G 0)), (1, .int r1.1)] [1, 0] rfl ?_
      exact wb_f0_rule_B37 hk hH hK ht N r3.2.1 r3.2.2 r1.1 (some r3.1)
  · refine jj_aload_n hk (pc := 13) dX0_rule_13 1 rfl rfl ?_
    refine kc_faultHere hk hH hK (pc := 14) dX0_rule_14 ⟨Nat.le_of_ble_eq_true rfl, Nat.le_of_ble_eq_true rfl⟩ (Nat.le_of_ble_eq_true rfl) (fun σ4 => ?_)
    exact jx_athrow hk hH hK ht (pc := 17) (Or.inr rfl) dX0_rule_17
end
