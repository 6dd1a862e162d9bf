/-! THE COMPONENT's METHODS that make cells, printed by gen/gen3.py -/
set_option maxRecDepth 100000
def f7_init (σ : SS) (d : DS) (q0 : Nat) (a0 : Int32) (a1 : Int32) : Option (SS × DS) := (dPutH d 0 q0 (.int a0)).bind fun d1 => (dPutH d1 1 q0 (.int a1)).bind fun d2 => some (σ, d2)
def f8_init (σ : SS) (d : DS) (q0 : Nat) (a0 : Int32) (a1 : Int32) : Option (SS × DS) := (dMonV d (f7_init σ d q0 a0 a1)).bind fun r1 => some (r1.1, r1.2)
def f9_init (σ : SS) (d : DS) (q0 : Nat) (a0 : Int32) (a1 : Int32) : Option (SS × DS) := (dMonV d (f7_init σ d q0 a0 a1)).bind fun r1 => some (r1.1, r1.2)
def f10_init (σ : SS) (d : DS) (q0 : Nat) (a0 : Int32) (a1 : Int32) : Option (SS × DS) := (dMonV d (f9_init σ d q0 a0 a1)).bind fun r1 => some (r1.1, r1.2)
def f11_init (σ : SS) (d : DS) (q0 : Nat) (a0 : Int32) (a1 : Int32) : Option (SS × DS) := (dMonV d (f7_init σ d q0 a0 a1)).bind fun r1 => some (r1.1, r1.2)
def f12_init (σ : SS) (d : DS) (q0 : Nat) (a0 : Int32) (a1 : Int32) : Option (SS × DS) := (dMonV d (f11_init σ d q0 a0 a1)).bind fun r1 => some (r1.1, r1.2)
def f15_init (σ : SS) (d : DS) (q0 : Nat) (a0 : Int32) (a1 : Int32) : Option (SS × DS) := (dPut d 16 0 q0 (.int a0)).bind fun d1 => (dPut d1 16 1 q0 (.int a1)).bind fun d2 => some (σ, d2)
def f13_init (σ : SS) (d : DS) (q0 : Nat) : Option (SS × DS) := some (σ, d)
def f14_init (σ : SS) (d : DS) (q0 : Nat) (a0 : Nat) : Option (SS × DS) := (dMonV d (f13_init σ d q0)).bind fun r1 => (dPut r1.2 12 0 q0 (.ref a0)).bind fun d2 => some (r1.1, d2)
def f16_init (σ : SS) (d : DS) (q0 : Nat) (a0 : Nat) (a1 : Int32) (a2 : Nat) : Option (SS × DS) := (dMonV d (f13_init σ d q0)).bind fun r1 => (dPut r1.2 13 0 q0 (.ref a0)).bind fun d2 => (dPut d2 13 2 q0 (.int a1)).bind fun d3 => (dPut d3 13 1 q0 (.ref a2)).bind fun d4 => some (r1.1, d4)
def f17_init (σ : SS) (d : DS) (q0 : Nat) (a0 : Nat) (a1 : Nat) : Option (SS × DS) := (dMonV d (f13_init σ d q0)).bind fun r1 => (dPutA r1.2 0 q0 (.ref a0)).bind fun d2 => (dPutA d2 1 q0 (.ref a1)).bind fun d3 => some (r1.1, d3)
def f18_init (σ : SS) (d : DS) (q0 : Nat) (a0 : Nat) (a1 : Nat) : Option (SS × DS) := (dMonV d (f17_init σ d q0 a0 a1)).bind fun r1 => some (r1.1, r1.2)
def f19_init (σ : SS) (d : DS) (q0 : Nat) (a0 : Int32) (a1 : Option Nat) (a2 : Int32) (a3 : Int32) : Option (SS × DS) := (dPut d 17 0 q0 (.int a0)).bind fun d1 => (dPut d1 17 3 q0 (va_rf a1)).bind fun d2 => (dPut d2 17 1 q0 (.int a2)).bind fun d3 => (dPut d3 17 2 q0 (.int a3)).bind fun d4 => some (σ, d4)
def f0_made (σ : SS) (d : DS) (a0 : Int32) (a1 : Int32) (a2 : Int32) : Option (Nat × SS × DS) := (if a0 = (1 : Int32) then (some (dNew d 7 [.int 0, .int 0])).bind fun d1 => (dMonV d1 (f8_init σ d1 d.2 a1 a2)).bind fun r2 => some (d.2, r2.1, r2.2) else (if a0 = (2 : Int32) then (some (dNew d 8 [.int 0, .int 0])).bind fun d3 => (dMonV d3 (f9_init σ d3 d.2 a1 a2)).bind fun r4 => some (d.2, r4.1, r4.2) else (if a0 = (3 : Int32) then (some (dNew d 9 [.int 0, .int 0])).bind fun d5 => (dMonV d5 (f10_init σ d5 d.2 a1 a2)).bind fun r6 => some (d.2, r6.1, r6.2) else (if a0 = (4 : Int32) then (some (dNew d 10 [.int 0, .int 0])).bind fun d7 => (dMonV d7 (f11_init σ d7 d.2 a1 a2)).bind fun r8 => some (d.2, r8.1, r8.2) else (some (dNew d 11 [.int 0, .int 0])).bind fun d9 => (dMonV d9 (f12_init σ d9 d.2 a1 a2)).bind fun r10 => some (d.2, r10.1, r10.2)))))
def f0_renew (σ : SS) (d : DS) (a0 : Int32) : Option (SS × DS) := (ldC σ 0 a0).bind fun v1 => (ldC σ 1 a0).bind fun v2 => (dMon d (f0_made σ d v1 a0 v2)).bind fun r3 => (stH r3.2.2 r3.2.1 0 a0 r3.1).bind fun σ4 => some (σ4, r3.2.2)
def f0_person (σ : SS) (d : DS) (a0 : Int32) (a1 : Int32) (a2 : Int32) : Option (Int32 × SS × DS) := (f0_isKind a0).bind fun r1 => (if r1 = true then (f0_isPart a1).bind fun r2 => (if r2 = true then (f0_isPart a2).bind fun r3 => (if r3 = true then (if (σ.1 0) = (6 : Int32) then some ((-2 : Int32), σ, d) else (stC σ 0 (σ.1 0) a0).bind fun σ4 => (stC σ4 1 (σ.1 0) a1).bind fun σ5 => (stC σ5 2 (σ.1 0) a2).bind fun σ6 => (some (sI σ6 0 ((σ6.1 0) + (1 : Int32)))).bind fun σ7 => (dMonV d (f0_renew σ7 d (σ.1 0))).bind fun r8 => some (σ.1 0, r8.1, r8.2)) else some ((-1 : Int32), σ, d)) else some ((-1 : Int32), σ, d)) else some ((-1 : Int32), σ, d))
def f0_change (σ : SS) (d : DS) (a0 : Int32) (a1 : Int32) (a2 : Int32) : Option (Int32 × SS × DS) := (f0_isPerson σ a0).bind fun r1 => (if r1 = true then (f0_isIn a1 (1 : Int32) (2 : Int32)).bind fun r2 => (if r2 = true then (f0_isPart a2).bind fun r3 => (if r3 = true then (if a1 = (1 : Int32) then (ldC σ 1 a0).bind fun v7 => (stC σ 1 a0 a2).bind fun σ8 => (dMonV d (f0_renew σ8 d a0)).bind fun r9 => some (v7, r9.1, r9.2) else (ldC σ 2 a0).bind fun v4 => (stC σ 2 a0 a2).bind fun σ5 => (dMonV d (f0_renew σ5 d a0)).bind fun r6 => some (v4, r6.1, r6.2)) else some ((-1 : Int32), σ, d)) else some ((-1 : Int32), σ, d)) else some ((-1 : Int32), σ, d))
def f0_remake (σ : SS) (d : DS) (a0 : Int32) (a1 : Int32) : Option (Int32 × SS × DS) := (f0_isPerson σ a0).bind fun r1 => (if r1 = true then (f0_isKind a1).bind fun r2 => (if r2 = true then (ldC σ 0 a0).bind fun v3 => (stC σ 0 a0 a1).bind fun σ4 => (dMonV d (f0_renew σ4 d a0)).bind fun r5 => some (v3, r5.1, r5.2) else some ((-1 : Int32), σ, d)) else some ((-1 : Int32), σ, d))
def f0_again_L23 (N : Nat)  : Nat → SS → DS → Int32 → Option (Int32 × SS × DS)
  | 0, _, _, _ => none
  | n + 1, σ, d, x1 => (if (σ.1 0) ≤ x1 then some (σ.1 0, σ, d) else (dMonV d (f0_renew σ d x1)).bind fun r1 => f0_again_L23 N n r1.1 r1.2 (x1 + 1))
def f0_again (N : Nat) (σ : SS) (d : DS) : Option (Int32 × SS × DS) := (if (σ.1 36) = 0 then some ((-3 : Int32), σ, d) else (f3_become σ 0 1).bind fun r1 => f0_again_L23 N N r1 d (0 : Int32))
def f0_strange (σ : SS) (d : DS) (a0 : Int32) : Option (Nat × SS × DS) := (ldR σ 1 a0).bind fun o1 => (if o1.isNone = true then (dMon d (f0_made σ d ((1 : Int32) + (a0 / (9 : Int32))) (0 : Int32) ((1 : Int32) + (a0 - a0 / (9 : Int32) * (9 : Int32))))).bind fun r3 => (stH r3.2.2 r3.2.1 1 a0 r3.1).bind fun σ4 => (ldN σ4 1 a0).bind fun q5 => some (q5, σ4, r3.2.2) else (ldN σ 1 a0).bind fun q2 => some (q2, σ, d))
def f0_isSo_B62 (N : Nat)  (σ : SS) (d : DS) (x1 : Int32) (x4 : Int32) : Option (Bool × SS × DS) := (ldC σ 11 x1).bind fun v1 => (if v1 < x4 then (ldC σ 12 x1).bind fun v2 => (if (0 : Int32) = v2 then some (true, σ, d) else some (false, σ, d)) else (if (31 : Int32) < x4 then (ldC σ 12 x1).bind fun v3 => (if (0 : Int32) = v3 then some (true, σ, d) else some (false, σ, d)) else (ldC σ 12 x1).bind fun v4 => (if (1 : Int32) = v4 then some (true, σ, d) else some (false, σ, d))))
def f0_isSo_L25 (N : Nat)  : Nat → SS → DS → Int32 → Int32 → Nat → Int32 → Option (Bool × SS × DS)
  | 0, _, _, _, _, _, _ => none
  | n + 1, σ, d, x1, x2, x3, x4 => (if (31 : Int32) < x4 then f0_isSo_B62 N σ d x1 x4 else (hPull d x3 ((1 : Int32) + (x2 - x2 / (9 : Int32) * (9 : Int32))) x4).bind fun r1 => (ldC σ 9 x1).bind fun v2 => (if v2 ≤ r1 then f0_isSo_B62 N σ d x1 x4 else f0_isSo_L25 N n σ d x1 x2 x3 (x4 + 1)))
def f0_isSo (N : Nat) (σ : SS) (d : DS) (a0 : Int32) (a1 : Int32) : Option (Bool × SS × DS) := (dMon d (f0_strange σ d (a1 / (9 : Int32)))).bind fun r1 => (ldC r1.2.1 10 a0).bind fun v2 => (hTerm r1.2.2 r1.1).bind fun r3 => f0_isSo_L25 N N r1.2.1 r1.2.2 a0 a1 r1.1 (v2 + r3)
def f0_fitsBut_L13 (N : Nat) (k6 : SS → DS → Int32 → Int32 → Int32 → Option (Int32 × SS × DS)) : Nat → SS → DS → Int32 → Int32 → Int32 → Int32 → Option (Int32 × SS × DS)
  | 0, _, _, _, _, _, _ => none
  | n + 1, σ, d, x1, x2, x3, x4 => (if (σ.1 5) ≤ x4 then (some (sI σ 56 x3)).bind fun σ1 => k6 σ1 d x1 (x2 + 1) (x3 + (-1)) else (if x4 = x1 then f0_fitsBut_L13 N k6 n σ d x1 x2 x3 (x4 + 1) else (dMon d (f0_isSo N σ d x4 x3)).bind fun r2 => (if r2.1 = true then f0_fitsBut_L13 N k6 n r2.2.1 r2.2.2 x1 x2 x3 (x4 + 1) else k6 r2.2.1 r2.2.2 x1 x2 (x3 + (-1)))))
def f0_fitsBut_L6 (N : Nat)  : Nat → SS → DS → Int32 → Int32 → Int32 → Option (Int32 × SS × DS)
  | 0, _, _, _, _, _ => none
  | n + 1, σ, d, x1, x2, x3 => (if x3 < 0 then some (x2, σ, d) else f0_fitsBut_L13 N (f0_fitsBut_L6 N n) N σ d x1 x2 x3 (0 : Int32))
def f0_fitsBut (N : Nat) (σ : SS) (d : DS) (a0 : Int32) : Option (Int32 × SS × DS) := f0_fitsBut_L6 N N σ d a0 (0 : Int32) (404 : Int32)
def f0_span (N : Nat) (σ : SS) (d : DS) (a0 : Int32) : Option (Int32 × SS × DS) := (f0_isIn a0 (0 : Int32) (3 : Int32)).bind fun r1 => (if r1 = true then (dMon d (f0_fitsBut N σ d (-1 : Int32))).bind fun r2 => (if a0 = 0 then some (r2.1, r2.2.1, r2.2.2) else (if r2.1 = 0 then some ((-3 : Int32), r2.2.1, r2.2.2) else (if a0 = (1 : Int32) then some ((1 : Int32) + ((r2.2.1.1 56) / (81 : Int32)), r2.2.1, r2.2.2) else (if a0 = (2 : Int32) then some ((1 : Int32) + (((r2.2.1.1 56) / (9 : Int32)) - ((r2.2.1.1 56) / (9 : Int32)) / (9 : Int32) * (9 : Int32)), r2.2.1, r2.2.2) else some ((1 : Int32) + ((r2.2.1.1 56) - (r2.2.1.1 56) / (9 : Int32) * (9 : Int32)), r2.2.1, r2.2.2))))) else some ((-1 : Int32), σ, d))
def f0_liar_L13 (N : Nat)  : Nat → SS → DS → Int32 → Option (Int32 × SS × DS)
  | 0, _, _, _ => none
  | n + 1, σ, d, x1 => (if (σ.1 5) ≤ x1 then (if (σ.1 5) ≤ x1 then some ((-3 : Int32), σ, d) else some (x1, σ, d)) else (dMon d (f0_fitsBut N σ d x1)).bind fun r1 => (if r1.1 = 0 then f0_liar_L13 N n r1.2.1 r1.2.2 (x1 + 1) else (if (r1.2.1.1 5) ≤ x1 then some ((-3 : Int32), r1.2.1, r1.2.2) else some (x1, r1.2.1, r1.2.2))))
def f0_liar (N : Nat) (σ : SS) (d : DS) : Option (Int32 × SS × DS) := (dMon d (f0_fitsBut N σ d (-1 : Int32))).bind fun r1 => (if r1.1 ≤ 0 then f0_liar_L13 N N r1.2.1 r1.2.2 (0 : Int32) else some ((-3 : Int32), r1.2.1, r1.2.2))
def f20_init (σ : SS) (d : DS) (q0 : Nat) (a0 : Int32) : Option (SS × DS) := (dPut d 18 0 q0 (.int a0)).bind fun d1 => some (σ, d1)
def f0_shelf_B28   (σ : SS) (d : DS) (x1 : Int32) (x2 : Int32) (x3 : Int32) : Option (Int32 × SS × DS) := (if x2 = 0 then (f0_isPerson σ x3).bind fun r8 => (if r8 = true then (ldS x1).bind fun i9 => (if x2 = 0 then (some (dNew d 18 [.int 0])).bind fun d13 => (dMonV d13 (f20_init σ d13 d.2 x3)).bind fun r14 => (some (sF r14.1 (3 + i9) (some d.2))).bind fun σ15 => some ((1 : Int32), σ15, r14.2) else (if x2 = (1 : Int32) then (ldS x3).bind fun i11 => (some (sF σ (3 + i9) (σ.2.2.1 (7 + i11)))).bind fun σ12 => some ((1 : Int32), σ12, d) else (some (sF σ (3 + i9) none)).bind fun σ10 => some ((1 : Int32), σ10, d))) else some ((-1 : Int32), σ, d)) else (ldS x1).bind fun i1 => (if x2 = 0 then (some (dNew d 18 [.int 0])).bind fun d5 => (dMonV d5 (f20_init σ d5 d.2 x3)).bind fun r6 => (some (sF r6.1 (3 + i1) (some d.2))).bind fun σ7 => some ((1 : Int32), σ7, r6.2) else (if x2 = (1 : Int32) then (ldS x3).bind fun i3 => (some (sF σ (3 + i1) (σ.2.2.1 (7 + i3)))).bind fun σ4 => some ((1 : Int32), σ4, d) else (some (sF σ (3 + i1) none)).bind fun σ2 => some ((1 : Int32), σ2, d))))
def f0_shelf (σ : SS) (d : DS) (a0 : Int32) (a1 : Int32) (a2 : Int32) : Option (Int32 × SS × DS) := (f0_isShelf a0).bind fun r1 => (if r1 = true then (f0_isIn a1 (0 : Int32) (2 : Int32)).bind fun r2 => (if r2 = true then (if a1 = (1 : Int32) then (f0_isShelf a2).bind fun r3 => (if r3 = true then f0_shelf_B28 σ d a0 a1 a2 else some ((-1 : Int32), σ, d)) else f0_shelf_B28 σ d a0 a1 a2) else some ((-1 : Int32), σ, d)) else some ((-1 : Int32), σ, d))
section
variable {p : Program} {l : Launch} {e : Env} {R : Room} {s : State} {m : MethodId} {args : Array Value} {below : List Frame} {meth : Method} {c : Code}
variable {G : cG} {d : DS} {KK : State → Prop}
variable {NX : Nat} {Q : State → Prop} {nL : Nat} {cc : ByteArray} {fr lo frc loc : Nat} {ret : Option FieldType}
variable {pc : Nat} {σ : SS} {lv : List (Nat × Value)} {st : List Value} {ρ : Type} {res : ρ}
theorem kc_X0_0_fitsBut (hk : jk p R s m args meth c NX cc nL RX0 fr lo ret) (hH : cH G KK) (hK : KK s) {a0 : Int32} {F : Option (Int32 × SS × DS)} {K : (Int32 × SS × DS) → Option ρ} (hM : ∀ r, F = some r → jM l yX0_fitsBut (ws_ yX0_fitsBut cX0_fitsBut 5 (some .int)) frc loc [.ref (ha G 0), .int a0] (aWo G) anx KK (σ, d) (jUa (fun x : Int32 => .int x) r) (hA G) r.2.2.2) (hd : decode cc pc = .ok (.invokevirtual 496, 3)) (hr : frc + 1 ≤ fr ∧ 8 + (5 + 11) + loc ≤ lo) (hw : (st.map fun v => v.category).sum ≤ 8) (kk : ∀ r, jj p l e R s m args below meth c (hA G) NX Q (cWo G r.2.2) (cnx r.2.2) nL r.2.1 (pc + 3) lv (.int r.1 :: st) (K r = some res)) : jj p l e R s m args below meth c (hA G) NX Q (cWo G d) (cnx d) nL σ pc lv (.int a0 :: .ref (ha G 0) :: st) ((dMon d F).bind K = some res) :=
  ja_VUi (n := 1) hk hH hK [.int a0] hM (lw_V q1130 q1132 qs43 q118 q1133) (cRv_at (q := (RX0, TX0, 32)) (ci := 1) (q0 := 0) hH hK rfl rfl) (by decide +kernel) rfl rfl hd hr hw kk
theorem kc_X0_0_isKind (hk : jk p R s m args meth c NX cc nL RX0 fr lo ret) (hH : cH G KK) (hK : KK s) {a0 : Int32} {F : Option Bool} {K : Bool → Option ρ} (hM : ∀ r, F = some r → jM l yX0_isKind (ws_ yX0_isKind cX0_isKind 1 (some .boolean)) frc loc [.int a0] (cWo G d) (cnx d) KK σ (jRz σ r) (hA G) d.2)  (hd : decode cc pc = .ok (.invokestatic 166, 3)) (hr : frc + 1 ≤ fr ∧ 8 + (1 + 11) + loc ≤ lo) (hw : (st.map fun v => v.category).sum ≤ 8) (kk : ∀ r, jj p l e R s m args below meth c (hA G) NX Q (cWo G d) (cnx d) nL σ (pc + 3) lv (.int (bI r) :: st) (K r = some res)) : jj p l e R s m args below meth c (hA G) NX Q (cWo G d) (cnx d) nL σ pc lv (.int a0 :: st) (F.bind K = some res) :=
  jc_SRz (n := 1) hk hH hK [.int a0] hM (lw_S q506 q507 q118 q508) (by decide +kernel) rfl rfl hd hr hw kk
theorem kc_X0_0_isShelf (hk : jk p R s m args meth c NX cc nL RX0 fr lo ret) (hH : cH G KK) (hK : KK s) {a0 : Int32} {F : Option Bool} {K : Bool → Option ρ} (hM : ∀ r, F = some r → jM l yX0_isShelf (ws_ yX0_isShelf cX0_isShelf 1 (some .boolean)) frc loc [.int a0] (cWo G d) (cnx d) KK σ (jRz σ r) (hA G) d.2)  (hd : decode cc pc = .ok (.invokestatic 518, 3)) (hr : frc + 1 ≤ fr ∧ 8 + (1 + 11) + loc ≤ lo) (hw : (st.map fun v => v.category).sum ≤ 8) (kk : ∀ r, jj p l e R s m args below meth c (hA G) NX Q (cWo G d) (cnx d) nL σ (pc + 3) lv (.int (bI r) :: st) (K r = some res)) : jj p l e R s m args below meth c (hA G) NX Q (cWo G d) (cnx d) nL σ pc lv (.int a0 :: st) (F.bind K = some res) :=
  jc_SRz (n := 1) hk hH hK [.int a0] hM (lw_S q1222 q1223 q118 q1224) (by decide +kernel) rfl rfl hd hr hw kk
theorem kc_X0_0_isSo (hk : jk p R s m args meth c NX cc nL RX0 fr lo ret) (hH : cH G KK) (hK : KK s) {a0 : Int32} {a1 : Int32} {F : Option (Bool × SS × DS)} {K : (Bool × SS × DS) → Option ρ} (hM : ∀ r, F = some r → jM l yX0_isSo (ws_ yX0_isSo cX0_isSo 5 (some .boolean)) frc loc [.ref (ha G 0), .int a0, .int a1] (aWo G) anx KK (σ, d) (jUa (fun x : Bool => .int (bI x)) r) (hA G) r.2.2.2) (hd : decode cc pc = .ok (.invokevirtual 490, 3)) (hr : frc + 1 ≤ fr ∧ 8 + (5 + 11) + loc ≤ lo) (hw : (st.map fun v => v.category).sum ≤ 8) (kk : ∀ r, jj p l e R s m args below meth c (hA G) NX Q (cWo G r.2.2) (cnx r.2.2) nL r.2.1 (pc + 3) lv (.int (bI r.1) :: st) (K r = some res)) : jj p l e R s m args below meth c (hA G) NX Q (cWo G d) (cnx d) nL σ pc lv (.int a1 :: .int a0 :: .ref (ha G 0) :: st) ((dMon d F).bind K = some res) :=
  ja_VUz (n := 2) hk hH hK [.int a0, .int a1] hM (lw_V q1134 q1136 qs44 q118 q1137) (cRv_at (q := (RX0, TX0, 32)) (ci := 1) (q0 := 0) hH hK rfl rfl) (by decide +kernel) rfl rfl hd hr hw kk
theorem kc_X0_0_made (hk : jk p R s m args meth c NX cc nL RX0 fr lo ret) (hH : cH G KK) (hK : KK s) {a0 : Int32} {a1 : Int32} {a2 : Int32} {F : Option (Nat × SS × DS)} {K : (Nat × SS × DS) → Option ρ} (hM : ∀ r, F = some r → jM l yX0_made (ws_ yX0_made cX0_made 3 (some (.object "LeftUndoes$Hand"))) frc loc [.int a0, .int a1, .int a2] (aWo G) anx KK (σ, d) (jUa (fun x : Nat => .ref x) r) (hA G) r.2.2.2) (hd : decode cc pc = .ok (.invokestatic 162, 3)) (hr : frc + 1 ≤ fr ∧ 8 + (3 + 11) + loc ≤ lo) (hw : (st.map fun v => v.category).sum ≤ 8) (kk : ∀ r, jj p l e R s m args below meth c (hA G) NX Q (cWo G r.2.2) (cnx r.2.2) nL r.2.1 (pc + 3) lv (.ref r.1 :: st) (K r = some res)) : jj p l e R s m args below meth c (hA G) NX Q (cWo G d) (cnx d) nL σ pc lv (.int a2 :: .int a1 :: .int a0 :: st) ((dMon d F).bind K = some res) :=
  ja_SUa (n := 3) hk hH hK [.int a0, .int a1, .int a2] hM (lw_S q519 q520 q118 q521) (by decide +kernel) rfl rfl hd hr hw kk
theorem kc_X0_0_renew (hk : jk p R s m args meth c NX cc nL RX0 fr lo ret) (hH : cH G KK) (hK : KK s) {a0 : Int32} {F : Option (SS × DS)} {K : (SS × DS) → Option ρ} (hM : ∀ r, F = some r → jM l yX0_renew (ws_ yX0_renew cX0_renew 2 none) frc loc [.ref (ha G 0), .int a0] (aWo G) anx KK (σ, d) (jVa r) (hA G) r.2.2) (hd : decode cc pc = .ok (.invokevirtual 175, 3)) (hr : frc + 1 ≤ fr ∧ 8 + (2 + 11) + loc ≤ lo) (hw : (st.map fun v => v.category).sum ≤ 8) (kk : ∀ r, jj p l e R s m args below meth c (hA G) NX Q (cWo G r.2) (cnx r.2) nL r.1 (pc + 3) lv st (K r = some res)) : jj p l e R s m args below meth c (hA G) NX Q (cWo G d) (cnx d) nL σ pc lv (.int a0 :: .ref (ha G 0) :: st) ((dMonV d F).bind K = some res) :=
  ja_VV (n := 1) hk hH hK [.int a0] hM (lw_V q515 q517 qs2 q118 q518) (cRv_at (q := (RX0, TX0, 32)) (ci := 1) (q0 := 0) hH hK rfl rfl) (by decide +kernel) rfl rfl hd hr hw kk
theorem kc_X0_0_strange (hk : jk p R s m args meth c NX cc nL RX0 fr lo ret) (hH : cH G KK) (hK : KK s) {a0 : Int32} {F : Option (Nat × SS × DS)} {K : (Nat × SS × DS) → Option ρ} (hM : ∀ r, F = some r → jM l yX0_strange (ws_ yX0_strange cX0_strange 2 (some (.object "LeftUndoes$Hand"))) frc loc [.ref (ha G 0), .int a0] (aWo G) anx KK (σ, d) (jUa (fun x : Nat => .ref x) r) (hA G) r.2.2.2) (hd : decode cc pc = .ok (.invokevirtual 486, 3)) (hr : frc + 1 ≤ fr ∧ 8 + (2 + 11) + loc ≤ lo) (hw : (st.map fun v => v.category).sum ≤ 8) (kk : ∀ r, jj p l e R s m args below meth c (hA G) NX Q (cWo G r.2.2) (cnx r.2.2) nL r.2.1 (pc + 3) lv (.ref r.1 :: st) (K r = some res)) : jj p l e R s m args below meth c (hA G) NX Q (cWo G d) (cnx d) nL σ pc lv (.int a0 :: .ref (ha G 0) :: st) ((dMon d F).bind K = some res) :=
  ja_VUa (n := 1) hk hH hK [.int a0] hM (lw_V q1138 q1140 qs45 q118 q1141) (cRv_at (q := (RX0, TX0, 32)) (ci := 1) (q0 := 0) hH hK rfl rfl) (by decide +kernel) rfl rfl hd hr hw kk
theorem kc_X0_10_init (hk : jk p R s m args meth c NX cc nL RX0 fr lo ret) (hH : cH G KK) (hK : KK s) {q0 : Nat} {a0 : Int32} {a1 : Int32} {F : Option (SS × DS)} {K : (SS × DS) → Option ρ} (hM : ∀ r, F = some r → jM l yX10_init (ws_ yX10_init cX10_init 3 none) frc loc [.ref q0, .int a0, .int a1] (aWo G) anx KK (σ, d) (jVa r) (hA G) r.2.2) (hd : decode cc pc = .ok (.invokespecial 24, 3)) (hr : frc + 1 ≤ fr ∧ 8 + (3 + 11) + loc ≤ lo) (hw : (st.map fun v => v.category).sum ≤ 8) (kk : ∀ r, jj p l e R s m args below meth c (hA G) NX Q (cWo G r.2) (cnx r.2) nL r.1 (pc + 3) lv st (K r = some res)) : jj p l e R s m args below meth c (hA G) NX Q (cWo G d) (cnx d) nL σ pc lv (.int a1 :: .int a0 :: .ref q0 :: st) ((dMonV d F).bind K = some res) :=
  ja_I (n := 2) hk hH hK [.int a0, .int a1] hM q551 q131 q549 q550 rfl (by decide +kernel) rfl rfl hd hr hw kk
theorem kc_X0_11_init (hk : jk p R s m args meth c NX cc nL RX0 fr lo ret) (hH : cH G KK) (hK : KK s) {q0 : Nat} {a0 : Int32} {a1 : Int32} {F : Option (SS × DS)} {K : (SS × DS) → Option ρ} (hM : ∀ r, F = some r → jM l yX11_init (ws_ yX11_init cX11_init 3 none) frc loc [.ref q0, .int a0, .int a1] (aWo G) anx KK (σ, d) (jVa r) (hA G) r.2.2) (hd : decode cc pc = .ok (.invokespecial 27, 3)) (hr : frc + 1 ≤ fr ∧ 8 + (3 + 11) + loc ≤ lo) (hw : (st.map fun v => v.category).sum ≤ 8) (kk : ∀ r, jj p l e R s m args below meth c (hA G) NX Q (cWo G r.2) (cnx r.2) nL r.1 (pc + 3) lv st (K r = some res)) : jj p l e R s m args below meth c (hA G) NX Q (cWo G d) (cnx d) nL σ pc lv (.int a1 :: .int a0 :: .ref q0 :: st) ((dMonV d F).bind K = some res) :=
  ja_I (n := 2) hk hH hK [.int a0, .int a1] hM q560 q132 q558 q559 rfl (by decide +kernel) rfl rfl hd hr hw kk
theorem kc_X0_12_init (hk : jk p R s m args meth c NX cc nL RX0 fr lo ret) (hH : cH G KK) (hK : KK s) {q0 : Nat} {a0 : Int32} {a1 : Int32} {F : Option (SS × DS)} {K : (SS × DS) → Option ρ} (hM : ∀ r, F = some r → jM l yX12_init (ws_ yX12_init cX12_init 3 none) frc loc [.ref q0, .int a0, .int a1] (aWo G) anx KK (σ, d) (jVa r) (hA G) r.2.2) (hd : decode cc pc = .ok (.invokespecial 30, 3)) (hr : frc + 1 ≤ fr ∧ 8 + (3 + 11) + loc ≤ lo) (hw : (st.map fun v => v.category).sum ≤ 8) (kk : ∀ r, jj p l e R s m args below meth c (hA G) NX Q (cWo G r.2) (cnx r.2) nL r.1 (pc + 3) lv st (K r = some res)) : jj p l e R s m args below meth c (hA G) NX Q (cWo G d) (cnx d) nL σ pc lv (.int a1 :: .int a0 :: .ref q0 :: st) ((dMonV d F).bind K = some res) :=
  ja_I (n := 2) hk hH hK [.int a0, .int a1] hM q569 q133 q567 q568 rfl (by decide +kernel) rfl rfl hd hr hw kk
theorem kc_X0_20_init (hk : jk p R s m args meth c NX cc nL RX0 fr lo ret) (hH : cH G KK) (hK : KK s) {q0 : Nat} {a0 : Int32} {F : Option (SS × DS)} {K : (SS × DS) → Option ρ} (hM : ∀ r, F = some r → jM l yX20_init (ws_ yX20_init cX20_init 2 none) frc loc [.ref q0, .int a0] (aWo G) anx KK (σ, d) (jVa r) (hA G) r.2.2) (hd : decode cc pc = .ok (.invokespecial 565, 3)) (hr : frc + 1 ≤ fr ∧ 8 + (2 + 11) + loc ≤ lo) (hw : (st.map fun v => v.category).sum ≤ 8) (kk : ∀ r, jj p l e R s m args below meth c (hA G) NX Q (cWo G r.2) (cnx r.2) nL r.1 (pc + 3) lv st (K r = some res)) : jj p l e R s m args below meth c (hA G) NX Q (cWo G d) (cnx d) nL σ pc lv (.int a0 :: .ref q0 :: st) ((dMonV d F).bind K = some res) :=
  ja_I (n := 1) hk hH hK [.int a0] hM q1317 q151 q1315 q1316 rfl (by decide +kernel) rfl rfl hd hr hw kk
theorem kc_X0_8_init (hk : jk p R s m args meth c NX cc nL RX0 fr lo ret) (hH : cH G KK) (hK : KK s) {q0 : Nat} {a0 : Int32} {a1 : Int32} {F : Option (SS × DS)} {K : (SS × DS) → Option ρ} (hM : ∀ r, F = some r → jM l yX8_init (ws_ yX8_init cX8_init 3 none) frc loc [.ref q0, .int a0, .int a1] (aWo G) anx KK (σ, d) (jVa r) (hA G) r.2.2) (hd : decode cc pc = .ok (.invokespecial 15, 3)) (hr : frc + 1 ≤ fr ∧ 8 + (3 + 11) + loc ≤ lo) (hw : (st.map fun v => v.category).sum ≤ 8) (kk : ∀ r, jj p l e R s m args below meth c (hA G) NX Q (cWo G r.2) (cnx r.2) nL r.1 (pc + 3) lv st (K r = some res)) : jj p l e R s m args below meth c (hA G) NX Q (cWo G d) (cnx d) nL σ pc lv (.int a1 :: .int a0 :: .ref q0 :: st) ((dMonV d F).bind K = some res) :=
  ja_I (n := 2) hk hH hK [.int a0, .int a1] hM q526 q129 q524 q525 rfl (by decide +kernel) rfl rfl hd hr hw kk
theorem kc_X0_9_init (hk : jk p R s m args meth c NX cc nL RX0 fr lo ret) (hH : cH G KK) (hK : KK s) {q0 : Nat} {a0 : Int32} {a1 : Int32} {F : Option (SS × DS)} {K : (SS × DS) → Option ρ} (hM : ∀ r, F = some r → jM l yX9_init (ws_ yX9_init cX9_init 3 none) frc loc [.ref q0, .int a0, .int a1] (aWo G) anx KK (σ, d) (jVa r) (hA G) r.2.2) (hd : decode cc pc = .ok (.invokespecial 21, 3)) (hr : frc + 1 ≤ fr ∧ 8 + (3 + 11) + loc ≤ lo) (hw : (st.map fun v => v.category).sum ≤ 8) (kk : ∀ r, jj p l e R s m args below meth c (hA G) NX Q (cWo G r.2) (cnx r.2) nL r.1 (pc + 3) lv st (K r = some res)) : jj p l e R s m args below meth c (hA G) NX Q (cWo G d) (cnx d) nL σ pc lv (.int a1 :: .int a0 :: .ref q0 :: st) ((dMonV d F).bind K = some res) :=
  ja_I (n := 2) hk hH hK [.int a0, .int a1] hM q542 q130 q540 q541 rfl (by decide +kernel) rfl rfl hd hr hw kk
theorem kc_X10_9_init (hk : jk p R s m args meth c NX cc nL RX10 fr lo ret) (hH : cH G KK) (hK : KK s) {q0 : Nat} {a0 : Int32} {a1 : Int32} {F : Option (SS × DS)} {K : (SS × DS) → Option ρ} (hM : ∀ r, F = some r → jM l yX9_init (ws_ yX9_init cX9_init 3 none) frc loc [.ref q0, .int a0, .int a1] (aWo G) anx KK (σ, d) (jVa r) (hA G) r.2.2) (hd : decode cc pc = .ok (.invokespecial 1, 3)) (hr : frc + 1 ≤ fr ∧ 8 + (3 + 11) + loc ≤ lo) (hw : (st.map fun v => v.category).sum ≤ 8) (kk : ∀ r, jj p l e R s m args below meth c (hA G) NX Q (cWo G r.2) (cnx r.2) nL r.1 (pc + 3) lv st (K r = some res)) : jj p l e R s m args below meth c (hA G) NX Q (cWo G d) (cnx d) nL σ pc lv (.int a1 :: .int a0 :: .ref q0 :: st) ((dMonV d F).bind K = some res) :=
  ja_I (n := 2) hk hH hK [.int a0, .int a1] hM q542 q130 q552 q541 rfl (by decide +kernel) rfl rfl hd hr hw kk
theorem kc_X11_7_init (hk : jk p R s m args meth c NX cc nL RX11 fr lo ret) (hH : cH G KK) (hK : KK s) {q0 : Nat} {a0 : Int32} {a1 : Int32} {F : Option (SS × DS)} {K : (SS × DS) → Option ρ} (hM : ∀ r, F = some r → jM l yX7_init (ws_ yX7_init cX7_init 3 none) frc loc [.ref q0, .int a0, .int a1] (aWo G) anx KK (σ, d) (jVa r) (hA G) r.2.2) (hd : decode cc pc = .ok (.invokespecial 1, 3)) (hr : frc + 1 ≤ fr ∧ 8 + (3 + 11) + loc ≤ lo) (hw : (st.map fun v => v.category).sum ≤ 8) (kk : ∀ r, jj p l e R s m args below meth c (hA G) NX Q (cWo G r.2) (cnx r.2) nL r.1 (pc + 3) lv st (K r = some res)) : jj p l e R s m args below meth c (hA G) NX Q (cWo G d) (cnx d) nL σ pc lv (.int a1 :: .int a0 :: .ref q0 :: st) ((dMonV d F).bind K = some res) :=
  ja_I (n := 2) hk hH hK [.int a0, .int a1] hM q529 q128 q561 q528 rfl (by decide +kernel) rfl rfl hd hr hw kk
theorem kc_X12_11_init (hk : jk p R s m args meth c NX cc nL RX12 fr lo ret) (hH : cH G KK) (hK : KK s) {q0 : Nat} {a0 : Int32} {a1 : Int32} {F : Option (SS × DS)} {K : (SS × DS) → Option ρ} (hM : ∀ r, F = some r → jM l yX11_init (ws_ yX11_init cX11_init 3 none) frc loc [.ref q0, .int a0, .int a1] (aWo G) anx KK (σ, d) (jVa r) (hA G) r.2.2) (hd : decode cc pc = .ok (.invokespecial 1, 3)) (hr : frc + 1 ≤ fr ∧ 8 + (3 + 11) + loc ≤ lo) (hw : (st.map fun v => v.category).sum ≤ 8) (kk : ∀ r, jj p l e R s m args below meth c (hA G) NX Q (cWo G r.2) (cnx r.2) nL r.1 (pc + 3) lv st (K r = some res)) : jj p l e R s m args below meth c (hA G) NX Q (cWo G d) (cnx d) nL σ pc lv (.int a1 :: .int a0 :: .ref q0 :: st) ((dMonV d F).bind K = some res) :=
  ja_I (n := 2) hk hH hK [.int a0, .int a1] hM q560 q132 q570 q559 rfl (by decide +kernel) rfl rfl hd hr hw kk
theorem kc_X14_13_init (hk : jk p R s m args meth c NX cc nL RX14 fr lo ret) (hH : cH G KK) (hK : KK s) {q0 : Nat} {F : Option (SS × DS)} {K : (SS × DS) → Option ρ} (hM : ∀ r, F = some r → jM l yX13_init (ws_ yX13_init cX13_init 1 none) frc loc [.ref q0] (aWo G) anx KK (σ, d) (jVa r) (hA G) r.2.2) (hd : decode cc pc = .ok (.invokespecial 1, 3)) (hr : frc + 1 ≤ fr ∧ 8 + (1 + 11) + loc ≤ lo) (hw : (st.map fun v => v.category).sum ≤ 8) (kk : ∀ r, jj p l e R s m args below meth c (hA G) NX Q (cWo G r.2) (cnx r.2) nL r.1 (pc + 3) lv st (K r = some res)) : jj p l e R s m args below meth c (hA G) NX Q (cWo G d) (cnx d) nL σ pc lv (.ref q0 :: st) ((dMonV d F).bind K = some res) :=
  ja_IN (n := 0) hk hH hK [] hM (host := "LeftUndoes") q829 q138 (List.mem_of_getElem? (i := 21) rfl) q828 rfl (by decide +kernel) rfl rfl hd hr hw kk
theorem kc_X16_13_init (hk : jk p R s m args meth c NX cc nL RX16 fr lo ret) (hH : cH G KK) (hK : KK s) {q0 : Nat} {F : Option (SS × DS)} {K : (SS × DS) → Option ρ} (hM : ∀ r, F = some r → jM l yX13_init (ws_ yX13_init cX13_init 1 none) frc loc [.ref q0] (aWo G) anx KK (σ, d) (jVa r) (hA G) r.2.2) (hd : decode cc pc = .ok (.invokespecial 1, 3)) (hr : frc + 1 ≤ fr ∧ 8 + (1 + 11) + loc ≤ lo) (hw : (st.map fun v => v.category).sum ≤ 8) (kk : ∀ r, jj p l e R s m args below meth c (hA G) NX Q (cWo G r.2) (cnx r.2) nL r.1 (pc + 3) lv st (K r = some res)) : jj p l e R s m args below meth c (hA G) NX Q (cWo G d) (cnx d) nL σ pc lv (.ref q0 :: st) ((dMonV d F).bind K = some res) :=
  ja_IN (n := 0) hk hH hK [] hM (host := "LeftUndoes") q829 q138 (List.mem_of_getElem? (i := 22) rfl) q828 rfl (by decide +kernel) rfl rfl hd hr hw kk
theorem kc_X17_13_init (hk : jk p R s m args meth c NX cc nL RX17 fr lo ret) (hH : cH G KK) (hK : KK s) {q0 : Nat} {F : Option (SS × DS)} {K : (SS × DS) → Option ρ} (hM : ∀ r, F = some r → jM l yX13_init (ws_ yX13_init cX13_init 1 none) frc loc [.ref q0] (aWo G) anx KK (σ, d) (jVa r) (hA G) r.2.2) (hd : decode cc pc = .ok (.invokespecial 1, 3)) (hr : frc + 1 ≤ fr ∧ 8 + (1 + 11) + loc ≤ lo) (hw : (st.map fun v => v.category).sum ≤ 8) (kk : ∀ r, jj p l e R s m args below meth c (hA G) NX Q (cWo G r.2) (cnx r.2) nL r.1 (pc + 3) lv st (K r = some res)) : jj p l e R s m args below meth c (hA G) NX Q (cWo G d) (cnx d) nL σ pc lv (.ref q0 :: st) ((dMonV d F).bind K = some res) :=
  ja_IN (n := 0) hk hH hK [] hM (host := "LeftUndoes") q829 q138 (List.mem_of_getElem? (i := 23) rfl) q828 rfl (by decide +kernel) rfl rfl hd hr hw kk
theorem kc_X18_17_init (hk : jk p R s m args meth c NX cc nL RX18 fr lo ret) (hH : cH G KK) (hK : KK s) {q0 : Nat} {a0 : Nat} {a1 : Nat} {F : Option (SS × DS)} {K : (SS × DS) → Option ρ} (hM : ∀ r, F = some r → jM l yX17_init (ws_ yX17_init cX17_init 3 none) frc loc [.ref q0, .ref a0, .ref a1] (aWo G) anx KK (σ, d) (jVa r) (hA G) r.2.2) (hd : decode cc pc = .ok (.invokespecial 1, 3)) (hr : frc + 1 ≤ fr ∧ 8 + (3 + 11) + loc ≤ lo) (hw : (st.map fun v => v.category).sum ≤ 8) (kk : ∀ r, jj p l e R s m args below meth c (hA G) NX Q (cWo G r.2) (cnx r.2) nL r.1 (pc + 3) lv st (K r = some res)) : jj p l e R s m args below meth c (hA G) NX Q (cWo G d) (cnx d) nL σ pc lv (.ref a1 :: .ref a0 :: .ref q0 :: st) ((dMonV d F).bind K = some res) :=
  ja_I (n := 2) hk hH hK [.ref a0, .ref a1] hM q883 q142 q902 q882 rfl (by decide +kernel) rfl rfl hd hr hw kk
theorem kc_X8_7_init (hk : jk p R s m args meth c NX cc nL RX8 fr lo ret) (hH : cH G KK) (hK : KK s) {q0 : Nat} {a0 : Int32} {a1 : Int32} {F : Option (SS × DS)} {K : (SS × DS) → Option ρ} (hM : ∀ r, F = some r → jM l yX7_init (ws_ yX7_init cX7_init 3 none) frc loc [.ref q0, .int a0, .int a1] (aWo G) anx KK (σ, d) (jVa r) (hA G) r.2.2) (hd : decode cc pc = .ok (.invokespecial 1, 3)) (hr : frc + 1 ≤ fr ∧ 8 + (3 + 11) + loc ≤ lo) (hw : (st.map fun v => v.category).sum ≤ 8) (kk : ∀ r, jj p l e R s m args below meth c (hA G) NX Q (cWo G r.2) (cnx r.2) nL r.1 (pc + 3) lv st (K r = some res)) : jj p l e R s m args below meth c (hA G) NX Q (cWo G d) (cnx d) nL σ pc lv (.int a1 :: .int a0 :: .ref q0 :: st) ((dMonV d F).bind K = some res) :=
  ja_I (n := 2) hk hH hK [.int a0, .int a1] hM q529 q128 q527 q528 rfl (by decide +kernel) rfl rfl hd hr hw kk
theorem kc_X9_7_init (hk : jk p R s m args meth c NX cc nL RX9 fr lo ret) (hH : cH G KK) (hK : KK s) {q0 : Nat} {a0 : Int32} {a1 : Int32} {F : Option (SS × DS)} {K : (SS × DS) → Option ρ} (hM : ∀ r, F = some r → jM l yX7_init (ws_ yX7_init cX7_init 3 none) frc loc [.ref q0, .int a0, .int a1] (aWo G) anx KK (σ, d) (jVa r) (hA G) r.2.2) (hd : decode cc pc = .ok (.invokespecial 1, 3)) (hr : frc + 1 ≤ fr ∧ 8 + (3 + 11) + loc ≤ lo) (hw : (st.map fun v => v.category).sum ≤ 8) (kk : ∀ r, jj p l e R s m args below meth c (hA G) NX Q (cWo G r.2) (cnx r.2) nL r.1 (pc + 3) lv st (K r = some res)) : jj p l e R s m args below meth c (hA G) NX Q (cWo G d) (cnx d) nL σ pc lv (.int a1 :: .int a0 :: .ref q0 :: st) ((dMonV d F).bind K = some res) :=
  ja_I (n := 2) hk hH hK [.int a0, .int a1] hM q529 q128 q543 q528 rfl (by decide +kernel) rfl rfl hd hr hw kk
end
section
variable {p : Program} {l : Launch} {e : Env} {R : Room} {s : State} {m : MethodId} {args : Array Value} {below : List Frame} {meth : Method} {c : Code}
variable {G : cG} {KK : State → Prop}
set_option maxHeartbeats 4000000 in
theorem cc_f7_init (l : Launch) {G : cG} {KK : State → Prop} (hH : cH G KK)  (σ : SS) (d : DS) (q0 : Nat) (a0 : Int32) (a1 : Int32) (res : (SS × DS)) (hf : f7_init σ d q0 a0 a1 = some res) : jM l yX7_init (ws_ yX7_init cX7_init 3 none) 1 40 [.ref q0, .int a0, .int a1] (aWo G) anx KK (σ, d) (jVa res) (hA G) res.2.2 := by
  refine jj_startI [(0, .ref q0), (1, .int a0), (2, .int a1)] (by decide) (Nat.le_of_ble_eq_true rfl) rfl (fun p e R s m args below meth c hk hK hsz hmi => ?_) hf
  have hk : jk p R s m args meth c res.2.2 cX7_init 3 RX7 1 40 none := hk
  refine ja_in ?_
  unfold f7_init
  refine jj_aload_n hk (pc := 0) dX7_init_0 0 rfl rfl ?_
  refine ja_objInit hk hH hK (pc := 1) q530 q159 q160 dX7_init_1 ⟨Nat.le_of_ble_eq_true rfl, Nat.le_of_ble_eq_true rfl⟩ (Nat.le_of_ble_eq_true rfl) ?_
  refine jj_aload_n hk (pc := 4) dX7_init_4 0 rfl rfl ?_
  refine jj_iload_n hk (pc := 5) dX7_init_5 1 rfl rfl ?_
  refine jp_X7_number hk hH hK hmi (pc := 6) dX7_init_6 (fun d1 => ?_)
  refine jj_aload_n hk (pc := 9) dX7_init_9 0 rfl rfl ?_
  refine jj_iload_n hk (pc := 10) dX7_init_10 2 rfl rfl ?_
  refine jp_X7_grace hk hH hK hmi (pc := 11) dX7_init_11 (fun d2 => ?_)
  exact ja_retV hk (pc := 14) dX7_init_14
set_option maxHeartbeats 4000000 in
theorem cc_f8_init (l : Launch) {G : cG} {KK : State → Prop} (hH : cH G KK)  (σ : SS) (d : DS) (q0 : Nat) (a0 : Int32) (a1 : Int32) (res : (SS × DS)) (hf : f8_init σ d q0 a0 a1 = some res) : jM l yX8_init (ws_ yX8_init cX8_init 3 none) 2 62 [.ref q0, .int a0, .int a1] (aWo G) anx KK (σ, d) (jVa res) (hA G) res.2.2 := by
  refine jj_startI [(0, .ref q0), (1, .int a0), (2, .int a1)] (by decide) (Nat.le_of_ble_eq_true rfl) rfl (fun p e R s m args below meth c hk hK hsz hmi => ?_) hf
  have hk : jk p R s m args meth c res.2.2 cX8_init 3 RX8 2 62 none := hk
  refine ja_in ?_
  unfold f8_init
  refine jj_aload_n hk (pc := 0) dX8_init_0 0 rfl rfl ?_
  refine jj_iload_n hk (pc := 1) dX8_init_1 1 rfl rfl ?_
  refine jj_iload_n hk (pc := 2) dX8_init_2 2 rfl rfl ?_
  refine kc_X8_7_init hk hH hK (pc := 3) (q0 := q0) (a0 := a0) (a1 := a1) (fun r h => cc_f7_init l hH σ d q0 a0 a1 r h) dX8_init_3 ⟨Nat.le_of_ble_eq_true rfl, Nat.le_of_ble_eq_true rfl⟩ (Nat.le_of_ble_eq_true rfl) (fun r1 => ?_)
  exact ja_retV hk (pc := 6) dX8_init_6
set_option maxHeartbeats 4000000 in
theorem cc_f9_init (l : Launch) {G : cG} {KK : State → Prop} (hH : cH G KK)  (σ : SS) (d : DS) (q0 : Nat) (a0 : Int32) (a1 : Int32) (res : (SS × DS)) (hf : f9_init σ d q0 a0 a1 = some res) : jM l yX9_init (ws_ yX9_init cX9_init 3 none) 2 62 [.ref q0, .int a0, .int a1] (aWo G) anx KK (σ, d) (jVa res) (hA G) res.2.2 := by
  refine jj_startI [(0, .ref q0), (1, .int a0), (2, .int a1)] (by decide) (Nat.le_of_ble_eq_true rfl) rfl (fun p e R s m args below meth c hk hK hsz hmi => ?_) hf
  have hk : jk p R s m args meth c res.2.2 cX9_init 3 RX9 2 62 none := hk
  refine ja_in ?_
  unfold f9_init
  refine jj_aload_n hk (pc := 0) dX9_init_0 0 rfl rfl ?_
  refine jj_iload_n hk (pc := 1) dX9_init_1 1 rfl rfl ?_
  refine jj_iload_n hk (pc := 2) dX9_init_2 2 rfl rfl ?_
  refine kc_X9_7_init hk hH hK (pc := 3) (q0 := q0) (a0 := a0) (a1 := a1) (fun r h => cc_f7_init l hH σ d q0 a0 a1 r h) dX9_init_3 ⟨Nat.le_of_ble_eq_true rfl, Nat.le_of_ble_eq_true rfl⟩ (Nat.le_of_ble_eq_true rfl) (fun r1 => ?_)
  exact ja_retV hk (pc := 6) dX9_init_6
set_option maxHeartbeats 4000000 in
theorem cc_f10_init (l : Launch) {G : cG} {KK : State → Prop} (hH : cH G KK)  (σ : SS) (d : DS) (q0 : Nat) (a0 : Int32) (a1 : Int32) (res : (SS × DS)) (hf : f10_init σ d q0 a0 a1 = some res) : jM l yX10_init (ws_ yX10_init cX10_init 3 none) 3 84 [.ref q0, .int a0, .int a1] (aWo G) anx KK (σ, d) (jVa res) (hA G) res.2.2 := by
  refine jj_startI [(0, .ref q0), (1, .int a0), (2, .int a1)] (by decide) (Nat.le_of_ble_eq_true rfl) rfl (fun p e R s m args below meth c hk hK hsz hmi => ?_) hf
  have hk : jk p R s m args meth c res.2.2 cX10_init 3 RX10 3 84 none := hk
  refine ja_in ?_
  unfold f10_init
  refine jj_aload_n hk (pc := 0) dX10_init_0 0 rfl rfl ?_
  refine jj_iload_n hk (pc := 1) dX10_init_1 1 rfl rfl ?_
  refine jj_iload_n hk (pc := 2) dX10_init_2 2 rfl rfl ?_
  refine kc_X10_9_init hk hH hK (pc := 3) (q0 := q0) (a0 := a0) (a1 := a1) (fun r h => cc_f9_init l hH σ d q0 a0 a1 r h) dX10_init_3 ⟨Nat.le_of_ble_eq_true rfl, Nat.le_of_ble_eq_true rfl⟩ (Nat.le_of_ble_eq_true rfl) (fun r1 => ?_)
  exact ja_retV hk (pc := 6) dX10_init_6
set_option maxHeartbeats 4000000 in
theorem cc_f11_init (l : Launch) {G : cG} {KK : State → Prop} (hH : cH G KK)  (σ : SS) (d : DS) (q0 : Nat) (a0 : Int32) (a1 : Int32) (res : (SS × DS)) (hf : f11_init σ d q0 a0 a1 = some res) : jM l yX11_init (ws_ yX11_init cX11_init 3 none) 2 62 [.ref q0, .int a0, .int a1] (aWo G) anx KK (σ, d) (jVa res) (hA G) res.2.2 := by
  refine jj_startI [(0, .ref q0), (1, .int a0), (2, .int a1)] (by decide) (Nat.le_of_ble_eq_true rfl) rfl (fun p e R s m args below meth c hk hK hsz hmi => ?_) hf
  have hk : jk p R s m args meth c res.2.2 cX11_init 3 RX11 2 62 none := hk
  refine ja_in ?_
  unfold f11_init
  refine jj_aload_n hk (pc := 0) dX11_init_0 0 rfl rfl ?_
  refine jj_iload_n hk (pc := 1) dX11_init_1 1 rfl rfl ?_
  refine jj_iload_n hk (pc := 2) dX11_init_2 2 rfl rfl ?_
  refine kc_X11_7_init hk hH hK (pc := 3) (q0 := q0) (a0 := a0) (a1 := a1) (fun r h => cc_f7_init l hH σ d q0 a0 a1 r h) dX11_init_3 ⟨Nat.le_of_ble_eq_true rfl, Nat.le_of_ble_eq_true rfl⟩ (Nat.le_of_ble_eq_true rfl) (fun r1 => ?_)
  exact ja_retV hk (pc := 6) dX11_init_6
set_option maxHeartbeats 4000000 in
theorem cc_f12_init (l : Launch) {G : cG} {KK : State → Prop} (hH : cH G KK)  (σ : SS) (d : DS) (q0 : Nat) (a0 : Int32) (a1 : Int32) (res : (SS × DS)) (hf : f12_init σ d q0 a0 a1 = some res) : jM l yX12_init (ws_ yX12_init cX12_init 3 none) 3 84 [.ref q0, .int a0, .int a1] (aWo G) anx KK (σ, d) (jVa res) (hA G) res.2.2 := by
  refine jj_startI [(0, .ref q0), (1, .int a0), (2, .int a1)] (by decide) (Nat.le_of_ble_eq_true rfl) rfl (fun p e R s m args below meth c hk hK hsz hmi => ?_) hf
  have hk : jk p R s m args meth c res.2.2 cX12_init 3 RX12 3 84 none := hk
  refine ja_in ?_
  unfold f12_init
  refine jj_aload_n hk (pc := 0) dX12_init_0 0 rfl rfl ?_
  refine jj_iload_n hk (pc := 1) dX12_init_1 1 rfl rfl ?_
  refine jj_iload_n hk (pc := 2) dX12_init_2 2 rfl rfl ?_
  refine kc_X12_11_init hk hH hK (pc := 3) (q0 := q0) (a0 := a0) (a1 := a1) (fun r h => cc_f11_init l hH σ d q0 a0 a1 r h) dX12_init_3 ⟨Nat.le_of_ble_eq_true rfl, Nat.le_of_ble_eq_true rfl⟩ (Nat.le_of_ble_eq_true rfl) (fun r1 => ?_)
  exact ja_retV hk (pc := 6) dX12_init_6
set_option maxHeartbeats 4000000 in
theorem cc_f15_init (l : Launch) {G : cG} {KK : State → Prop} (hH : cH G KK)  (σ : SS) (d : DS) (q0 : Nat) (a0 : Int32) (a1 : Int32) (res : (SS × DS)) (hf : f15_init σ d q0 a0 a1 = some res) : jM l yX15_init (ws_ yX15_init cX15_init 3 none) 1 40 [.ref q0, .int a0, .int a1] (aWo G) anx KK (σ, d) (jVa res) (hA G) res.2.2 := by
  refine jj_startI [(0, .ref q0), (1, .int a0), (2, .int a1)] (by decide) (Nat.le_of_ble_eq_true rfl) rfl (fun p e R s m args below meth c hk hK hsz hmi => ?_) hf
  have hk : jk p R s m args meth c res.2.2 cX15_init 3 RX15 1 40 none := hk
  refine ja_in ?_
  unfold f15_init
  refine jj_aload_n hk (pc := 0) dX15_init_0 0 rfl rfl ?_
  refine ja_objInit hk hH hK (pc := 1) q850 q159 q160 dX15_init_1 ⟨Nat.le_of_ble_eq_true rfl, Nat.le_of_ble_eq_true rfl⟩ (Nat.le_of_ble_eq_true rfl) ?_
  refine jj_aload_n hk (pc := 4) dX15_init_4 0 rfl rfl ?_
  refine jj_iload_n hk (pc := 5) dX15_init_5 1 rfl rfl ?_
  refine jp_X15_fact hk hH hK hmi (pc := 6) dX15_init_6 (fun d1 => ?_)
  refine jj_aload_n hk (pc := 9) dX15_init_9 0 rfl rfl ?_
  refine jj_iload_n hk (pc := 10) dX15_init_10 2 rfl rfl ?_
  refine jp_X15_n hk hH hK hmi (pc := 11) dX15_init_11 (fun d2 => ?_)
  exact ja_retV hk (pc := 14) dX15_init_14
set_option maxHeartbeats 4000000 in
theorem cc_f13_init (l : Launch) {G : cG} {KK : State → Prop} (hH : cH G KK)  (σ : SS) (d : DS) (q0 : Nat) (res : (SS × DS)) (hf : f13_init σ d q0 = some res) : jM l yX13_init (ws_ yX13_init cX13_init 1 none) 1 40 [.ref q0] (aWo G) anx KK (σ, d) (jVa res) (hA G) res.2.2 := by
  refine jj_startI [(0, .ref q0)] (by decide) (Nat.le_of_ble_eq_true rfl) rfl (fun p e R s m args below meth c hk hK hsz hmi => ?_) hf
  have hk : jk p R s m args meth c res.2.2 cX13_init 1 RX13 1 40 none := hk
  refine ja_in ?_
  unfold f13_init
  refine jj_aload_n hk (pc := 0) dX13_init_0 0 rfl rfl ?_
  refine ja_objInit hk hH hK (pc := 1) q830 q159 q160 dX13_init_1 ⟨Nat.le_of_ble_eq_true rfl, Nat.le_of_ble_eq_true rfl⟩ (Nat.le_of_ble_eq_true rfl) ?_
  exact ja_retV hk (pc := 4) dX13_init_4
set_option maxHeartbeats 4000000 in
theorem cc_f14_init (l : Launch) {G : cG} {KK : State → Prop} (hH : cH G KK)  (σ : SS) (d : DS) (q0 : Nat) (a0 : Nat) (res : (SS × DS)) (hf : f14_init σ d q0 a0 = some res) : jM l yX14_init (ws_ yX14_init cX14_init 2 none) 2 60 [.ref q0, .ref a0] (aWo G) anx KK (σ, d) (jVa res) (hA G) res.2.2 := by
  refine jj_startI [(0, .ref q0), (1, .ref a0)] (by decide) (Nat.le_of_ble_eq_true rfl) rfl (fun p e R s m args below meth c hk hK hsz hmi => ?_) hf
  have hk : jk p R s m args meth c res.2.2 cX14_init 2 RX14 2 60 none := hk
  refine ja_in ?_
  unfold f14_init
  refine jj_aload_n hk (pc := 0) dX14_init_0 0 rfl rfl ?_
  refine kc_X14_13_init hk hH hK (pc := 1) (q0 := q0) (fun r h => cc_f13_init l hH σ d q0 r h) dX14_init_1 ⟨Nat.le_of_ble_eq_true rfl, Nat.le_of_ble_eq_true rfl⟩ (Nat.le_of_ble_eq_true rfl) (fun r1 => ?_)
  refine jj_aload_n hk (pc := 4) dX14_init_4 0 rfl rfl ?_
  refine jj_aload_n hk (pc := 5) dX14_init_5 1 rfl rfl ?_
  refine jp_X14_of hk hH hK hmi (pc := 6) dX14_init_6 (fun d2 => ?_)
  exact ja_retV hk (pc := 9) dX14_init_9
set_option maxHeartbeats 4000000 in
theorem cc_f16_init (l : Launch) {G : cG} {KK : State → Prop} (hH : cH G KK)  (σ : SS) (d : DS) (q0 : Nat) (a0 : Nat) (a1 : Int32) (a2 : Nat) (res : (SS × DS)) (hf : f16_init σ d q0 a0 a1 a2 = some res) : jM l yX16_init (ws_ yX16_init cX16_init 4 none) 2 60 [.ref q0, .ref a0, .int a1, .ref a2] (aWo G) anx KK (σ, d) (jVa res) (hA G) res.2.2 := by
  refine jj_startI [(0, .ref q0), (1, .ref a0), (2, .int a1), (3, .ref a2)] (by decide) (Nat.le_of_ble_eq_true rfl) rfl (fun p e R s m args below meth c hk hK hsz hmi => ?_) hf
  have hk : jk p R s m args meth c res.2.2 cX16_init 4 RX16 2 60 none := hk
  refine ja_in ?_
  unfold f16_init
  refine jj_aload_n hk (pc := 0) dX16_init_0 0 rfl rfl ?_
  refine kc_X16_13_init hk hH hK (pc := 1) (q0 := q0) (fun r h => cc_f13_init l hH σ d q0 r h) dX16_init_1 ⟨Nat.le_of_ble_eq_true rfl, Nat.le_of_ble_eq_true rfl⟩ (Nat.le_of_ble_eq_true rfl) (fun r1 => ?_)
  refine jj_aload_n hk (pc := 4) dX16_init_4 0 rfl rfl ?_
  refine jj_aload_n hk (pc := 5) dX16_init_5 1 rfl rfl ?_
  refine jp_X16_first hk hH hK hmi (pc := 6) dX16_init_6 (fun d2 => ?_)
  refine jj_aload_n hk (pc := 9) dX16_init_9 0 rfl rfl ?_
  refine jj_iload_n hk (pc := 10) dX16_init_10 2 rfl rfl ?_
  refine jp_X16_sign hk hH hK hmi (pc := 11) dX16_init_11 (fun d3 => ?_)
  refine jj_aload_n hk (pc := 14) dX16_init_14 0 rfl rfl ?_
  refine jj_aload_n hk (pc := 15) dX16_init_15 3 rfl rfl ?_
  refine jp_X16_second hk hH hK hmi (pc := 16) dX16_init_16 (fun d4 => ?_)
  exact ja_retV hk (pc := 19) dX16_init_19
set_option maxHeartbeats 4000000 in
theorem cc_f17_init (l : Launch) {G : cG} {KK : State → Prop} (hH : cH G KK)  (σ : SS) (d : DS) (q0 : Nat) (a0 : Nat) (a1 : Nat) (res : (SS × DS)) (hf : f17_init σ d q0 a0 a1 = some res) : jM l yX17_init (ws_ yX17_init cX17_init 3 none) 2 60 [.ref q0, .ref a0, .ref a1] (aWo G) anx KK (σ, d) (jVa res) (hA G) res.2.2 := by
  refine jj_startI [(0, .ref q0), (1, .ref a0), (2, .ref a1)] (by decide) (Nat.le_of_ble_eq_true rfl) rfl (fun p e R s m args below meth c hk hK hsz hmi => ?_) hf
  have hk : jk p R s m args meth c res.2.2 cX17_init 3 RX17 2 60 none := hk
  refine ja_in ?_
  unfold f17_init
  refine jj_aload_n hk (pc := 0) dX17_init_0 0 rfl rfl ?_
  refine kc_X17_13_init hk hH hK (pc := 1) (q0 := q0) (fun r h => cc_f13_init l hH σ d q0 r h) dX17_init_1 ⟨Nat.le_of_ble_eq_true rfl, Nat.le_of_ble_eq_true rfl⟩ (Nat.le_of_ble_eq_true rfl) (fun r1 => ?_)
  refine jj_aload_n hk (pc := 4) dX17_init_4 0 rfl rfl ?_
  refine jj_aload_n hk (pc := 5) dX17_init_5 1 rfl rfl ?_
  refine jp_X17_first hk hH hK hmi (pc := 6) dX17_init_6 (fun d2 => ?_)
  refine jj_aload_n hk (pc := 9) dX17_init_9 0 rfl rfl ?_
  refine jj_aload_n hk (pc := 10) dX17_init_10 2 rfl rfl ?_
  refine jp_X17_second hk hH hK hmi (pc := 11) dX17_init_11 (fun d3 => ?_)
  exact ja_retV hk (pc := 14) dX17_init_14
set_option maxHeartbeats 4000000 in
theorem cc_f18_init (l : Launch) {G : cG} {KK : State → Prop} (hH : cH G KK)  (σ : SS) (d : DS) (q0 : Nat) (a0 : Nat) (a1 : Nat) (res : (SS × DS)) (hf : f18_init σ d q0 a0 a1 = some res) : jM l yX18_init (ws_ yX18_init cX18_init 3 none) 3 82 [.ref q0, .ref a0, .ref a1] (aWo G) anx KK (σ, d) (jVa res) (hA G) res.2.2 := by
  refine jj_startI [(0, .ref q0), (1, .ref a0), (2, .ref a1)] (by decide) (Nat.le_of_ble_eq_true rfl) rfl (fun p e R s m args below meth c hk hK hsz hmi => ?_) hf
  have hk : jk p R s m args meth c res.2.2 cX18_init 3 RX18 3 82 none := hk
  refine ja_in ?_
  unfold f18_init
  refine jj_aload_n hk (pc := 0) dX18_init_0 0 rfl rfl ?_
  refine jj_aload_n hk (pc := 1) dX18_init_1 1 rfl rfl ?_
  refine jj_aload_n hk (pc := 2) dX18_init_2 2 rfl rfl ?_
  refine kc_X18_17_init hk hH hK (pc := 3) (q0 := q0) (a0 := a0) (a1 := a1) (fun r h => cc_f17_init l hH σ d q0 a0 a1 r h) dX18_init_3 ⟨Nat.le_of_ble_eq_true rfl, Nat.le_of_ble_eq_true rfl⟩ (Nat.le_of_ble_eq_true rfl) (fun r1 => ?_)
  exact ja_retV hk (pc := 6) dX18_init_6
set_option maxHeartbeats 4000000 in
theorem cc_f19_init (l : Launch) {G : cG} {KK : State → Prop} (hH : cH G KK)  (σ : SS) (d : DS) (q0 : Nat) (a0 : Int32) (a1 : Option Nat) (a2 : Int32) (a3 : Int32) (res : (SS × DS)) (hf : f19_init σ d q0 a0 a1 a2 a3 = some res) : jM l yX19_init (ws_ yX19_init cX19_init 5 none) 1 40 [.ref q0, .int a0, va_rf a1, .int a2, .int a3] (aWo G) anx KK (σ, d) (jVa res) (hA G) res.2.2 := by
  refine jj_startI [(0, .ref q0), (1, .int a0), (2, va_rf a1), (3, .int a2), (4, .int a3)] (by decide) (by cases a1 <;> exact Nat.le_of_ble_eq_true rfl) (by cases a1 <;> rfl) (fun p e R s m args below meth c hk hK hsz hmi => ?_) hf
  have hk : jk p R s m args meth c res.2.2 cX19_init 5 RX19 1 40 none := hk
  refine ja_in ?_
  unfold f19_init
  refine jj_aload_n hk (pc := 0) dX19_init_0 0 rfl rfl ?_
  refine ja_objInit hk hH hK (pc := 1) q915 q159 q160 dX19_init_1 ⟨Nat.le_of_ble_eq_true rfl, Nat.le_of_ble_eq_true rfl⟩ (Nat.le_of_ble_eq_true rfl) ?_
  refine jj_aload_n hk (pc := 4) dX19_init_4 0 rfl rfl ?_
  refine jj_iload_n hk (pc := 5) dX19_init_5 1 rfl rfl ?_
  refine jp_X19_kind hk hH hK hmi (pc := 6) dX19_init_6 (fun d1 => ?_)
  refine jj_aload_n hk (pc := 9) dX19_init_9 0 rfl rfl ?_
  refine jj_aload_no hk (pc := 10) (x := a1) dX19_init_10 2 rfl rfl ?_
  refine jp_X19_cond hk hH hK hmi (pc := 11) dX19_init_11 (fun d2 => ?_)
  refine jj_aload_n hk (pc := 14) dX19_init_14 0 rfl rfl ?_
  refine jj_iload_n hk (pc := 15) dX19_init_15 3 rfl rfl ?_
  refine jp_X19_does hk hH hK hmi (pc := 16) dX19_init_16 (fun d3 => ?_)
  refine jj_aload_n hk (pc := 19) dX19_init_19 0 rfl rfl ?_
  refine jj_iload hk (pc := 20) dX19_init_20 4 rfl ?_
  refine jp_X19_n hk hH hK hmi (pc := 22) dX19_init_22 (fun d4 => ?_)
  exact ja_retV hk (pc := 25) dX19_init_25
set_option maxHeartbeats 4000000 in
theorem cc_f0_made (l : Launch) {G : cG} {KK : State → Prop} (hH : cH G KK)  (σ : SS) (d : DS) (a0 : Int32) (a1 : Int32) (a2 : Int32) (res : (Nat × SS × DS)) (hf : f0_made σ d a0 a1 a2 = some res) : jM l yX0_made (ws_ yX0_made cX0_made 3 (some (.object "LeftUndoes$Hand"))) 4 106 [.int a0, .int a1, .int a2] (aWo G) anx KK (σ, d) (jUa (fun x : Nat => .ref x) res) (hA G) res.2.2.2 := by
  refine jj_start [(0, .int a0), (1, .int a1), (2, .int a2)] (by decide) (Nat.le_of_ble_eq_true rfl) rfl (fun p e R s m args below meth c hk hK hsz => ?_) hf
  have hk : jk p R s m args meth c res.2.2.2 cX0_made 3 RX0 4 106 (some (.object "LeftUndoes$Hand")) := hk
  refine ja_in ?_
  unfold f0_made
  refine jj_iload_n hk (pc := 0) dX0_made_0 0 rfl rfl ?_
  refine jj_ite (fun c_1_0 => ?_) (fun c_1_0 => ?_)
  · refine jj_tIn hk (pc := 1) (k := (1 : Int32)) (t := 1) 32 c_1_0 dX0_made_1 (by decide) rfl rfl (by decide) ?_
    refine ja_new (ci := 7) (fs := [.int 0, .int 0]) hk hH hK (pc := 32) in_X8 tyX8 tyX8_ok q522 q523 q129 rfl (fun j hj => match j, hj with | 0, _ => rfl | 1, _ => rfl | n + 2, h => absurd h (by omega)) (by decide) dX0_made_32 (fun d1 => ?_)
    refine jj_dup hk (pc := 35) dX0_made_35 rfl ?_
    refine jj_iload_n hk (pc := 36) dX0_made_36 1 rfl rfl ?_
    refine jj_iload_n hk (pc := 37) dX0_made_37 2 rfl rfl ?_
    refine kc_X0_8_init hk hH hK (pc := 38) (q0 := d.2) (a0 := a1) (a1 := a2) (fun r h => cc_f8_init l hH σ d1 d.2 a1 a2 r h) dX0_made_38 ⟨Nat.le_of_ble_eq_true rfl, Nat.le_of_ble_eq_true rfl⟩ (Nat.le_of_ble_eq_true rfl) (fun r2 => ?_)
    exact ja_retUa hk (pc := 41) (Or.inl ⟨_, rfl⟩) dX0_made_41
  refine jj_ite (fun c_1_1 => ?_) (fun c_1_1 => ?_)
  · refine jj_tIn hk (pc := 1) (k := (2 : Int32)) (t := 2) 42 c_1_1 dX0_made_1 (by decide) rfl rfl (by decide) ?_
    refine ja_new (ci := 8) (fs := [.int 0, .int 0]) hk hH hK (pc := 42) in_X9 tyX9 tyX9_ok q538 q539 q130 rfl (fun j hj => match j, hj with | 0, _ => rfl | 1, _ => rfl | n + 2, h => absurd h (by omega)) (by decide) dX0_made_42 (fun d3 => ?_)
    refine jj_dup hk (pc := 45) dX0_made_45 rfl ?_
    refine jj_iload_n hk (pc := 46) dX0_made_46 1 rfl rfl ?_
    refine jj_iload_n hk (pc := 47) dX0_made_47 2 rfl rfl ?_
    refine kc_X0_9_init hk hH hK (pc := 48) (q0 := d.2) (a0 := a1) (a1 := a2) (fun r h => cc_f9_init l hH σ d3 d.2 a1 a2 r h) dX0_made_48 ⟨Nat.le_of_ble_eq_true rfl, Nat.le_of_ble_eq_true rfl⟩ (Nat.le_of_ble_eq_true rfl) (fun r4 => ?_)
    exact ja_retUa hk (pc := 51) (Or.inl ⟨_, rfl⟩) dX0_made_51
  refine jj_ite (fun c_1_2 => ?_) (fun c_1_2 => ?_)
  · refine jj_tIn hk (pc := 1) (k := (3 : Int32)) (t := 3) 52 c_1_2 dX0_made_1 (by decide) rfl rfl (by decide) ?_
    refine ja_new (ci := 9) (fs := [.int 0, .int 0]) hk hH hK (pc := 52) in_X10 tyX10 tyX10_ok q547 q548 q131 rfl (fun j hj => match j, hj with | 0, _ => rfl | 1, _ => rfl | n + 2, h => absurd h (by omega)) (by decide) dX0_made_52 (fun d5 => ?_)
    refine jj_dup hk (pc := 55) dX0_made_55 rfl ?_
    refine jj_iload_n hk (pc := 56) dX0_made_56 1 rfl rfl ?_
    refine jj_iload_n hk (pc := 57) dX0_made_57 2 rfl rfl ?_
    refine kc_X0_10_init hk hH hK (pc := 58) (q0 := d.2) (a0 := a1) (a1 := a2) (fun r h => cc_f10_init l hH σ d5 d.2 a1 a2 r h) dX0_made_58 ⟨Nat.le_of_ble_eq_true rfl, Nat.le_of_ble_eq_true rfl⟩ (Nat.le_of_ble_eq_true rfl) (fun r6 => ?_)
    exact ja_retUa hk (pc := 61) (Or.inl ⟨_, rfl⟩) dX0_made_61
  refine jj_ite (fun c_1_3 => ?_) (fun c_1_3 => ?_)
  · refine jj_tIn hk (pc := 1) (k := (4 : Int32)) (t := 4) 62 c_1_3 dX0_made_1 (by decide) rfl rfl (by decide) ?_
    refine ja_new (ci := 10) (fs := [.int 0, .int 0]) hk hH hK (pc := 62) in_X11 tyX11 tyX11_ok q556 q557 q132 rfl (fun j hj => match j, hj with | 0, _ => rfl | 1, _ => rfl | n + 2, h => absurd h (by omega)) (by decide) dX0_made_62 (fun d7 => ?_)
    refine jj_dup hk (pc := 65) dX0_made_65 rfl ?_
    refine jj_iload_n hk (pc := 66) dX0_made_66 1 rfl rfl ?_
    refine jj_iload_n hk (pc := 67) dX0_made_67 2 rfl rfl ?_
    refine kc_X0_11_init hk hH hK (pc := 68) (q0 := d.2) (a0 := a1) (a1 := a2) (fun r h => cc_f11_init l hH σ d7 d.2 a1 a2 r h) dX0_made_68 ⟨Nat.le_of_ble_eq_true rfl, Nat.le_of_ble_eq_true rfl⟩ (Nat.le_of_ble_eq_true rfl) (fun r8 => ?_)
    exact ja_retUa hk (pc := 71) (Or.inl ⟨_, rfl⟩) dX0_made_71
  refine jj_tOut hk (pc := 1) 72 dX0_made_1 ?_ (by decide) ?_
  · have q0 := lv_neT (a := 1) c_1_0 (by decide); have q1 := lv_neT (a := 2) c_1_1 (by decide); have q2 := lv_neT (a := 3) c_1_2 (by decide); have q3 := lv_neT (a := 4) c_1_3 (by decide); omega
  refine ja_new (ci := 11) (fs := [.int 0, .int 0]) hk hH hK (pc := 72) in_X12 tyX12 tyX12_ok q565 q566 q133 rfl (fun j hj => match j, hj with | 0, _ => rfl | 1, _ => rfl | n + 2, h => absurd h (by omega)) (by decide) dX0_made_72 (fun d9 => ?_)
  refine jj_dup hk (pc := 75) dX0_made_75 rfl ?_
  refine jj_iload_n hk (pc := 76) dX0_made_76 1 rfl rfl ?_
  refine jj_iload_n hk (pc := 77) dX0_made_77 2 rfl rfl ?_
  refine kc_X0_12_init hk hH hK (pc := 78) (q0 := d.2) (a0 := a1) (a1 := a2) (fun r h => cc_f12_init l hH σ d9 d.2 a1 a2 r h) dX0_made_78 ⟨Nat.le_of_ble_eq_true rfl, Nat.le_of_ble_eq_true rfl⟩ (Nat.le_of_ble_eq_true rfl) (fun r10 => ?_)
  exact ja_retUa hk (pc := 81) (Or.inl ⟨_, rfl⟩) dX0_made_81
set_option maxHeartbeats 4000000 in
theorem cc_f0_renew (l : Launch) {G : cG} {KK : State → Prop} (hH : cH G KK)  (σ : SS) (d : DS) (a0 : Int32) (res : (SS × DS)) (hf : f0_renew σ d a0 = some res) : jM l yX0_renew (ws_ yX0_renew cX0_renew 2 none) 5 128 [.ref (ha G 0), .int a0] (aWo G) anx KK (σ, d) (jVa res) (hA G) res.2.2 := by
  refine jj_start [(0, .ref (ha G 0)), (1, .int a0)] (by decide) (Nat.le_of_ble_eq_true rfl) rfl (fun p e R s m args below meth c hk hK hsz => ?_) hf
  have hk : jk p R s m args meth c res.2.2 cX0_renew 2 RX0 5 128 none := hk
  refine ja_in ?_
  unfold f0_renew
  refine jj_aload_n hk (pc := 0) dX0_renew_0 0 rfl rfl ?_
  refine jc_g_hands hk hH hK (pc := 1) dX0_renew_1 ?_
  refine jj_iload_n hk (pc := 4) dX0_renew_4 1 rfl rfl ?_
  refine jj_aload_n hk (pc := 5) dX0_renew_5 0 rfl rfl ?_
  refine jc_g_now hk hH hK (pc := 6) dX0_renew_6 ?_
  refine jc_t_kind hk hH hK (pc := 9) dX0_renew_9 ?_
  refine jj_iload_n hk (pc := 12) dX0_renew_12 1 rfl rfl ?_
  refine jc_ld (j := 0) hk hH hK (pc := 13) (by decide) dX0_renew_13 (fun v1 => ?_)
  refine jj_iload_n hk (pc := 14) dX0_renew_14 1 rfl rfl ?_
  refine jj_aload_n hk (pc := 15) dX0_renew_15 0 rfl rfl ?_
  refine jc_g_now hk hH hK (pc := 16) dX0_renew_16 ?_
  refine jc_t_grace hk hH hK (pc := 19) dX0_renew_19 ?_
  refine jj_iload_n hk (pc := 22) dX0_renew_22 1 rfl rfl ?_
  refine jc_ld (j := 1) hk hH hK (pc := 23) (by decide) dX0_renew_23 (fun v2 => ?_)
  refine kc_X0_0_made hk hH hK (pc := 24) (a0 := v1) (a1 := a0) (a2 := v2) (fun r h => cc_f0_made l hH σ d v1 a0 v2 r h) dX0_renew_24 ⟨Nat.le_of_ble_eq_true rfl, Nat.le_of_ble_eq_true rfl⟩ (Nat.le_of_ble_eq_true rfl) (fun r3 => ?_)
  refine ja_stH0 hk hH hK (pc := 27) dX0_renew_27 (fun σ4 => ?_)
  exact ja_retV hk (pc := 28) dX0_renew_28
set_option maxHeartbeats 4000000 in
theorem cc_f0_person (l : Launch) {G : cG} {KK : State → Prop} (hH : cH G KK)  (σ : SS) (d : DS) (a0 : Int32) (a1 : Int32) (a2 : Int32) (res : (Int32 × SS × DS)) (hf : f0_person σ d a0 a1 a2 = some res) : jM l yX0_person (ws_ yX0_person cX0_person 5 (some .int)) 6 149 [.ref (ha G 0), .int a0, .int a1, .int a2] (aWo G) anx KK (σ, d) (jUa (fun x : Int32 => .int x) res) (hA G) res.2.2.2 := by
  refine jj_start [(0, .ref (ha G 0)), (1, .int a0), (2, .int a1), (3, .int a2)] (by decide) (Nat.le_of_ble_eq_true rfl) rfl (fun p e R s m args below meth c hk hK hsz => ?_) hf
  have hk : jk p R s m args meth c res.2.2.2 cX0_person 5 RX0 6 149 (some .int) := hk
  refine ja_in ?_
  unfold f0_person
  refine jj_iload_n hk (pc := 0) dX0_person_0 1 rfl rfl ?_
  refine kc_X0_0_isKind hk hH hK (pc := 1) (a0 := a0) (fun r h => cc_f0_isKind l hH d σ a0 r h) dX0_person_1 ⟨Nat.le_of_ble_eq_true rfl, Nat.le_of_ble_eq_true rfl⟩ (Nat.le_of_ble_eq_true rfl) (fun r1 => ?_)
  refine jj_if_eq_b hk (pc := 4) 21 dX0_person_4 (by decide) ?_ ?_
  · refine jj_iconst hk (pc := 21) (v := (-1 : Int32)) dX0_person_21 (by decide) ?_
    exact ja_retUi hk (pc := 22) dX0_person_22
  · refine jj_iload_n hk (pc := 7) dX0_person_7 2 rfl rfl ?_
    refine kc_X0_0_isPart hk hH hK (pc := 8) (a0 := a1) (fun r h => cc_f0_isPart l hH d σ a1 r h) dX0_person_8 ⟨Nat.le_of_ble_eq_true rfl, Nat.le_of_ble_eq_true rfl⟩ (Nat.le_of_ble_eq_true rfl) (fun r2 => ?_)
    refine jj_if_eq_b hk (pc := 11) 21 dX0_person_11 (by decide) ?_ ?_
    · refine jj_iconst hk (pc := 21) (v := (-1 : Int32)) dX0_person_21 (by decide) ?_
      exact ja_retUi hk (pc := 22) dX0_person_22
    · refine jj_iload_n hk (pc := 14) dX0_person_14 3 rfl rfl ?_
      refine kc_X0_0_isPart hk hH hK (pc := 15) (a0 := a2) (fun r h => cc_f0_isPart l hH d σ a2 r h) dX0_person_15 ⟨Nat.le_of_ble_eq_true rfl, Nat.le_of_ble_eq_true rfl⟩ (Nat.le_of_ble_eq_true rfl) (fun r3 => ?_)
      refine jj_if_ne_b hk (pc := 18) 23 dX0_person_18 (by decide) ?_ ?_
      · refine jj_aload_n hk (pc := 23) dX0_person_23 0 rfl rfl ?_
        refine jc_g_now hk hH hK (pc := 24) dX0_person_24 ?_
        refine jc_t_people hk hH hK (pc := 27) dX0_person_27 ?_
        refine jj_bipush hk (pc := 30) (v := (6 : Int32)) dX0_person_30 (by decide) ?_
        refine jj_icmp_ne hk (pc := 32) 38 dX0_person_32 (by decide) ?_ ?_
        · refine jj_aload_n hk (pc := 38) dX0_person_38 0 rfl rfl ?_
          refine jc_g_now hk hH hK (pc := 39) dX0_person_39 ?_
          refine jc_t_people hk hH hK (pc := 42) dX0_person_42 ?_
          refine jj_istore hk (pc := 45) [(4, .int (σ.1 0)), (0, .ref (ha G 0)), (1, .int a0), (2, .int a1), (3, .int a2)] dX0_person_45 (Nat.le_of_ble_eq_true rfl) rfl ?_
          refine jj_aload_n hk (pc := 47) dX0_person_47 1 rfl rfl ?_
          refine jc_g_now hk hH hK (pc := 48) dX0_person_48 ?_
          refine jc_t_kind hk hH hK (pc := 51) dX0_person_51 ?_
          refine jj_iload hk (pc := 54) dX0_person_54 0 rfl ?_
          refine jj_iload_n hk (pc := 56) dX0_person_56 2 rfl rfl ?_
          refine jc_st (j := 0) hk hH hK (pc := 57) (by decide) dX0_person_57 (fun σ4 => ?_)
          refine jj_aload_n hk (pc := 58) dX0_person_58 1 rfl rfl ?_
          refine jc_g_now hk hH hK (pc := 59) dX0_person_59 ?_
          refine jc_t_grace hk hH hK (pc := 62) dX0_person_62 ?_
          refine jj_iload hk (pc := 65) dX0_person_65 0 rfl ?_
          refine jj_iload_n hk (pc := 67) dX0_person_67 3 rfl rfl ?_
          refine jc_st (j := 1) hk hH hK (pc := 68) (by decide) dX0_person_68 (fun σ5 => ?_)
          refine jj_aload_n hk (pc := 69) dX0_person_69 1 rfl rfl ?_
          refine jc_g_now hk hH hK (pc := 70) dX0_person_70 ?_
          refine jc_t_strength hk hH hK (pc := 73) dX0_person_73 ?_
          refine jj_iload hk (pc := 76) dX0_person_76 0 rfl ?_
          refine jj_iload_n hk (pc := 78) dX0_person_78 4 rfl rfl ?_
          refine jc_st (j := 2) hk hH hK (pc := 79) (by decide) dX0_person_79 (fun σ6 => ?_)
          refine jj_aload_n hk (pc := 80) dX0_person_80 1 rfl rfl ?_
          refine jc_g_now hk hH hK (pc := 81) dX0_person_81 ?_
          refine jj_dup hk (pc := 84) dX0_person_84 rfl ?_
          refine jc_t_people hk hH hK (pc := 85) dX0_person_85 ?_
          refine jj_iconst hk (pc := 88) (v := (1 : Int32)) dX0_person_88 (by decide) ?_
          refine jj_iadd hk (pc := 89) dX0_person_89 ?_
          refine jc_tp_people hk hH hK (pc := 90) dX0_person_90 (fun σ7 => ?_)
          refine jj_aload_n hk (pc := 93) dX0_person_93 1 rfl rfl ?_
          refine jj_iload hk (pc := 94) dX0_person_94 0 rfl ?_
          refine kc_X0_0_renew hk hH hK (pc := 96) (a0 := (σ.1 0)) (fun r h => cc_f0_renew l hH σ7 d (σ.1 0) r h) dX0_person_96 ⟨Nat.le_of_ble_eq_true rfl, Nat.le_of_ble_eq_true rfl⟩ (Nat.le_of_ble_eq_true rfl) (fun r8 => ?_)
          refine jj_iload hk (pc := 99) dX0_person_99 0 rfl ?_
          exact ja_retUi hk (pc := 101) dX0_person_101
        · refine jj_bipush hk (pc := 35) (v := (-2 : Int32)) dX0_person_35 (by decide) ?_
          exact ja_retUi hk (pc := 37) dX0_person_37
      · refine jj_iconst hk (pc := 21) (v := (-1 : Int32)) dX0_person_21 (by decide) ?_
        exact ja_retUi hk (pc := 22) dX0_person_22
set_option maxHeartbeats 4000000 in
theorem cc_f0_change (l : Launch) {G : cG} {KK : State → Prop} (hH : cH G KK)  (σ : SS) (d : DS) (a0 : Int32) (a1 : Int32) (a2 : Int32) (res : (Int32 × SS × DS)) (hf : f0_change σ d a0 a1 a2 = some res) : jM l yX0_change (ws_ yX0_change cX0_change 6 (some .int)) 6 149 [.ref (ha G 0), .int a0, .int a1, .int a2] (aWo G) anx KK (σ, d) (jUa (fun x : Int32 => .int x) res) (hA G) res.2.2.2 := by
  refine jj_start [(0, .ref (ha G 0)), (1, .int a0), (2, .int a1), (3, .int a2)] (by decide) (Nat.le_of_ble_eq_true rfl) rfl (fun p e R s m args below meth c hk hK hsz => ?_) hf
  have hk : jk p R s m args meth c res.2.2.2 cX0_change 6 RX0 6 149 (some .int) := hk
  refine ja_in ?_
  unfold f0_change
  refine jj_aload_n hk (pc := 0) dX0_change_0 0 rfl rfl ?_
  refine jj_iload_n hk (pc := 1) dX0_change_1 1 rfl rfl ?_
  refine kc_X0_0_isPerson hk hH hK (pc := 2) (a0 := a0) (fun r h => cc_f0_isPerson l hH d σ a0 r h) dX0_change_2 ⟨Nat.le_of_ble_eq_true rfl, Nat.le_of_ble_eq_true rfl⟩ (Nat.le_of_ble_eq_true rfl) (fun r1 => ?_)
  refine jj_if_eq_b hk (pc := 5) 24 dX0_change_5 (by decide) ?_ ?_
  · refine jj_iconst hk (pc := 24) (v := (-1 : Int32)) dX0_change_24 (by decide) ?_
    exact ja_retUi hk (pc := 25) dX0_change_25
  · refine jj_iload_n hk (pc := 8) dX0_change_8 2 rfl rfl ?_
    refine jj_iconst hk (pc := 9) (v := (1 : Int32)) dX0_change_9 (by decide) ?_
    refine jj_iconst hk (pc := 10) (v := (2 : Int32)) dX0_change_10 (by decide) ?_
    refine kc_X0_0_isIn hk hH hK (pc := 11) (a0 := a1) (a1 := (1 : Int32)) (a2 := (2 : Int32)) (fun r h => cc_f0_isIn l hH d σ a1 (1 : Int32) (2 : Int32) r h) dX0_change_11 ⟨Nat.le_of_ble_eq_true rfl, Nat.le_of_ble_eq_true rfl⟩ (Nat.le_of_ble_eq_true rfl) (fun r2 => ?_)
    refine jj_if_eq_b hk (pc := 14) 24 dX0_change_14 (by decide) ?_ ?_
    · refine jj_iconst hk (pc := 24) (v := (-1 : Int32)) dX0_change_24 (by decide) ?_
      exact ja_retUi hk (pc := 25) dX0_change_25
    · refine jj_iload_n hk (pc := 17) dX0_change_17 3 rfl rfl ?_
      refine kc_X0_0_isPart hk hH hK (pc := 18) (a0 := a2) (fun r h => cc_f0_isPart l hH d σ a2 r h) dX0_change_18 ⟨Nat.le_of_ble_eq_true rfl, Nat.le_of_ble_eq_true rfl⟩ (Nat.le_of_ble_eq_true rfl) (fun r3 => ?_)
      refine jj_if_ne_b hk (pc := 21) 26 dX0_change_21 (by decide) ?_ ?_
      · refine jj_iload_n hk (pc := 26) dX0_change_26 2 rfl rfl ?_
        refine jj_iconst hk (pc := 27) (v := (1 : Int32)) dX0_change_27 (by decide) ?_
        refine jj_icmp_ne hk (pc := 28) 41 dX0_change_28 (by decide) ?_ ?_
        · refine jj_aload_n hk (pc := 41) dX0_change_41 0 rfl rfl ?_
          refine jc_g_now hk hH hK (pc := 42) dX0_change_42 ?_
          refine jc_t_strength hk hH hK (pc := 45) dX0_change_45 ?_
          refine jj_astore hk (pc := 48) [(4, .ref (ha G 17)), (0, .ref (ha G 0)), (1, .int a0), (2, .int a1), (3, .int a2)] dX0_change_48 (Nat.le_of_ble_eq_true rfl) rfl ?_
          refine jj_aload hk (pc := 50) dX0_change_50 0 rfl ?_
          refine jj_iload_n hk (pc := 52) dX0_change_52 2 rfl rfl ?_
          refine jc_ld (j := 2) hk hH hK (pc := 53) (by decide) dX0_change_53 (fun v4 => ?_)
          refine jj_istore hk (pc := 54) [(5, .int v4), (4, .ref (ha G 17)), (0, .ref (ha G 0)), (1, .int a0), (2, .int a1), (3, .int a2)] dX0_change_54 (Nat.le_of_ble_eq_true rfl) rfl ?_
          refine jj_aload hk (pc := 56) dX0_change_56 1 rfl ?_
          refine jj_iload_n hk (pc := 58) dX0_change_58 3 rfl rfl ?_
          refine jj_iload_n hk (pc := 59) dX0_change_59 5 rfl rfl ?_
          refine jc_st (j := 2) hk hH hK (pc := 60) (by decide) dX0_change_60 (fun σ5 => ?_)
          refine jj_aload_n hk (pc := 61) dX0_change_61 2 rfl rfl ?_
          refine jj_iload_n hk (pc := 62) dX0_change_62 3 rfl rfl ?_
          refine kc_X0_0_renew hk hH hK (pc := 63) (a0 := a0) (fun r h => cc_f0_renew l hH σ5 d a0 r h) dX0_change_63 ⟨Nat.le_of_ble_eq_true rfl, Nat.le_of_ble_eq_true rfl⟩ (Nat.le_of_ble_eq_true rfl) (fun r6 => ?_)
          refine jj_iload hk (pc := 66) dX0_change_66 0 rfl ?_
          exact ja_retUi hk (pc := 68) dX0_change_68
        · refine jj_aload_n hk (pc := 31) dX0_change_31 0 rfl rfl ?_
          refine jc_g_now hk hH hK (pc := 32) dX0_change_32 ?_
          refine jc_t_grace hk hH hK (pc := 35) dX0_change_35 ?_
          refine jj_goto hk (pc := 38) 48 dX0_change_38 (by decide) ?_
          refine jj_astore hk (pc := 48) [(4, .ref (ha G 16)), (0, .ref (ha G 0)), (1, .int a0), (2, .int a1), (3, .int a2)] dX0_change_48 (Nat.le_of_ble_eq_true rfl) rfl ?_
          refine jj_aload hk (pc := 50) dX0_change_50 0 rfl ?_
          refine jj_iload_n hk (pc := 52) dX0_change_52 2 rfl rfl ?_
          refine jc_ld (j := 1) hk hH hK (pc := 53) (by decide) dX0_change_53 (fun v7 => ?_)
          refine jj_istore hk (pc := 54) [(5, .int v7), (4, .ref (ha G 16)), (0, .ref (ha G 0)), (1, .int a0), (2, .int a1), (3, .int a2)] dX0_change_54 (Nat.le_of_ble_eq_true rfl) rfl ?_
          refine jj_aload hk (pc := 56) dX0_change_56 1 rfl ?_
          refine jj_iload_n hk (pc := 58) dX0_change_58 3 rfl rfl ?_
          refine jj_iload_n hk (pc := 59) dX0_change_59 5 rfl rfl ?_
          refine jc_st (j := 1) hk hH hK (pc := 60) (by decide) dX0_change_60 (fun σ8 => ?_)
          refine jj_aload_n hk (pc := 61) dX0_change_61 2 rfl rfl ?_
          refine jj_iload_n hk (pc := 62) dX0_change_62 3 rfl rfl ?_
          refine kc_X0_0_renew hk hH hK (pc := 63) (a0 := a0) (fun r h => cc_f0_renew l hH σ8 d a0 r h) dX0_change_63 ⟨Nat.le_of_ble_eq_true rfl, Nat.le_of_ble_eq_true rfl⟩ (Nat.le_of_ble_eq_true rfl) (fun r9 => ?_)
          refine jj_iload hk (pc := 66) dX0_change_66 0 rfl ?_
          exact ja_retUi hk (pc := 68) dX0_change_68
      · refine jj_iconst hk (pc := 24) (v := (-1 : Int32)) dX0_change_24 (by decide) ?_
        exact ja_retUi hk (pc := 25) dX0_change_25
set_option maxHeartbeats 4000000 in
theorem cc_f0_remake (l : Launch) {G : cG} {KK : State → Prop} (hH : cH G KK)  (σ : SS) (d : DS) (a0 : Int32) (a1 : Int32) (res : (Int32 × SS × DS)) (hf : f0_remake σ d a0 a1 = some res) : jM l yX0_remake (ws_ yX0_remake cX0_remake 4 (some .int)) 6 149 [.ref (ha G 0), .int a0, .int a1] (aWo G) anx KK (σ, d) (jUa (fun x : Int32 => .int x) res) (hA G) res.2.2.2 := by
  refine jj_start [(0, .ref (ha G 0)), (1, .int a0), (2, .int a1)] (by decide) (Nat.le_of_ble_eq_true rfl) rfl (fun p e R s m args below meth c hk hK hsz => ?_) hf
  have hk : jk p R s m args meth c res.2.2.2 cX0_remake 4 RX0 6 149 (some .int) := hk
  refine ja_in ?_
  unfold f0_remake
  refine jj_aload_n hk (pc := 0) dX0_remake_0 0 rfl rfl ?_
  refine jj_iload_n hk (pc := 1) dX0_remake_1 1 rfl rfl ?_
  refine kc_X0_0_isPerson hk hH hK (pc := 2) (a0 := a0) (fun r h => cc_f0_isPerson l hH d σ a0 r h) dX0_remake_2 ⟨Nat.le_of_ble_eq_true rfl, Nat.le_of_ble_eq_true rfl⟩ (Nat.le_of_ble_eq_true rfl) (fun r1 => ?_)
  refine jj_if_eq_b hk (pc := 5) 15 dX0_remake_5 (by decide) ?_ ?_
  · refine jj_iconst hk (pc := 15) (v := (-1 : Int32)) dX0_remake_15 (by decide) ?_
    exact ja_retUi hk (pc := 16) dX0_remake_16
  · refine jj_iload_n hk (pc := 8) dX0_remake_8 2 rfl rfl ?_
    refine kc_X0_0_isKind hk hH hK (pc := 9) (a0 := a1) (fun r h => cc_f0_isKind l hH d σ a1 r h) dX0_remake_9 ⟨Nat.le_of_ble_eq_true rfl, Nat.le_of_ble_eq_true rfl⟩ (Nat.le_of_ble_eq_true rfl) (fun r2 => ?_)
    refine jj_if_ne_b hk (pc := 12) 17 dX0_remake_12 (by decide) ?_ ?_
    · refine jj_aload_n hk (pc := 17) dX0_remake_17 0 rfl rfl ?_
      refine jc_g_now hk hH hK (pc := 18) dX0_remake_18 ?_
      refine jc_t_kind hk hH hK (pc := 21) dX0_remake_21 ?_
      refine jj_iload_n hk (pc := 24) dX0_remake_24 1 rfl rfl ?_
      refine jc_ld (j := 0) hk hH hK (pc := 25) (by decide) dX0_remake_25 (fun v3 => ?_)
      refine jj_istore_n hk (pc := 26) [(3, .int v3), (0, .ref (ha G 0)), (1, .int a0), (2, .int a1)] dX0_remake_26 rfl (Nat.le_of_ble_eq_true rfl) rfl ?_
      refine jj_aload_n hk (pc := 27) dX0_remake_27 1 rfl rfl ?_
      refine jc_g_now hk hH hK (pc := 28) dX0_remake_28 ?_
      refine jc_t_kind hk hH hK (pc := 31) dX0_remake_31 ?_
      refine jj_iload_n hk (pc := 34) dX0_remake_34 2 rfl rfl ?_
      refine jj_iload_n hk (pc := 35) dX0_remake_35 3 rfl rfl ?_
      refine jc_st (j := 0) hk hH hK (pc := 36) (by decide) dX0_remake_36 (fun σ4 => ?_)
      refine jj_aload_n hk (pc := 37) dX0_remake_37 1 rfl rfl ?_
      refine jj_iload_n hk (pc := 38) dX0_remake_38 2 rfl rfl ?_
      refine kc_X0_0_renew hk hH hK (pc := 39) (a0 := a0) (fun r h => cc_f0_renew l hH σ4 d a0 r h) dX0_remake_39 ⟨Nat.le_of_ble_eq_true rfl, Nat.le_of_ble_eq_true rfl⟩ (Nat.le_of_ble_eq_true rfl) (fun r5 => ?_)
      refine jj_iload_n hk (pc := 42) dX0_remake_42 0 rfl rfl ?_
      exact ja_retUi hk (pc := 43) dX0_remake_43
    · refine jj_iconst hk (pc := 15) (v := (-1 : Int32)) dX0_remake_15 (by decide) ?_
      exact ja_retUi hk (pc := 16) dX0_remake_16
set_option maxHeartbeats 4000000 in
theorem wb_f0_again_L23 {res : (Int32 × SS × DS)} (hk : jk p R s m args meth c res.2.2.2 cX0_again 2 RX0 6 149 (some .int)) (hH : cH G KK) (hK : KK s) (N : Nat) : ∀ (n : Nat) (σ : SS) (d : DS) (x1 : Int32), jj p l e R s m args below meth c (hA G) res.2.2.2 (jZ below args s (hA G) res.2.2.2 (jUa (fun x : Int32 => .int x) res) (aWo G) anx) (cWo G d) (cnx d) 2 σ 23 [(0, .ref (ha G 0)), (1, .int x1)] [] (f0_again_L23 N n σ d x1 = some res) := by
  intro n
  induction n with
  | zero => intro σ d x1; exact jj_eq (fun hz => by rw [f0_again_L23] at hz; exact hz) jj_no
  | succ n ih =>
    intro σ d x1
    rw [f0_again_L23]
    refine jj_iload_n hk (pc := 23) dX0_again_23 1 rfl rfl ?_
    refine jj_aload_n hk (pc := 24) dX0_again_24 0 rfl rfl ?_
    refine jc_g_now hk hH hK (pc := 25) dX0_again_25 ?_
    refine jc_t_people hk hH hK (pc := 28) dX0_again_28 ?_
    refine jj_icmp_ge hk (pc := 31) 45 dX0_again_31 (by decide) ?_ ?_
    · refine jj_aload_n hk (pc := 45) dX0_again_45 0 rfl rfl ?_
      refine jc_g_now hk hH hK (pc := 46) dX0_again_46 ?_
      refine jc_t_people hk hH hK (pc := 49) dX0_again_49 ?_
      exact ja_retUi hk (pc := 52) dX0_again_52
    · refine jj_aload_n hk (pc := 34) dX0_again_34 0 rfl rfl ?_
      refine jj_iload_n hk (pc := 35) dX0_again_35 1 rfl rfl ?_
      refine kc_X0_0_renew hk hH hK (pc := 36) (a0 := x1) (fun r h => cc_f0_renew l hH σ d x1 r h) dX0_again_36 ⟨Nat.le_of_ble_eq_true rfl, Nat.le_of_ble_eq_true rfl⟩ (Nat.le_of_ble_eq_true rfl) (fun r1 => ?_)
      refine jj_iinc hk (pc := 39) [(1, .int (x1 + 1)), (0, .ref (ha G 0))] dX0_again_39 1 rfl rfl (Nat.le_of_ble_eq_true rfl) rfl ?_
      refine jj_goto hk (pc := 42) 23 dX0_again_42 (by decide) ?_
      refine jj_loc [(0, .ref (ha G 0)), (1, .int (x1 + 1))] [1, 0] rfl ?_
      exact ih r1.1 r1.2 (x1 + 1)
set_option maxHeartbeats 4000000 in
theorem cc_f0_again (l : Launch) {G : cG} {KK : State → Prop} (hH : cH G KK) (N : Nat) (σ : SS) (d : DS)  (res : (Int32 × SS × DS)) (hf : f0_again N σ d = some res) : jM l yX0_again (ws_ yX0_again cX0_again 2 (some .int)) 6 149 [.ref (ha G 0)] (aWo G) anx KK (σ, d) (jUa (fun x : Int32 => .int x) res) (hA G) res.2.2.2 := by
  refine jj_start [(0, .ref (ha G 0))] (by decide) (Nat.le_of_ble_eq_true rfl) rfl (fun p e R s m args below meth c hk hK hsz => ?_) hf
  have hk : jk p R s m args meth c res.2.2.2 cX0_again 2 RX0 6 149 (some .int) := hk
  refine ja_in ?_
  unfold f0_again
  refine jj_aload_n hk (pc := 0) dX0_again_0 0 rfl rfl ?_
  refine jc_g_isKept hk hH hK (pc := 1) dX0_again_1 ?_
  refine jj_if_ne hk (pc := 4) 10 dX0_again_4 (by decide) ?_ ?_
  · refine jj_aload_n hk (pc := 10) dX0_again_10 0 rfl rfl ?_
    refine jc_g_now hk hH hK (pc := 11) dX0_again_11 ?_
    refine jj_aload_n hk (pc := 14) dX0_again_14 0 rfl rfl ?_
    refine jc_g_kept hk hH hK (pc := 15) dX0_again_15 ?_
    refine kc_X0_3_become hk hH hK (pc := 18) (t0 := 0) (t1 := 1) (fun r h => cc_f3_become l hH d σ 0 1 (by decide) (by decide) r h) (by decide) (by decide) dX0_again_18 ⟨Nat.le_of_ble_eq_true rfl, Nat.le_of_ble_eq_true rfl⟩ (Nat.le_of_ble_eq_true rfl) (fun r1 => ?_)
    refine jj_iconst hk (pc := 21) (v := (0 : Int32)) dX0_again_21 (by decide) ?_
    refine jj_istore_n hk (pc := 22) [(1, .int (0 : Int32)), (0, .ref (ha G 0))] dX0_again_22 rfl (Nat.le_of_ble_eq_true rfl) rfl ?_
    refine jj_loc [(0, .ref (ha G 0)), (1, .int (0 : Int32))] [1, 0] rfl ?_
    exact wb_f0_again_L23 hk hH hK N N r1 d (0 : Int32)
  · refine jj_bipush hk (pc := 7) (v := (-3 : Int32)) dX0_again_7 (by decide) ?_
    exact ja_retUi hk (pc := 9) dX0_again_9
set_option maxHeartbeats 4000000 in
theorem cc_f0_strange (l : Launch) {G : cG} {KK : State → Prop} (hH : cH G KK)  (σ : SS) (d : DS) (a0 : Int32) (res : (Nat × SS × DS)) (hf : f0_strange σ d a0 = some res) : jM l yX0_strange (ws_ yX0_strange cX0_strange 2 (some (.object "LeftUndoes$Hand"))) 5 128 [.ref (ha G 0), .int a0] (aWo G) anx KK (σ, d) (jUa (fun x : Nat => .ref x) res) (hA G) res.2.2.2 := by
  refine jj_start [(0, .ref (ha G 0)), (1, .int a0)] (by decide) (Nat.le_of_ble_eq_true rfl) rfl (fun p e R s m args below meth c hk hK hsz => ?_) hf
  have hk : jk p R s m args meth c res.2.2.2 cX0_strange 2 RX0 5 128 (some (.object "LeftUndoes$Hand")) := hk
  refine ja_in ?_
  unfold f0_strange
  refine jj_aload_n hk (pc := 0) dX0_strange_0 0 rfl rfl ?_
  refine jc_g_strangers hk hH hK (pc := 1) dX0_strange_1 ?_
  refine jj_iload_n hk (pc := 4) dX0_strange_4 1 rfl rfl ?_
  refine jc_ldR1 hk hH hK (pc := 5) dX0_strange_5 (fun o1 => ?_)
  refine jc_ifnonnull hk hH hK (pc := 6) 31 dX0_strange_6 (by decide) ?_ ?_
  · refine jj_aload_n hk (pc := 31) dX0_strange_31 0 rfl rfl ?_
    refine jc_g_strangers hk hH hK (pc := 32) dX0_strange_32 ?_
    refine jj_iload_n hk (pc := 35) dX0_strange_35 1 rfl rfl ?_
    refine jc_ldN1 hk hH hK (pc := 36) dX0_strange_36 (fun q2 => ?_)
    exact ja_retUa hk (pc := 37) (Or.inl ⟨_, rfl⟩) dX0_strange_37
  · refine jj_aload_n hk (pc := 9) dX0_strange_9 0 rfl rfl ?_
    refine jc_g_strangers hk hH hK (pc := 10) dX0_strange_10 ?_
    refine jj_iload_n hk (pc := 13) dX0_strange_13 1 rfl rfl ?_
    refine jj_iconst hk (pc := 14) (v := (1 : Int32)) dX0_strange_14 (by decide) ?_
    refine jj_iload_n hk (pc := 15) dX0_strange_15 1 rfl rfl ?_
    refine jj_bipush hk (pc := 16) (v := (9 : Int32)) dX0_strange_16 (by decide) ?_
    refine jj_idiv hk (pc := 18) dX0_strange_18 (by decide) ?_
    refine jj_iadd hk (pc := 19) dX0_strange_19 ?_
    refine jj_iconst hk (pc := 20) (v := (0 : Int32)) dX0_strange_20 (by decide) ?_
    refine jj_iconst hk (pc := 21) (v := (1 : Int32)) dX0_strange_21 (by decide) ?_
    refine jj_iload_n hk (pc := 22) dX0_strange_22 1 rfl rfl ?_
    refine jj_bipush hk (pc := 23) (v := (9 : Int32)) dX0_strange_23 (by decide) ?_
    refine jj_irem hk (pc := 25) dX0_strange_25 (by decide) ?_
    refine jj_iadd hk (pc := 26) dX0_strange_26 ?_
    refine kc_X0_0_made hk hH hK (pc := 27) (a0 := ((1 : Int32) + (a0 / (9 : Int32)))) (a1 := (0 : Int32)) (a2 := ((1 : Int32) + (a0 - a0 / (9 : Int32) * (9 : Int32)))) (fun r h => cc_f0_made l hH σ d ((1 : Int32) + (a0 / (9 : Int32))) (0 : Int32) ((1 : Int32) + (a0 - a0 / (9 : Int32) * (9 : Int32))) r h) dX0_strange_27 ⟨Nat.le_of_ble_eq_true rfl, Nat.le_of_ble_eq_true rfl⟩ (Nat.le_of_ble_eq_true rfl) (fun r3 => ?_)
    refine ja_stH1 hk hH hK (pc := 30) dX0_strange_30 (fun σ4 => ?_)
    refine jj_aload_n hk (pc := 31) dX0_strange_31 0 rfl rfl ?_
    refine jc_g_strangers hk hH hK (pc := 32) dX0_strange_32 ?_
    refine jj_iload_n hk (pc := 35) dX0_strange_35 1 rfl rfl ?_
    refine jc_ldN1 hk hH hK (pc := 36) dX0_strange_36 (fun q5 => ?_)
    exact ja_retUa hk (pc := 37) (Or.inl ⟨_, rfl⟩) dX0_strange_37
set_option maxHeartbeats 4000000 in
theorem wb_f0_isSo_B62 {res : (Bool × SS × DS)} (hk : jk p R s m args meth c res.2.2.2 cX0_isSo 5 RX0 6 200 (some .boolean)) (hH : cH G KK) (hK : KK s) (N : Nat) (σ : SS) (d : DS) (x1 : Int32) (x4 : Int32) : jj p l e R s m args below meth c (hA G) res.2.2.2 (jZ below args s (hA G) res.2.2.2 (jUa (fun x : Bool => .int (bI x)) res) (aWo G) anx) (cWo G d) (cnx d) 5 σ 62 [(0, .ref (ha G 0)), (1, .int x1), (4, .int x4)] [] (f0_isSo_B62 N σ d x1 x4 = some res) := by
  unfold f0_isSo_B62
  refine jj_iload hk (pc := 62) dX0_isSo_62 2 rfl ?_
  refine jj_aload_n hk (pc := 64) dX0_isSo_64 0 rfl rfl ?_
  refine jc_g_now hk hH hK (pc := 65) dX0_isSo_65 ?_
  refine jc_t_by hk hH hK (pc := 68) dX0_isSo_68 ?_
  refine jj_iload_n hk (pc := 71) dX0_isSo_71 1 rfl rfl ?_
  refine jc_ld (j := 11) hk hH hK (pc := 72) (by decide) dX0_isSo_72 (fun v1 => ?_)
  refine jj_icmp_gt hk (pc := 73) 87 dX0_isSo_73 (by decide) ?_ ?_
  · refine jj_iconst hk (pc := 87) (v := (0 : Int32)) dX0_isSo_87 (by decide) ?_
    refine jj_aload_n hk (pc := 88) dX0_isSo_88 0 rfl rfl ?_
    refine jc_g_now hk hH hK (pc := 89) dX0_isSo_89 ?_
    refine jc_t_was hk hH hK (pc := 92) dX0_isSo_92 ?_
    refine jj_iload_n hk (pc := 95) dX0_isSo_95 1 rfl rfl ?_
    refine jc_ld (j := 12) hk hH hK (pc := 96) (by decide) dX0_isSo_96 (fun v2 => ?_)
    refine jj_icmp_ne hk (pc := 97) 104 dX0_isSo_97 (by decide) ?_ ?_
    · refine jj_iconst hk (pc := 104) (v := (0 : Int32)) dX0_isSo_104 (by decide) ?_
      exact ja_retUz (x := false) hk (pc := 105) dX0_isSo_105
    · refine jj_iconst hk (pc := 100) (v := (1 : Int32)) dX0_isSo_100 (by decide) ?_
      refine jj_goto hk (pc := 101) 105 dX0_isSo_101 (by decide) ?_
      exact ja_retUz (x := true) hk (pc := 105) dX0_isSo_105
  · refine jj_iload hk (pc := 76) dX0_isSo_76 2 rfl ?_
    refine jj_bipush hk (pc := 78) (v := (31 : Int32)) dX0_isSo_78 (by decide) ?_
    refine jj_icmp_gt hk (pc := 80) 87 dX0_isSo_80 (by decide) ?_ ?_
    · refine jj_iconst hk (pc := 87) (v := (0 : Int32)) dX0_isSo_87 (by decide) ?_
      refine jj_aload_n hk (pc := 88) dX0_isSo_88 0 rfl rfl ?_
      refine jc_g_now hk hH hK (pc := 89) dX0_isSo_89 ?_
      refine jc_t_was hk hH hK (pc := 92) dX0_isSo_92 ?_
      refine jj_iload_n hk (pc := 95) dX0_isSo_95 1 rfl rfl ?_
      refine jc_ld (j := 12) hk hH hK (pc := 96) (by decide) dX0_isSo_96 (fun v3 => ?_)
      refine jj_icmp_ne hk (pc := 97) 104 dX0_isSo_97 (by decide) ?_ ?_
      · refine jj_iconst hk (pc := 104) (v := (0 : Int32)) dX0_isSo_104 (by decide) ?_
        exact ja_retUz (x := false) hk (pc := 105) dX0_isSo_105
      · refine jj_iconst hk (pc := 100) (v := (1 : Int32)) dX0_isSo_100 (by decide) ?_
        refine jj_goto hk (pc := 101) 105 dX0_isSo_101 (by decide) ?_
        exact ja_retUz (x := true) hk (pc := 105) dX0_isSo_105
    · refine jj_iconst hk (pc := 83) (v := (1 : Int32)) dX0_isSo_83 (by decide) ?_
      refine jj_goto hk (pc := 84) 88 dX0_isSo_84 (by decide) ?_
      refine jj_aload_n hk (pc := 88) dX0_isSo_88 0 rfl rfl ?_
      refine jc_g_now hk hH hK (pc := 89) dX0_isSo_89 ?_
      refine jc_t_was hk hH hK (pc := 92) dX0_isSo_92 ?_
      refine jj_iload_n hk (pc := 95) dX0_isSo_95 1 rfl rfl ?_
      refine jc_ld (j := 12) hk hH hK (pc := 96) (by decide) dX0_isSo_96 (fun v4 => ?_)
      refine jj_icmp_ne hk (pc := 97) 104 dX0_isSo_97 (by decide) ?_ ?_
      · refine jj_iconst hk (pc := 104) (v := (0 : Int32)) dX0_isSo_104 (by decide) ?_
        exact ja_retUz (x := false) hk (pc := 105) dX0_isSo_105
      · refine jj_iconst hk (pc := 100) (v := (1 : Int32)) dX0_isSo_100 (by decide) ?_
        refine jj_goto hk (pc := 101) 105 dX0_isSo_101 (by decide) ?_
        exact ja_retUz (x := true) hk (pc := 105) dX0_isSo_105
set_option maxHeartbeats 4000000 in
theorem wb_f0_isSo_L25 {res : (Bool × SS × DS)} (hk : jk p R s m args meth c res.2.2.2 cX0_isSo 5 RX0 6 200 (some .boolean)) (hH : cH G KK) (hK : KK s) (N : Nat) : ∀ (n : Nat) (σ : SS) (d : DS) (x1 : Int32) (x2 : Int32) (x3 : Nat) (x4 : Int32), jj p l e R s m args below meth c (hA G) res.2.2.2 (jZ below args s (hA G) res.2.2.2 (jUa (fun x : Bool => .int (bI x)) res) (aWo G) anx) (cWo G d) (cnx d) 5 σ 25 [(0, .ref (ha G 0)), (1, .int x1), (2, .int x2), (3, .ref x3), (4, .int x4)] [] (f0_isSo_L25 N n σ d x1 x2 x3 x4 = some res) := by
  intro n
  induction n with
  | zero => intro σ d x1 x2 x3 x4; exact jj_eq (fun hz => by rw [f0_isSo_L25] at hz; exact hz) jj_no
  | succ n ih =>
    intro σ d x1 x2 x3 x4
    rw [f0_isSo_L25]
    refine jj_iload hk (pc := 25) dX0_isSo_25 4 rfl ?_
    refine jj_bipush hk (pc := 27) (v := (31 : Int32)) dX0_isSo_27 (by decide) ?_
    refine jj_icmp_gt hk (pc := 29) 62 dX0_isSo_29 (by decide) ?_ ?_
    · refine jj_loc [(0, .ref (ha G 0)), (1, .int x1), (4, .int x4)] [0, 1, 4] rfl ?_
      exact wb_f0_isSo_B62 hk hH hK N σ d x1 x4
    · refine jj_aload_n hk (pc := 32) dX0_isSo_32 3 rfl rfl ?_
      refine jj_iconst hk (pc := 33) (v := (1 : Int32)) dX0_isSo_33 (by decide) ?_
      refine jj_iload_n hk (pc := 34) dX0_isSo_34 2 rfl rfl ?_
      refine jj_bipush hk (pc := 35) (v := (9 : Int32)) dX0_isSo_35 (by decide) ?_
      refine jj_irem hk (pc := 37) dX0_isSo_37 (by decide) ?_
      refine jj_iadd hk (pc := 38) dX0_isSo_38 ?_
      refine jj_iload hk (pc := 39) dX0_isSo_39 4 rfl ?_
      refine kc_X0_pull hk hH hK (pc := 41) (q0 := x3) (a0 := ((1 : Int32) + (x2 - x2 / (9 : Int32) * (9 : Int32)))) (a1 := x4)  dX0_isSo_41 ⟨Nat.le_of_ble_eq_true rfl, Nat.le_of_ble_eq_true rfl⟩ (Nat.le_of_ble_eq_true rfl) (fun r1 => ?_)
      refine jj_aload_n hk (pc := 44) dX0_isSo_44 0 rfl rfl ?_
      refine jc_g_now hk hH hK (pc := 45) dX0_isSo_45 ?_
      refine jc_t_heavy hk hH hK (pc := 48) dX0_isSo_48 ?_
      refine jj_iload_n hk (pc := 51) dX0_isSo_51 1 rfl rfl ?_
      refine jc_ld (j := 9) hk hH hK (pc := 52) (by decide) dX0_isSo_52 (fun v2 => ?_)
      refine jj_icmp_ge hk (pc := 53) 62 dX0_isSo_53 (by decide) ?_ ?_
      · refine jj_loc [(0, .ref (ha G 0)), (1, .int x1), (4, .int x4)] [0, 1, 4] rfl ?_
        exact wb_f0_isSo_B62 hk hH hK N σ d x1 x4
      · refine jj_iinc hk (pc := 56) [(4, .int (x4 + 1)), (0, .ref (ha G 0)), (1, .int x1), (2, .int x2), (3, .ref x3)] dX0_isSo_56 4 rfl rfl (Nat.le_of_ble_eq_true rfl) rfl ?_
        refine jj_goto hk (pc := 59) 25 dX0_isSo_59 (by decide) ?_
        refine jj_loc [(0, .ref (ha G 0)), (1, .int x1), (2, .int x2), (3, .ref x3), (4, .int (x4 + 1))] [1, 2, 3, 4, 0] rfl ?_
        exact ih σ d x1 x2 x3 (x4 + 1)
set_option maxHeartbeats 4000000 in
theorem cc_f0_isSo (l : Launch) {G : cG} {KK : State → Prop} (hH : cH G KK) (N : Nat) (σ : SS) (d : DS) (a0 : Int32) (a1 : Int32) (res : (Bool × SS × DS)) (hf : f0_isSo N σ d a0 a1 = some res) : jM l yX0_isSo (ws_ yX0_isSo cX0_isSo 5 (some .boolean)) 6 200 [.ref (ha G 0), .int a0, .int a1] (aWo G) anx KK (σ, d) (jUa (fun x : Bool => .int (bI x)) res) (hA G) res.2.2.2 := by
  refine jj_start [(0, .ref (ha G 0)), (1, .int a0), (2, .int a1)] (by decide) (Nat.le_of_ble_eq_true rfl) rfl (fun p e R s m args below meth c hk hK hsz => ?_) hf
  have hk : jk p R s m args meth c res.2.2.2 cX0_isSo 5 RX0 6 200 (some .boolean) := hk
  refine ja_in ?_
  unfold f0_isSo
  refine jj_aload_n hk (pc := 0) dX0_isSo_0 0 rfl rfl ?_
  refine jj_iload_n hk (pc := 1) dX0_isSo_1 2 rfl rfl ?_
  refine jj_bipush hk (pc := 2) (v := (9 : Int32)) dX0_isSo_2 (by decide) ?_
  refine jj_idiv hk (pc := 4) dX0_isSo_4 (by decide) ?_
  refine kc_X0_0_strange hk hH hK (pc := 5) (a0 := (a1 / (9 : Int32))) (fun r h => cc_f0_strange l hH σ d (a1 / (9 : Int32)) r h) dX0_isSo_5 ⟨Nat.le_of_ble_eq_true rfl, Nat.le_of_ble_eq_true rfl⟩ (Nat.le_of_ble_eq_true rfl) (fun r1 => ?_)
  refine jj_astore_n hk (pc := 8) [(3, .ref r1.1), (0, .ref (ha G 0)), (1, .int a0), (2, .int a1)] dX0_isSo_8 rfl (Nat.le_of_ble_eq_true rfl) rfl ?_
  refine jj_aload_n hk (pc := 9) dX0_isSo_9 1 rfl rfl ?_
  refine jc_g_now hk hH hK (pc := 10) dX0_isSo_10 ?_
  refine jc_t_done hk hH hK (pc := 13) dX0_isSo_13 ?_
  refine jj_iload_n hk (pc := 16) dX0_isSo_16 2 rfl rfl ?_
  refine jc_ld (j := 10) hk hH hK (pc := 17) (by decide) dX0_isSo_17 (fun v2 => ?_)
  refine jj_aload_n hk (pc := 18) dX0_isSo_18 0 rfl rfl ?_
  refine kc_X0_term hk hH hK (pc := 19) (q0 := r1.1)  dX0_isSo_19 ⟨Nat.le_of_ble_eq_true rfl, Nat.le_of_ble_eq_true rfl⟩ (Nat.le_of_ble_eq_true rfl) (fun r3 => ?_)
  refine jj_iadd hk (pc := 22) dX0_isSo_22 ?_
  refine jj_istore hk (pc := 23) [(4, .int (v2 + r3)), (3, .ref r1.1), (0, .ref (ha G 0)), (1, .int a0), (2, .int a1)] dX0_isSo_23 (Nat.le_of_ble_eq_true rfl) rfl ?_
  refine jj_loc [(0, .ref (ha G 0)), (1, .int a0), (2, .int a1), (3, .ref r1.1), (4, .int (v2 + r3))] [2, 3, 4, 1, 0] rfl ?_
  exact wb_f0_isSo_L25 hk hH hK N N r1.2.1 r1.2.2 a0 a1 r1.1 (v2 + r3)
set_option maxHeartbeats 4000000 in
theorem wb_f0_fitsBut_L13 {res : (Int32 × SS × DS)} (hk : jk p R s m args meth c res.2.2.2 cX0_fitsBut 5 RX0 7 224 (some .int)) (hH : cH G KK) (hK : KK s) (N : Nat) {k6 : SS → DS → Int32 → Int32 → Int32 → Option (Int32 × SS × DS)} (hk6 : ∀ (σ : SS) (d : DS) (x1 : Int32) (x2 : Int32) (x3 : Int32), jj p l e R s m args below meth c (hA G) res.2.2.2 (jZ below args s (hA G) res.2.2.2 (jUa (fun x : Int32 => .int x) res) (aWo G) anx) (cWo G d) (cnx d) 5 σ 6 [(0, .ref (ha G 0)), (1, .int x1), (2, .int x2), (3, .int x3)] [] (k6 σ d x1 x2 x3 = some res)) : ∀ (n : Nat) (σ : SS) (d : DS) (x1 : Int32) (x2 : Int32) (x3 : Int32) (x4 : Int32), jj p l e R s m args below meth c (hA G) res.2.2.2 (jZ below args s (hA G) res.2.2.2 (jUa (fun x : Int32 => .int x) res) (aWo G) anx) (cWo G d) (cnx d) 5 σ 13 [(0, .ref (ha G 0)), (1, .int x1), (2, .int x2), (3, .int x3), (4, .int x4)] [] (f0_fitsBut_L13 N k6 n σ d x1 x2 x3 x4 = some res) := by
  intro n
  induction n with
  | zero => intro σ d x1 x2 x3 x4; exact jj_eq (fun hz => by rw [f0_fitsBut_L13] at hz; exact hz) jj_no
  | succ n ih =>
    intro σ d x1 x2 x3 x4
    rw [f0_fitsBut_L13]
    refine jj_iload hk (pc := 13) dX0_fitsBut_13 4 rfl ?_
    refine jj_aload_n hk (pc := 15) dX0_fitsBut_15 0 rfl rfl ?_
    refine jc_g_now hk hH hK (pc := 16) dX0_fitsBut_16 ?_
    refine jc_t_reports hk hH hK (pc := 19) dX0_fitsBut_19 ?_
    refine jj_icmp_ge hk (pc := 22) 50 dX0_fitsBut_22 (by decide) ?_ ?_
    · refine jj_aload_n hk (pc := 50) dX0_fitsBut_50 0 rfl rfl ?_
      refine jj_iload_n hk (pc := 51) dX0_fitsBut_51 3 rfl rfl ?_
      refine jc_p_firstFit hk hH hK (pc := 52) dX0_fitsBut_52 (fun σ1 => ?_)
      refine jj_iinc hk (pc := 55) [(2, .int (x2 + 1)), (0, .ref (ha G 0)), (1, .int x1), (3, .int x3), (4, .int x4)] dX0_fitsBut_55 2 rfl rfl (Nat.le_of_ble_eq_true rfl) rfl ?_
      refine jj_iinc hk (pc := 58) [(3, .int (x3 + (-1))), (2, .int (x2 + 1)), (0, .ref (ha G 0)), (1, .int x1), (4, .int x4)] dX0_fitsBut_58 3 rfl rfl (Nat.le_of_ble_eq_true rfl) rfl ?_
      refine jj_goto hk (pc := 61) 6 dX0_fitsBut_61 (by decide) ?_
      refine jj_loc [(0, .ref (ha G 0)), (1, .int x1), (2, .int (x2 + 1)), (3, .int (x3 + (-1)))] [2, 3, 1, 0] rfl ?_
      exact hk6 σ1 d x1 (x2 + 1) (x3 + (-1))
    · refine jj_iload hk (pc := 25) dX0_fitsBut_25 4 rfl ?_
      refine jj_iload_n hk (pc := 27) dX0_fitsBut_27 1 rfl rfl ?_
      refine jj_icmp_eq hk (pc := 28) 44 dX0_fitsBut_28 (by decide) ?_ ?_
      · refine jj_iinc hk (pc := 44) [(4, .int (x4 + 1)), (0, .ref (ha G 0)), (1, .int x1), (2, .int x2), (3, .int x3)] dX0_fitsBut_44 4 rfl rfl (Nat.le_of_ble_eq_true rfl) rfl ?_
        refine jj_goto hk (pc := 47) 13 dX0_fitsBut_47 (by decide) ?_
        refine jj_loc [(0, .ref (ha G 0)), (1, .int x1), (2, .int x2), (3, .int x3), (4, .int (x4 + 1))] [1, 2, 3, 4, 0] rfl ?_
        exact ih σ d x1 x2 x3 (x4 + 1)
      · refine jj_aload_n hk (pc := 31) dX0_fitsBut_31 0 rfl rfl ?_
        refine jj_iload hk (pc := 32) dX0_fitsBut_32 4 rfl ?_
        refine jj_iload_n hk (pc := 34) dX0_fitsBut_34 3 rfl rfl ?_
        refine kc_X0_0_isSo hk hH hK (pc := 35) (a0 := x4) (a1 := x3) (fun r h => cc_f0_isSo l hH N σ d x4 x3 r h) dX0_fitsBut_35 ⟨Nat.le_of_ble_eq_true rfl, Nat.le_of_ble_eq_true rfl⟩ (Nat.le_of_ble_eq_true rfl) (fun r2 => ?_)
        refine jj_if_ne_b hk (pc := 38) 44 dX0_fitsBut_38 (by decide) ?_ ?_
        · refine jj_iinc hk (pc := 44) [(4, .int (x4 + 1)), (0, .ref (ha G 0)), (1, .int x1), (2, .int x2), (3, .int x3)] dX0_fitsBut_44 4 rfl rfl (Nat.le_of_ble_eq_true rfl) rfl ?_
          refine jj_goto hk (pc := 47) 13 dX0_fitsBut_47 (by decide) ?_
          refine jj_loc [(0, .ref (ha G 0)), (1, .int x1), (2, .int x2), (3, .int x3), (4, .int (x4 + 1))] [1, 2, 3, 4, 0] rfl ?_
          exact ih r2.2.1 r2.2.2 x1 x2 x3 (x4 + 1)
        · refine jj_goto hk (pc := 41) 58 dX0_fitsBut_41 (by decide) ?_
          refine jj_iinc hk (pc := 58) [(3, .int (x3 + (-1))), (0, .ref (ha G 0)), (1, .int x1), (2, .int x2), (4, .int x4)] dX0_fitsBut_58 3 rfl rfl (Nat.le_of_ble_eq_true rfl) rfl ?_
          refine jj_goto hk (pc := 61) 6 dX0_fitsBut_61 (by decide) ?_
          refine jj_loc [(0, .ref (ha G 0)), (1, .int x1), (2, .int x2), (3, .int (x3 + (-1)))] [1, 2, 3, 0] rfl ?_
          exact hk6 r2.2.1 r2.2.2 x1 x2 (x3 + (-1))
set_option maxHeartbeats 4000000 in
theorem wb_f0_fitsBut_L6 {res : (Int32 × SS × DS)} (hk : jk p R s m args meth c res.2.2.2 cX0_fitsBut 5 RX0 7 224 (some .int)) (hH : cH G KK) (hK : KK s) (N : Nat) : ∀ (n : Nat) (σ : SS) (d : DS) (x1 : Int32) (x2 : Int32) (x3 : Int32), jj p l e R s m args below meth c (hA G) res.2.2.2 (jZ below args s (hA G) res.2.2.2 (jUa (fun x : Int32 => .int x) res) (aWo G) anx) (cWo G d) (cnx d) 5 σ 6 [(0, .ref (ha G 0)), (1, .int x1), (2, .int x2), (3, .int x3)] [] (f0_fitsBut_L6 N n σ d x1 x2 x3 = some res) := by
  intro n
  induction n with
  | zero => intro σ d x1 x2 x3; exact jj_eq (fun hz => by rw [f0_fitsBut_L6] at hz; exact hz) jj_no
  | succ n ih =>
    intro σ d x1 x2 x3
    rw [f0_fitsBut_L6]
    refine jj_iload_n hk (pc := 6) dX0_fitsBut_6 3 rfl rfl ?_
    refine jj_if_lt hk (pc := 7) 64 dX0_fitsBut_7 (by decide) ?_ ?_
    · refine jj_iload_n hk (pc := 64) dX0_fitsBut_64 2 rfl rfl ?_
      exact ja_retUi hk (pc := 65) dX0_fitsBut_65
    · refine jj_iconst hk (pc := 10) (v := (0 : Int32)) dX0_fitsBut_10 (by decide) ?_
      refine jj_istore hk (pc := 11) [(4, .int (0 : Int32)), (0, .ref (ha G 0)), (1, .int x1), (2, .int x2), (3, .int x3)] dX0_fitsBut_11 (Nat.le_of_ble_eq_true rfl) rfl ?_
      refine jj_loc [(0, .ref (ha G 0)), (1, .int x1), (2, .int x2), (3, .int x3), (4, .int (0 : Int32))] [1, 2, 3, 4, 0] rfl ?_
      exact wb_f0_fitsBut_L13 hk hH hK N ih N σ d x1 x2 x3 (0 : Int32)
set_option maxHeartbeats 4000000 in
theorem cc_f0_fitsBut (l : Launch) {G : cG} {KK : State → Prop} (hH : cH G KK) (N : Nat) (σ : SS) (d : DS) (a0 : Int32) (res : (Int32 × SS × DS)) (hf : f0_fitsBut N σ d a0 = some res) : jM l yX0_fitsBut (ws_ yX0_fitsBut cX0_fitsBut 5 (some .int)) 7 224 [.ref (ha G 0), .int a0] (aWo G) anx KK (σ, d) (jUa (fun x : Int32 => .int x) res) (hA G) res.2.2.2 := by
  refine jj_start [(0, .ref (ha G 0)), (1, .int a0)] (by decide) (Nat.le_of_ble_eq_true rfl) rfl (fun p e R s m args below meth c hk hK hsz => ?_) hf
  have hk : jk p R s m args meth c res.2.2.2 cX0_fitsBut 5 RX0 7 224 (some .int) := hk
  refine ja_in ?_
  unfold f0_fitsBut
  refine jj_iconst hk (pc := 0) (v := (0 : Int32)) dX0_fitsBut_0 (by decide) ?_
  refine jj_istore_n hk (pc := 1) [(2, .int (0 : Int32)), (0, .ref (ha G 0)), (1, .int a0)] dX0_fitsBut_1 rfl (Nat.le_of_ble_eq_true rfl) rfl ?_
  refine jj_sipush hk (pc := 2) (v := (404 : Int32)) dX0_fitsBut_2 (by decide) ?_
  refine jj_istore_n hk (pc := 5) [(3, .int (404 : Int32)), (2, .int (0 : Int32)), (0, .ref (ha G 0)), (1, .int a0)] dX0_fitsBut_5 rfl (Nat.le_of_ble_eq_true rfl) rfl ?_
  refine jj_loc [(0, .ref (ha G 0)), (1, .int a0), (2, .int (0 : Int32)), (3, .int (404 : Int32))] [2, 3, 1, 0] rfl ?_
  exact wb_f0_fitsBut_L6 hk hH hK N N σ d a0 (0 : Int32) (404 : Int32)
set_option maxHeartbeats 4000000 in
theorem cc_f0_span (l : Launch) {G : cG} {KK : State → Prop} (hH : cH G KK) (N : Nat) (σ : SS) (d : DS) (a0 : Int32) (res : (Int32 × SS × DS)) (hf : f0_span N σ d a0 = some res) : jM l yX0_span (ws_ yX0_span cX0_span 3 (some .int)) 8 248 [.ref (ha G 0), .int a0] (aWo G) anx KK (σ, d) (jUa (fun x : Int32 => .int x) res) (hA G) res.2.2.2 := by
  refine jj_start [(0, .ref (ha G 0)), (1, .int a0)] (by decide) (Nat.le_of_ble_eq_true rfl) rfl (fun p e R s m args below meth c hk hK hsz => ?_) hf
  have hk : jk p R s m args meth c res.2.2.2 cX0_span 3 RX0 8 248 (some .int) := hk
  refine ja_in ?_
  unfold f0_span
  refine jj_iload_n hk (pc := 0) dX0_span_0 1 rfl rfl ?_
  refine jj_iconst hk (pc := 1) (v := (0 : Int32)) dX0_span_1 (by decide) ?_
  refine jj_iconst hk (pc := 2) (v := (3 : Int32)) dX0_span_2 (by decide) ?_
  refine kc_X0_0_isIn hk hH hK (pc := 3) (a0 := a0) (a1 := (0 : Int32)) (a2 := (3 : Int32)) (fun r h => cc_f0_isIn l hH d σ a0 (0 : Int32) (3 : Int32) r h) dX0_span_3 ⟨Nat.le_of_ble_eq_true rfl, Nat.le_of_ble_eq_true rfl⟩ (Nat.le_of_ble_eq_true rfl) (fun r1 => ?_)
  refine jj_if_ne_b hk (pc := 6) 11 dX0_span_6 (by decide) ?_ ?_
  · refine jj_aload_n hk (pc := 11) dX0_span_11 0 rfl rfl ?_
    refine jj_iconst hk (pc := 12) (v := (-1 : Int32)) dX0_span_12 (by decide) ?_
    refine kc_X0_0_fitsBut hk hH hK (pc := 13) (a0 := (-1 : Int32)) (fun r h => cc_f0_fitsBut l hH N σ d (-1 : Int32) r h) dX0_span_13 ⟨Nat.le_of_ble_eq_true rfl, Nat.le_of_ble_eq_true rfl⟩ (Nat.le_of_ble_eq_true rfl) (fun r2 => ?_)
    refine jj_istore_n hk (pc := 16) [(2, .int r2.1), (0, .ref (ha G 0)), (1, .int a0)] dX0_span_16 rfl (Nat.le_of_ble_eq_true rfl) rfl ?_
    refine jj_iload_n hk (pc := 17) dX0_span_17 2 rfl rfl ?_
    refine jj_if_ne hk (pc := 18) 23 dX0_span_18 (by decide) ?_ ?_
    · refine jj_iload_n hk (pc := 23) dX0_span_23 0 rfl rfl ?_
      refine jj_if_ne hk (pc := 24) 30 dX0_span_24 (by decide) ?_ ?_
      · refine jj_iconst hk (pc := 30) (v := (1 : Int32)) dX0_span_30 (by decide) ?_
        refine jj_iload_n hk (pc := 31) dX0_span_31 2 rfl rfl ?_
        refine jj_iconst hk (pc := 32) (v := (1 : Int32)) dX0_span_32 (by decide) ?_
        refine jj_icmp_ne hk (pc := 33) 46 dX0_span_33 (by decide) ?_ ?_
        · refine jj_iload_n hk (pc := 46) dX0_span_46 2 rfl rfl ?_
          refine jj_iconst hk (pc := 47) (v := (2 : Int32)) dX0_span_47 (by decide) ?_
          refine jj_icmp_ne hk (pc := 48) 64 dX0_span_48 (by decide) ?_ ?_
          · refine jj_aload_n hk (pc := 64) dX0_span_64 1 rfl rfl ?_
            refine jc_g_firstFit hk hH hK (pc := 65) dX0_span_65 ?_
            refine jj_bipush hk (pc := 68) (v := (9 : Int32)) dX0_span_68 (by decide) ?_
            refine jj_irem hk (pc := 70) dX0_span_70 (by decide) ?_
            refine jj_iadd hk (pc := 71) dX0_span_71 ?_
            exact ja_retUi hk (pc := 72) dX0_span_72
          · refine jj_aload_n hk (pc := 51) dX0_span_51 1 rfl rfl ?_
            refine jc_g_firstFit hk hH hK (pc := 52) dX0_span_52 ?_
            refine jj_bipush hk (pc := 55) (v := (9 : Int32)) dX0_span_55 (by decide) ?_
            refine jj_idiv hk (pc := 57) dX0_span_57 (by decide) ?_
            refine jj_bipush hk (pc := 58) (v := (9 : Int32)) dX0_span_58 (by decide) ?_
            refine jj_irem hk (pc := 60) dX0_span_60 (by decide) ?_
            refine jj_goto hk (pc := 61) 71 dX0_span_61 (by decide) ?_
            refine jj_iadd hk (pc := 71) dX0_span_71 ?_
            exact ja_retUi hk (pc := 72) dX0_span_72
        · refine jj_aload_n hk (pc := 36) dX0_span_36 1 rfl rfl ?_
          refine jc_g_firstFit hk hH hK (pc := 37) dX0_span_37 ?_
          refine jj_bipush hk (pc := 40) (v := (81 : Int32)) dX0_span_40 (by decide) ?_
          refine jj_idiv hk (pc := 42) dX0_span_42 (by decide) ?_
          refine jj_goto hk (pc := 43) 71 dX0_span_43 (by decide) ?_
          refine jj_iadd hk (pc := 71) dX0_span_71 ?_
          exact ja_retUi hk (pc := 72) dX0_span_72
      · refine jj_bipush hk (pc := 27) (v := (-3 : Int32)) dX0_span_27 (by decide) ?_
        exact ja_retUi hk (pc := 29) dX0_span_29
    · refine jj_iload_n hk (pc := 21) dX0_span_21 0 rfl rfl ?_
      exact ja_retUi hk (pc := 22) dX0_span_22
  · refine jj_iconst hk (pc := 9) (v := (-1 : Int32)) dX0_span_9 (by decide) ?_
    exact ja_retUi hk (pc := 10) dX0_span_10
set_option maxHeartbeats 4000000 in
theorem wb_f0_liar_L13 {res : (Int32 × SS × DS)} (hk : jk p R s m args meth c res.2.2.2 cX0_liar 2 RX0 8 248 (some .int)) (hH : cH G KK) (hK : KK s) (N : Nat) : ∀ (n : Nat) (σ : SS) (d : DS) (x1 : Int32), jj p l e R s m args below meth c (hA G) res.2.2.2 (jZ below args s (hA G) res.2.2.2 (jUa (fun x : Int32 => .int x) res) (aWo G) anx) (cWo G d) (cnx d) 2 σ 13 [(0, .ref (ha G 0)), (1, .int x1)] [] (f0_liar_L13 N n σ d x1 = some res) := by
  intro n
  induction n with
  | zero => intro σ d x1; exact jj_eq (fun hz => by rw [f0_liar_L13] at hz; exact hz) jj_no
  | succ n ih =>
    intro σ d x1
    rw [f0_liar_L13]
    refine jj_iload_n hk (pc := 13) dX0_liar_13 1 rfl rfl ?_
    refine jj_aload_n hk (pc := 14) dX0_liar_14 0 rfl rfl ?_
    refine jc_g_now hk hH hK (pc := 15) dX0_liar_15 ?_
    refine jc_t_reports hk hH hK (pc := 18) dX0_liar_18 ?_
    refine jj_icmp_ge hk (pc := 21) 38 dX0_liar_21 (by decide) ?_ ?_
    · refine jj_iload_n hk (pc := 38) dX0_liar_38 1 rfl rfl ?_
      refine jj_aload_n hk (pc := 39) dX0_liar_39 0 rfl rfl ?_
      refine jc_g_now hk hH hK (pc := 40) dX0_liar_40 ?_
      refine jc_t_reports hk hH hK (pc := 43) dX0_liar_43 ?_
      refine jj_icmp_ge hk (pc := 46) 53 dX0_liar_46 (by decide) ?_ ?_
      · refine jj_bipush hk (pc := 53) (v := (-3 : Int32)) dX0_liar_53 (by decide) ?_
        exact ja_retUi hk (pc := 55) dX0_liar_55
      · refine jj_iload_n hk (pc := 49) dX0_liar_49 1 rfl rfl ?_
        refine jj_goto hk (pc := 50) 55 dX0_liar_50 (by decide) ?_
        exact ja_retUi hk (pc := 55) dX0_liar_55
    · refine jj_aload_n hk (pc := 24) dX0_liar_24 0 rfl rfl ?_
      refine jj_iload_n hk (pc := 25) dX0_liar_25 1 rfl rfl ?_
      refine kc_X0_0_fitsBut hk hH hK (pc := 26) (a0 := x1) (fun r h => cc_f0_fitsBut l hH N σ d x1 r h) dX0_liar_26 ⟨Nat.le_of_ble_eq_true rfl, Nat.le_of_ble_eq_true rfl⟩ (Nat.le_of_ble_eq_true rfl) (fun r1 => ?_)
      refine jj_if_ne hk (pc := 29) 38 dX0_liar_29 (by decide) ?_ ?_
      · refine jj_iload_n hk (pc := 38) dX0_liar_38 1 rfl rfl ?_
        refine jj_aload_n hk (pc := 39) dX0_liar_39 0 rfl rfl ?_
        refine jc_g_now hk hH hK (pc := 40) dX0_liar_40 ?_
        refine jc_t_reports hk hH hK (pc := 43) dX0_liar_43 ?_
        refine jj_icmp_ge hk (pc := 46) 53 dX0_liar_46 (by decide) ?_ ?_
        · refine jj_bipush hk (pc := 53) (v := (-3 : Int32)) dX0_liar_53 (by decide) ?_
          exact ja_retUi hk (pc := 55) dX0_liar_55
        · refine jj_iload_n hk (pc := 49) dX0_liar_49 1 rfl rfl ?_
          refine jj_goto hk (pc := 50) 55 dX0_liar_50 (by decide) ?_
          exact ja_retUi hk (pc := 55) dX0_liar_55
      · refine jj_iinc hk (pc := 32) [(1, .int (x1 + 1)), (0, .ref (ha G 0))] dX0_liar_32 1 rfl rfl (Nat.le_of_ble_eq_true rfl) rfl ?_
        refine jj_goto hk (pc := 35) 13 dX0_liar_35 (by decide) ?_
        refine jj_loc [(0, .ref (ha G 0)), (1, .int (x1 + 1))] [1, 0] rfl ?_
        exact ih r1.2.1 r1.2.2 (x1 + 1)
set_option maxHeartbeats 4000000 in
theorem cc_f0_liar (l : Launch) {G : cG} {KK : State → Prop} (hH : cH G KK) (N : Nat) (σ : SS) (d : DS)  (res : (Int32 × SS × DS)) (hf : f0_liar N σ d = some res) : jM l yX0_liar (ws_ yX0_liar cX0_liar 2 (some .int)) 8 248 [.ref (ha G 0)] (aWo G) anx KK (σ, d) (jUa (fun x : Int32 => .int x) res) (hA G) res.2.2.2 := by
  refine jj_start [(0, .ref (ha G 0))] (by decide) (Nat.le_of_ble_eq_true rfl) rfl (fun p e R s m args below meth c hk hK hsz => ?_) hf
  have hk : jk p R s m args meth c res.2.2.2 cX0_liar 2 RX0 8 248 (some .int) := hk
  refine ja_in ?_
  unfold f0_liar
  refine jj_aload_n hk (pc := 0) dX0_liar_0 0 rfl rfl ?_
  refine jj_iconst hk (pc := 1) (v := (-1 : Int32)) dX0_liar_1 (by decide) ?_
  refine kc_X0_0_fitsBut hk hH hK (pc := 2) (a0 := (-1 : Int32)) (fun r h => cc_f0_fitsBut l hH N σ d (-1 : Int32) r h) dX0_liar_2 ⟨Nat.le_of_ble_eq_true rfl, Nat.le_of_ble_eq_true rfl⟩ (Nat.le_of_ble_eq_true rfl) (fun r1 => ?_)
  refine jj_if_le hk (pc := 5) 11 dX0_liar_5 (by decide) ?_ ?_
  · refine jj_iconst hk (pc := 11) (v := (0 : Int32)) dX0_liar_11 (by decide) ?_
    refine jj_istore_n hk (pc := 12) [(1, .int (0 : Int32)), (0, .ref (ha G 0))] dX0_liar_12 rfl (Nat.le_of_ble_eq_true rfl) rfl ?_
    refine jj_loc [(0, .ref (ha G 0)), (1, .int (0 : Int32))] [1, 0] rfl ?_
    exact wb_f0_liar_L13 hk hH hK N N r1.2.1 r1.2.2 (0 : Int32)
  · refine jj_bipush hk (pc := 8) (v := (-3 : Int32)) dX0_liar_8 (by decide) ?_
    exact ja_retUi hk (pc := 10) dX0_liar_10
set_option maxHeartbeats 4000000 in
theorem cc_f20_init (l : Launch) {G : cG} {KK : State → Prop} (hH : cH G KK)  (σ : SS) (d : DS) (q0 : Nat) (a0 : Int32) (res : (SS × DS)) (hf : f20_init σ d q0 a0 = some res) : jM l yX20_init (ws_ yX20_init cX20_init 2 none) 1 40 [.ref q0, .int a0] (aWo G) anx KK (σ, d) (jVa res) (hA G) res.2.2 := by
  refine jj_startI [(0, .ref q0), (1, .int a0)] (by decide) (Nat.le_of_ble_eq_true rfl) rfl (fun p e R s m args below meth c hk hK hsz hmi => ?_) hf
  have hk : jk p R s m args meth c res.2.2 cX20_init 2 RX20 1 40 none := hk
  refine ja_in ?_
  unfold f20_init
  refine jj_aload_n hk (pc := 0) dX20_init_0 0 rfl rfl ?_
  refine ja_objInit hk hH hK (pc := 1) q1318 q159 q160 dX20_init_1 ⟨Nat.le_of_ble_eq_true rfl, Nat.le_of_ble_eq_true rfl⟩ (Nat.le_of_ble_eq_true rfl) ?_
  refine jj_aload_n hk (pc := 4) dX20_init_4 0 rfl rfl ?_
  refine jj_iload_n hk (pc := 5) dX20_init_5 1 rfl rfl ?_
  refine jp_X20_number hk hH hK hmi (pc := 6) dX20_init_6 (fun d1 => ?_)
  exact ja_retV hk (pc := 9) dX20_init_9
set_option maxHeartbeats 4000000 in
theorem wb_f0_shelf_B28 {res : (Int32 × SS × DS)} (hk : jk p R s m args meth c res.2.2.2 cX0_shelf 4 RX0 3 83 (some .int)) (hH : cH G KK) (hK : KK s)  (σ : SS) (d : DS) (x1 : Int32) (x2 : Int32) (x3 : Int32) : jj p l e R s m args below meth c (hA G) res.2.2.2 (jZ below args s (hA G) res.2.2.2 (jUa (fun x : Int32 => .int x) res) (aWo G) anx) (cWo G d) (cnx d) 4 σ 28 [(0, .ref (ha G 0)), (1, .int x1), (2, .int x2), (3, .int x3)] [] (f0_shelf_B28 σ d x1 x2 x3 = some res) := by
  unfold f0_shelf_B28
  refine jj_iload_n hk (pc := 28) dX0_shelf_28 2 rfl rfl ?_
  refine jj_if_ne hk (pc := 29) 42 dX0_shelf_29 (by decide) ?_ ?_
  · refine jj_aload_n hk (pc := 42) dX0_shelf_42 0 rfl rfl ?_
    refine jc_g_shelves hk hH hK (pc := 43) dX0_shelf_43 ?_
    refine jj_iload_n hk (pc := 46) dX0_shelf_46 1 rfl rfl ?_
    refine jc_aldS7 hk hH hK (pc := 47) dX0_shelf_47 (fun i1 hi1 => ?_)
    refine jj_iload_n hk (pc := 48) dX0_shelf_48 2 rfl rfl ?_
    refine jj_if_ne hk (pc := 49) 63 dX0_shelf_49 (by decide) ?_ ?_
    · refine jj_iload_n hk (pc := 63) dX0_shelf_63 2 rfl rfl ?_
      refine jj_iconst hk (pc := 64) (v := (1 : Int32)) dX0_shelf_64 (by decide) ?_
      refine jj_icmp_ne hk (pc := 65) 80 dX0_shelf_65 (by decide) ?_ ?_
      · refine jj_null hk (pc := 80) dX0_shelf_80 ?_
        refine jc_pheld7 (i := i1) (hi := hi1) hk hH hK (pc := 81) (x := none) dX0_shelf_81 (fun σ2 => ?_)
        refine jj_iconst hk (pc := 84) (v := (1 : Int32)) dX0_shelf_84 (by decide) ?_
        exact ja_retUi hk (pc := 85) dX0_shelf_85
      · refine jj_aload_n hk (pc := 68) dX0_shelf_68 0 rfl rfl ?_
        refine jc_g_sheets hk hH hK (pc := 69) dX0_shelf_69 ?_
        refine jj_iload_n hk (pc := 72) dX0_shelf_72 3 rfl rfl ?_
        refine jc_aldS11 hk hH hK (pc := 73) dX0_shelf_73 (fun i3 hi3 => ?_)
        refine jc_held11 (i := i3) (hi := hi3) hk hH hK (pc := 74) dX0_shelf_74 ?_
        refine jj_goto hk (pc := 77) 81 dX0_shelf_77 (by decide) ?_
        refine jc_pheld7 (i := i1) (hi := hi1) hk hH hK (pc := 81) (x := σ.2.2.1 (7 + i3)) dX0_shelf_81 (fun σ4 => ?_)
        refine jj_iconst hk (pc := 84) (v := (1 : Int32)) dX0_shelf_84 (by decide) ?_
        exact ja_retUi hk (pc := 85) dX0_shelf_85
    · refine ja_new (ci := 18) (fs := [.int 0]) hk hH hK (pc := 52) in_X20 tyX20 tyX20_ok q1313 q1314 q151 rfl (fun j hj => match j, hj with | 0, _ => rfl | n + 1, h => absurd h (by omega)) (by decide) dX0_shelf_52 (fun d5 => ?_)
      refine jj_dup hk (pc := 55) dX0_shelf_55 rfl ?_
      refine jj_iload_n hk (pc := 56) dX0_shelf_56 3 rfl rfl ?_
      refine kc_X0_20_init hk hH hK (pc := 57) (q0 := d.2) (a0 := x3) (fun r h => cc_f20_init l hH σ d5 d.2 x3 r h) dX0_shelf_57 ⟨Nat.le_of_ble_eq_true rfl, Nat.le_of_ble_eq_true rfl⟩ (Nat.le_of_ble_eq_true rfl) (fun r6 => ?_)
      refine jj_goto hk (pc := 60) 81 dX0_shelf_60 (by decide) ?_
      refine jc_pheld7 (i := i1) (hi := hi1) hk hH hK (pc := 81) (x := some d.2) dX0_shelf_81 (fun σ7 => ?_)
      refine jj_iconst hk (pc := 84) (v := (1 : Int32)) dX0_shelf_84 (by decide) ?_
      exact ja_retUi hk (pc := 85) dX0_shelf_85
  · refine jj_aload_n hk (pc := 32) dX0_shelf_32 0 rfl rfl ?_
    refine jj_iload_n hk (pc := 33) dX0_shelf_33 3 rfl rfl ?_
    refine kc_X0_0_isPerson hk hH hK (pc := 34) (a0 := x3) (fun r h => cc_f0_isPerson l hH d σ x3 r h) dX0_shelf_34 ⟨Nat.le_of_ble_eq_true rfl, Nat.le_of_ble_eq_true rfl⟩ (Nat.le_of_ble_eq_true rfl) (fun r8 => ?_)
    refine jj_if_ne_b hk (pc := 37) 42 dX0_shelf_37 (by decide) ?_ ?_
    · refine jj_aload_n hk (pc := 42) dX0_shelf_42 0 rfl rfl ?_
      refine jc_g_shelves hk hH hK (pc := 43) dX0_shelf_43 ?_
      refine jj_iload_n hk (pc := 46) dX0_shelf_46 1 rfl rfl ?_
      refine jc_aldS7 hk hH hK (pc := 47) dX0_shelf_47 (fun i9 hi9 => ?_)
      refine jj_iload_n hk (pc := 48) dX0_shelf_48 2 rfl rfl ?_
      refine jj_if_ne hk (pc := 49) 63 dX0_shelf_49 (by decide) ?_ ?_
      · refine jj_iload_n hk (pc := 63) dX0_shelf_63 2 rfl rfl ?_
        refine jj_iconst hk (pc := 64) (v := (1 : Int32)) dX0_shelf_64 (by decide) ?_
        refine jj_icmp_ne hk (pc := 65) 80 dX0_shelf_65 (by decide) ?_ ?_
        · refine jj_null hk (pc := 80) dX0_shelf_80 ?_
          refine jc_pheld7 (i := i9) (hi := hi9) hk hH hK (pc := 81) (x := none) dX0_shelf_81 (fun σ10 => ?_)
          refine jj_iconst hk (pc := 84) (v := (1 : Int32)) dX0_shelf_84 (by decide) ?_
          exact ja_retUi hk (pc := 85) dX0_shelf_85
        · refine jj_aload_n hk (pc := 68) dX0_shelf_68 0 rfl rfl ?_
          refine jc_g_sheets hk hH hK (pc := 69) dX0_shelf_69 ?_
          refine jj_iload_n hk (pc := 72) dX0_shelf_72 3 rfl rfl ?_
          refine jc_aldS11 hk hH hK (pc := 73) dX0_shelf_73 (fun i11 hi11 => ?_)
          refine jc_held11 (i := i11) (hi := hi11) hk hH hK (pc := 74) dX0_shelf_74 ?_
          refine jj_goto hk (pc := 77) 81 dX0_shelf_77 (by decide) ?_
          refine jc_pheld7 (i := i9) (hi := hi9) hk hH hK (pc := 81) (x := σ.2.2.1 (7 + i11)) dX0_shelf_81 (fun σ12 => ?_)
          refine jj_iconst hk (pc := 84) (v := (1 : Int32)) dX0_shelf_84 (by decide) ?_
          exact ja_retUi hk (pc := 85) dX0_shelf_85
      · refine ja_new (ci := 18) (fs := [.int 0]) hk hH hK (pc := 52) in_X20 tyX20 tyX20_ok q1313 q1314 q151 rfl (fun j hj => match j, hj with | 0, _ => rfl | n + 1, h => absurd h (by omega)) (by decide) dX0_shelf_52 (fun d13 => ?_)
        refine jj_dup hk (pc := 55) dX0_shelf_55 rfl ?_
        refine jj_iload_n hk (pc := 56) dX0_shelf_56 3 rfl rfl ?_
        refine kc_X0_20_init hk hH hK (pc := 57) (q0 := d.2) (a0 := x3) (fun r h => cc_f20_init l hH σ d13 d.2 x3 r h) dX0_shelf_57 ⟨Nat.le_of_ble_eq_true rfl, Nat.le_of_ble_eq_true rfl⟩ (Nat.le_of_ble_eq_true rfl) (fun r14 => ?_)
        refine jj_goto hk (pc := 60) 81 dX0_shelf_60 (by decide) ?_
        refine jc_pheld7 (i := i9) (hi := hi9) hk hH hK (pc := 81) (x := some d.2) dX0_shelf_81 (fun σ15 => ?_)
        refine jj_iconst hk (pc := 84) (v := (1 : Int32)) dX0_shelf_84 (by decide) ?_
        exact ja_retUi hk (pc := 85) dX0_shelf_85
    · refine jj_iconst hk (pc := 40) (v := (-1 : Int32)) dX0_shelf_40 (by decide) ?_
      exact ja_retUi hk (pc := 41) dX0_shelf_41
set_option maxHeartbeats 4000000 in
theorem cc_f0_shelf (l : Launch) {G : cG} {KK : State → Prop} (hH : cH G KK)  (σ : SS) (d : DS) (a0 : Int32) (a1 : Int32) (a2 : Int32) (res : (Int32 × SS × DS)) (hf : f0_shelf σ d a0 a1 a2 = some res) : jM l yX0_shelf (ws_ yX0_shelf cX0_shelf 4 (some .int)) 3 83 [.ref (ha G 0), .int a0, .int a1, .int a2] (aWo G) anx KK (σ, d) (jUa (fun x : Int32 => .int x) res) (hA G) res.2.2.2 := by
  refine jj_start [(0, .ref (ha G 0)), (1, .int a0), (2, .int a1), (3, .int a2)] (by decide) (Nat.le_of_ble_eq_true rfl) rfl (fun p e R s m args below meth c hk hK hsz => ?_) hf
  have hk : jk p R s m args meth c res.2.2.2 cX0_shelf 4 RX0 3 83 (some .int) := hk
  refine ja_in ?_
  unfold f0_shelf
  refine jj_iload_n hk (pc := 0) dX0_shelf_0 1 rfl rfl ?_
  refine kc_X0_0_isShelf hk hH hK (pc := 1) (a0 := a0) (fun r h => cc_f0_isShelf l hH d σ a0 r h) dX0_shelf_1 ⟨Nat.le_of_ble_eq_true rfl, Nat.le_of_ble_eq_true rfl⟩ (Nat.le_of_ble_eq_true rfl) (fun r1 => ?_)
  refine jj_if_eq_b hk (pc := 4) 40 dX0_shelf_4 (by decide) ?_ ?_
  · refine jj_iconst hk (pc := 40) (v := (-1 : Int32)) dX0_shelf_40 (by decide) ?_
    exact ja_retUi hk (pc := 41) dX0_shelf_41
  · refine jj_iload_n hk (pc := 7) dX0_shelf_7 2 rfl rfl ?_
    refine jj_iconst hk (pc := 8) (v := (0 : Int32)) dX0_shelf_8 (by decide) ?_
    refine jj_iconst hk (pc := 9) (v := (2 : Int32)) dX0_shelf_9 (by decide) ?_
    refine kc_X0_0_isIn hk hH hK (pc := 10) (a0 := a1) (a1 := (0 : Int32)) (a2 := (2 : Int32)) (fun r h => cc_f0_isIn l hH d σ a1 (0 : Int32) (2 : Int32) r h) dX0_shelf_10 ⟨Nat.le_of_ble_eq_true rfl, Nat.le_of_ble_eq_true rfl⟩ (Nat.le_of_ble_eq_true rfl) (fun r2 => ?_)
    refine jj_if_eq_b hk (pc := 13) 40 dX0_shelf_13 (by decide) ?_ ?_
    · refine jj_iconst hk (pc := 40) (v := (-1 : Int32)) dX0_shelf_40 (by decide) ?_
      exact ja_retUi hk (pc := 41) dX0_shelf_41
    · refine jj_iload_n hk (pc := 16) dX0_shelf_16 2 rfl rfl ?_
      refine jj_iconst hk (pc := 17) (v := (1 : Int32)) dX0_shelf_17 (by decide) ?_
      refine jj_icmp_ne hk (pc := 18) 28 dX0_shelf_18 (by decide) ?_ ?_
      · refine jj_loc [(0, .ref (ha G 0)), (1, .int a0), (2, .int a1), (3, .int a2)] [0, 1, 2, 3] rfl ?_
        exact wb_f0_shelf_B28 hk hH hK σ d a0 a1 a2
      · refine jj_iload_n hk (pc := 21) dX0_shelf_21 3 rfl rfl ?_
        refine kc_X0_0_isShelf hk hH hK (pc := 22) (a0 := a2) (fun r h => cc_f0_isShelf l hH d σ a2 r h) dX0_shelf_22 ⟨Nat.le_of_ble_eq_true rfl, Nat.le_of_ble_eq_true rfl⟩ (Nat.le_of_ble_eq_true rfl) (fun r3 => ?_)
        refine jj_if_eq_b hk (pc := 25) 40 dX0_shelf_25 (by decide) ?_ ?_
        · refine jj_iconst hk (pc := 40) (v := (-1 : Int32)) dX0_shelf_40 (by decide) ?_
          exact ja_retUi hk (pc := 41) dX0_shelf_41
        · refine jj_loc [(0, .ref (ha G 0)), (1, .int a0), (2, .int a1), (3, .int a2)] [0, 1, 2, 3] rfl ?_
          exact wb_f0_shelf_B28 hk hH hK σ d a0 a1 a2
end
