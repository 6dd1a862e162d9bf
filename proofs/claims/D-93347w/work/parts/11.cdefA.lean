/-! THE COMPONENT's METHODS, printed by gen/gen2.py out of the byte code -/
set_option maxRecDepth 100000
def f3_isOver (σ : SS) (t0 : Nat) : Option Bool := (if (σ.1 (7 * t0 + 3)) < (σ.1 (7 * t0 + 2)) then some false else some true)
def f3_become (σ : SS) (t0 : Nat) (t1 : Nat) : Option SS := (some (sI σ (7 * t0 + 0) (σ.1 (7 * t1 + 0)))).bind fun σ1 => (some (sI σ1 (7 * t0 + 1) (σ1.1 (7 * t1 + 1)))).bind fun σ2 => (some (sI σ2 (7 * t0 + 2) (σ2.1 (7 * t1 + 2)))).bind fun σ3 => (some (sI σ3 (7 * t0 + 3) (σ3.1 (7 * t1 + 3)))).bind fun σ4 => (some (sI σ4 (7 * t0 + 4) (σ4.1 (7 * t1 + 4)))).bind fun σ5 => (some (sI σ5 (7 * t0 + 5) (σ5.1 (7 * t1 + 5)))).bind fun σ6 => (some (sI σ6 (7 * t0 + 6) (σ6.1 (7 * t1 + 6)))).bind fun σ7 => (some (sF σ7 t0 (σ7.2.2.1 t1))).bind fun σ8 => (cpC σ8 (13 * t1 + 0) (0 : Int32) (13 * t0 + 0) (0 : Int32) (6 : Int32)).bind fun σ9 => (cpC σ9 (13 * t1 + 1) (0 : Int32) (13 * t0 + 1) (0 : Int32) (6 : Int32)).bind fun σ10 => (cpC σ10 (13 * t1 + 2) (0 : Int32) (13 * t0 + 2) (0 : Int32) (6 : Int32)).bind fun σ11 => (cpC σ11 (13 * t1 + 3) (0 : Int32) (13 * t0 + 3) (0 : Int32) (10 : Int32)).bind fun σ12 => (cpC σ12 (13 * t1 + 4) (0 : Int32) (13 * t0 + 4) (0 : Int32) (10 : Int32)).bind fun σ13 => (cpC σ13 (13 * t1 + 5) (0 : Int32) (13 * t0 + 5) (0 : Int32) (10 : Int32)).bind fun σ14 => (cpC σ14 (13 * t1 + 6) (0 : Int32) (13 * t0 + 6) (0 : Int32) (10 : Int32)).bind fun σ15 => (cpC σ15 (13 * t1 + 7) (0 : Int32) (13 * t0 + 7) (0 : Int32) (10 : Int32)).bind fun σ16 => (cpC σ16 (13 * t1 + 8) (0 : Int32) (13 * t0 + 8) (0 : Int32) (36 : Int32)).bind fun σ17 => (cpC σ17 (13 * t1 + 9) (0 : Int32) (13 * t0 + 9) (0 : Int32) (6 : Int32)).bind fun σ18 => (cpC σ18 (13 * t1 + 10) (0 : Int32) (13 * t0 + 10) (0 : Int32) (6 : Int32)).bind fun σ19 => (cpC σ19 (13 * t1 + 11) (0 : Int32) (13 * t0 + 11) (0 : Int32) (6 : Int32)).bind fun σ20 => (cpC σ20 (13 * t1 + 12) (0 : Int32) (13 * t0 + 12) (0 : Int32) (6 : Int32)).bind fun σ21 => some σ21
def f4_ran (σ : SS) (a0 : Int32) : Option SS := (if (σ.1 70) = (30 : Int32) then some σ else (stC σ 45 (σ.1 70) a0).bind fun σ1 => (some (sI σ1 70 ((σ1.1 70) + (1 : Int32)))).bind fun σ2 => some σ2)
def f7_number (d : DS) (q0 : Nat) : Option Int32 := (hInt d 0 q0).bind fun q1 => some q1
def f7_grace (d : DS) (q0 : Nat) : Option Int32 := (hInt d 1 q0).bind fun q1 => some q1
def f7_term (d : DS) (q0 : Nat) : Option Int32 := (hInt d 1 q0).bind fun q1 => some q1
def f7_pull (q0 : Nat) (a0 : Int32) (a1 : Int32) : Option Int32 := some a0
def f8_pull (d : DS) (q0 : Nat) (a0 : Int32) (a1 : Int32) : Option Int32 := (if (a1 - a1 / (3 : Int32) * (3 : Int32)) = (2 : Int32) then some (0 : Int32) else (((dci d q0).bind fun _ => f7_pull q0 a0 a1)).bind fun r1 => some r1)
def f9_term (d : DS) (q0 : Nat) : Option Int32 := (((dci d q0).bind fun _ => f7_term d q0)).bind fun r1 => some ((2 : Int32) * r1)
def f10_term (d : DS) (q0 : Nat) : Option Int32 := (((dci d q0).bind fun _ => f9_term d q0)).bind fun r1 => some (r1 - (1 : Int32))
def f10_pull (d : DS) (q0 : Nat) (a0 : Int32) (a1 : Int32) : Option Int32 := (((dci d q0).bind fun _ => f7_pull q0 a0 a1)).bind fun r1 => some (r1 + (1 : Int32))
def f11_term (d : DS) (q0 : Nat) : Option Int32 := (((dci d q0).bind fun _ => f7_term d q0)).bind fun r1 => some (r1 + (2 : Int32))
def f11_pull (d : DS) (q0 : Nat) (a0 : Int32) (a1 : Int32) : Option Int32 := (((dci d q0).bind fun _ => f7_pull q0 a0 a1)).bind fun r1 => some (r1 / (2 : Int32))
def f12_term (d : DS) (q0 : Nat) : Option Int32 := (((dci d q0).bind fun _ => f11_term d q0)).bind fun r1 => some (r1 + (9 : Int32))
def f12_pull (d : DS) (q0 : Nat) (a0 : Int32) (a1 : Int32) : Option Int32 := (if a1 < (9 : Int32) then (((dci d q0).bind fun _ => f11_pull d q0 a0 a1)).bind fun r1 => some r1 else some (9 : Int32))
def f15_of (d : DS) (σ : SS) (q0 : Nat) : Option Int32 := (dInt d 16 0 q0).bind fun q1 => (if 0 ≤ q1 then (dInt d 16 0 q0).bind fun q2 => (ldC σ 39 q2).bind fun v3 => some v3 else (dInt d 16 1 q0).bind fun q4 => some q4)
def f14_holds (k_holds : Nat → Option Bool) (d : DS) (σ : SS) (q0 : Nat) : Option Bool := (dRfn d 12 0 q0).bind fun q1 => (k_holds q1).bind fun r2 => (if r2 = true then some false else some true)
def f16_holds (k_holds : Nat → Option Bool) (d : DS) (σ : SS) (q0 : Nat) : Option Bool := (dRfn d 13 0 q0).bind fun q1 => (((dcl d 16 q1).bind fun _ => f15_of d σ q1)).bind fun r2 => (dRfn d 13 1 q0).bind fun q3 => (((dcl d 16 q3).bind fun _ => f15_of d σ q3)).bind fun r4 => (dInt d 13 2 q0).bind fun q5 => (if q5 = (60 : Int32) then (if r4 ≤ r2 then some false else some true) else (dInt d 13 2 q0).bind fun q6 => (if q6 = (61 : Int32) then (if r2 = r4 then some true else some false) else (if r2 ≤ r4 then some false else some true)))
def f17_holds (k_holds : Nat → Option Bool) (d : DS) (σ : SS) (q0 : Nat) : Option Bool := (dRfn d 14 0 q0).bind fun q1 => (k_holds q1).bind fun r2 => (if r2 = true then (dRfn d 14 1 q0).bind fun q3 => (k_holds q3).bind fun r4 => (if r4 = true then some true else some false) else some false)
def f18_holds (k_holds : Nat → Option Bool) (d : DS) (σ : SS) (q0 : Nat) : Option Bool := (dRfn d 15 0 q0).bind fun q1 => (k_holds q1).bind fun r2 => (if r2 = true then some true else (dRfn d 15 1 q0).bind fun q3 => (k_holds q3).bind fun r4 => (if r4 = true then some true else some false))
/-! calls found by the receiver's class -/
def hTerm (d : DS) (q : Nat) : Option Int32 := (dci d q).bind fun ci => (if ci = 7 then f7_term d q else (if ci = 8 then f9_term d q else (if ci = 9 then f10_term d q else (if ci = 10 then f11_term d q else (if ci = 11 then f12_term d q else none)))))
def hPull (d : DS) (q : Nat) (a0 a1 : Int32) : Option Int32 := (dci d q).bind fun ci => (if ci = 7 then f8_pull d q a0 a1 else (if ci = 8 then f7_pull q a0 a1 else (if ci = 9 then f10_pull d q a0 a1 else (if ci = 10 then f11_pull d q a0 a1 else (if ci = 11 then f12_pull d q a0 a1 else none)))))
def hNumber (d : DS) (q : Nat) : Option Int32 := (dci d q).bind fun ci => (if ci = 7 then f7_number d q else (if ci = 8 then f7_number d q else (if ci = 9 then f7_number d q else (if ci = 10 then f7_number d q else (if ci = 11 then f7_number d q else none)))))
def hHolds : Nat → DS → SS → Nat → Option Bool
  | 0, _, _, _ => none
  | D + 1, d, σ, q => (dci d q).bind fun ci => (if ci = 12 then f14_holds (hHolds D d σ) d σ q else (if ci = 13 then f16_holds (hHolds D d σ) d σ q else (if ci = 14 then f17_holds (hHolds D d σ) d σ q else (if ci = 15 then f18_holds (hHolds D d σ) d σ q else none))))
/-- a condition's contract, by its class -/
def jHolds (l : Launch) (G : cG) (d : DS) (KK : State → Prop) (σ : SS) (fr0 lo0 : Nat) (q : Nat) (r : Bool) : Prop := ∃ (ci : Nat) (fs : List Value), dl d q = some (.inr (ci, fs)) ∧ ((ci = 12 ∧ jM l yX14_holds (ws_ yX14_holds cX14_holds 2 (some .boolean)) fr0 lo0 [.ref q, .ref (ha G 54)] (cWo G d) (cnx d) KK σ (jRz σ r) (hA G) d.2) ∨ (ci = 13 ∧ jM l yX16_holds (ws_ yX16_holds cX16_holds 4 (some .boolean)) fr0 lo0 [.ref q, .ref (ha G 54)] (cWo G d) (cnx d) KK σ (jRz σ r) (hA G) d.2) ∨ (ci = 14 ∧ jM l yX17_holds (ws_ yX17_holds cX17_holds 2 (some .boolean)) fr0 lo0 [.ref q, .ref (ha G 54)] (cWo G d) (cnx d) KK σ (jRz σ r) (hA G) d.2) ∨ (ci = 15 ∧ jM l yX18_holds (ws_ yX18_holds cX18_holds 2 (some .boolean)) fr0 lo0 [.ref q, .ref (ha G 54)] (cWo G d) (cnx d) KK σ (jRz σ r) (hA G) d.2))
section
variable {p : Program} {l : Launch} {e : Env} {R : Room} {s : State} {m : MethodId} {args : Array Value} {below : List Frame} {meth : Method} {c : Code}
variable {G : cG} {d : DS} {KK : State → Prop}
variable {NX : Nat} {Q : State → Prop} {nL : Nat} {cc : ByteArray} {fr lo frc loc : Nat} {ret : Option FieldType}
variable {pc : Nat} {σ : SS} {lv : List (Nat × Value)} {st : List Value} {ρ : Type} {res : ρ}
theorem kc_X14_HOLDS (hk : jk p R s m args meth c NX cc nL RX14 fr lo ret) (hH : cH G KK) (hK : KK s) {q0 : Nat} {F : Option Bool} {K : Bool → Option ρ} (hM : ∀ r, F = some r → jHolds l G d KK σ frc loc q0 r) (hd : decode cc pc = .ok (.invokevirtual 13, 3)) (hr : frc + 1 ≤ fr ∧ 8 + (4 + 11) + loc ≤ lo) (hw : (st.map fun v => v.category).sum ≤ 8) (kk : ∀ r, jj p l e R s m args below meth c (hA G) NX Q (cWo G d) (cnx d) nL σ (pc + 3) lv (.int (bI r) :: st) (K r = some res)) : jj p l e R s m args below meth c (hA G) NX Q (cWo G d) (cnx d) nL σ pc lv (.ref (ha G 54) :: .ref q0 :: st) (F.bind K = some res) := by
  intro hz
  cases hF : F with
  | none => rw [hF] at hz; cases hz
  | some r =>
  rw [hF] at hz
  obtain ⟨ci, fs, he, h⟩ := hM r hF
  rcases h with ⟨rfl, hm⟩ | ⟨rfl, hm⟩ | ⟨rfl, hm⟩ | ⟨rfl, hm⟩
  · exact jc_ARz (x := ⟨"LeftUndoes$Cond", "holds", "([I)Z"⟩) (C := RX14) (n := 1) hk hH hK [.ref (ha G 54)] (F := some r) (fun r' h' => by cases h'; exact hm) (lw_Uw q639 q626 q644 q637 q139 q638) (List.mem_of_getElem? (i := 19) rfl) (cRv_D (q := (RX14, TX14, 1)) hH hK (ci := 12) rfl he) (by decide +kernel) rfl rfl hd (by omega) hw kk hz
  · exact jc_ARz (x := ⟨"LeftUndoes$Cond", "holds", "([I)Z"⟩) (C := RX16) (n := 1) hk hH hK [.ref (ha G 54)] (F := some r) (fun r' h' => by cases h'; exact hm) (lw_Uw q639 q626 q643 q631 q141 q632) (List.mem_of_getElem? (i := 19) rfl) (cRv_D (q := (RX16, TX16, 3)) hH hK (ci := 13) rfl he) (by decide +kernel) rfl rfl hd (by omega) hw kk hz
  · exact jc_ARz (x := ⟨"LeftUndoes$Cond", "holds", "([I)Z"⟩) (C := RX17) (n := 1) hk hH hK [.ref (ha G 54)] (F := some r) (fun r' h' => by cases h'; exact hm) (lw_Uw q639 q626 q627 q628 q142 q629) (List.mem_of_getElem? (i := 19) rfl) (cRv_D (q := (RX17, TX17, 2)) hH hK (ci := 14) rfl he) (by decide +kernel) rfl rfl hd (by omega) hw kk hz
  · exact jc_ARz (x := ⟨"LeftUndoes$Cond", "holds", "([I)Z"⟩) (C := RX18) (n := 1) hk hH hK [.ref (ha G 54)] (F := some r) (fun r' h' => by cases h'; exact hm) (lw_Uw q639 q626 q645 q640 q143 q641) (List.mem_of_getElem? (i := 19) rfl) (cRv_D (q := (RX18, TX18, 2)) hH hK (ci := 15) rfl he) (by decide +kernel) rfl rfl hd (by omega) hw kk hz
theorem kc_X17_HOLDS (hk : jk p R s m args meth c NX cc nL RX17 fr lo ret) (hH : cH G KK) (hK : KK s) {q0 : Nat} {F : Option Bool} {K : Bool → Option ρ} (hM : ∀ r, F = some r → jHolds l G d KK σ frc loc q0 r) (hd : decode cc pc = .ok (.invokevirtual 16, 3)) (hr : frc + 1 ≤ fr ∧ 8 + (4 + 11) + loc ≤ lo) (hw : (st.map fun v => v.category).sum ≤ 8) (kk : ∀ r, jj p l e R s m args below meth c (hA G) NX Q (cWo G d) (cnx d) nL σ (pc + 3) lv (.int (bI r) :: st) (K r = some res)) : jj p l e R s m args below meth c (hA G) NX Q (cWo G d) (cnx d) nL σ pc lv (.ref (ha G 54) :: .ref q0 :: st) (F.bind K = some res) := by
  intro hz
  cases hF : F with
  | none => rw [hF] at hz; cases hz
  | some r =>
  rw [hF] at hz
  obtain ⟨ci, fs, he, h⟩ := hM r hF
  rcases h with ⟨rfl, hm⟩ | ⟨rfl, hm⟩ | ⟨rfl, hm⟩ | ⟨rfl, hm⟩
  · exact jc_ARz (x := ⟨"LeftUndoes$Cond", "holds", "([I)Z"⟩) (C := RX14) (n := 1) hk hH hK [.ref (ha G 54)] (F := some r) (fun r' h' => by cases h'; exact hm) (lw_Uw q630 q626 q644 q637 q139 q638) (List.mem_of_getElem? (i := 19) rfl) (cRv_D (q := (RX14, TX14, 1)) hH hK (ci := 12) rfl he) (by decide +kernel) rfl rfl hd (by omega) hw kk hz
  · exact jc_ARz (x := ⟨"LeftUndoes$Cond", "holds", "([I)Z"⟩) (C := RX16) (n := 1) hk hH hK [.ref (ha G 54)] (F := some r) (fun r' h' => by cases h'; exact hm) (lw_Uw q630 q626 q643 q631 q141 q632) (List.mem_of_getElem? (i := 19) rfl) (cRv_D (q := (RX16, TX16, 3)) hH hK (ci := 13) rfl he) (by decide +kernel) rfl rfl hd (by omega) hw kk hz
  · exact jc_ARz (x := ⟨"LeftUndoes$Cond", "holds", "([I)Z"⟩) (C := RX17) (n := 1) hk hH hK [.ref (ha G 54)] (F := some r) (fun r' h' => by cases h'; exact hm) (lw_Uw q630 q626 q627 q628 q142 q629) (List.mem_of_getElem? (i := 19) rfl) (cRv_D (q := (RX17, TX17, 2)) hH hK (ci := 14) rfl he) (by decide +kernel) rfl rfl hd (by omega) hw kk hz
  · exact jc_ARz (x := ⟨"LeftUndoes$Cond", "holds", "([I)Z"⟩) (C := RX18) (n := 1) hk hH hK [.ref (ha G 54)] (F := some r) (fun r' h' => by cases h'; exact hm) (lw_Uw q630 q626 q645 q640 q143 q641) (List.mem_of_getElem? (i := 19) rfl) (cRv_D (q := (RX18, TX18, 2)) hH hK (ci := 15) rfl he) (by decide +kernel) rfl rfl hd (by omega) hw kk hz
theorem kc_X18_HOLDS (hk : jk p R s m args meth c NX cc nL RX18 fr lo ret) (hH : cH G KK) (hK : KK s) {q0 : Nat} {F : Option Bool} {K : Bool → Option ρ} (hM : ∀ r, F = some r → jHolds l G d KK σ frc loc q0 r) (hd : decode cc pc = .ok (.invokevirtual 13, 3)) (hr : frc + 1 ≤ fr ∧ 8 + (4 + 11) + loc ≤ lo) (hw : (st.map fun v => v.category).sum ≤ 8) (kk : ∀ r, jj p l e R s m args below meth c (hA G) NX Q (cWo G d) (cnx d) nL σ (pc + 3) lv (.int (bI r) :: st) (K r = some res)) : jj p l e R s m args below meth c (hA G) NX Q (cWo G d) (cnx d) nL σ pc lv (.ref (ha G 54) :: .ref q0 :: st) (F.bind K = some res) := by
  intro hz
  cases hF : F with
  | none => rw [hF] at hz; cases hz
  | some r =>
  rw [hF] at hz
  obtain ⟨ci, fs, he, h⟩ := hM r hF
  rcases h with ⟨rfl, hm⟩ | ⟨rfl, hm⟩ | ⟨rfl, hm⟩ | ⟨rfl, hm⟩
  · exact jc_ARz (x := ⟨"LeftUndoes$Cond", "holds", "([I)Z"⟩) (C := RX14) (n := 1) hk hH hK [.ref (ha G 54)] (F := some r) (fun r' h' => by cases h'; exact hm) (lw_Uw q642 q626 q644 q637 q139 q638) (List.mem_of_getElem? (i := 19) rfl) (cRv_D (q := (RX14, TX14, 1)) hH hK (ci := 12) rfl he) (by decide +kernel) rfl rfl hd (by omega) hw kk hz
  · exact jc_ARz (x := ⟨"LeftUndoes$Cond", "holds", "([I)Z"⟩) (C := RX16) (n := 1) hk hH hK [.ref (ha G 54)] (F := some r) (fun r' h' => by cases h'; exact hm) (lw_Uw q642 q626 q643 q631 q141 q632) (List.mem_of_getElem? (i := 19) rfl) (cRv_D (q := (RX16, TX16, 3)) hH hK (ci := 13) rfl he) (by decide +kernel) rfl rfl hd (by omega) hw kk hz
  · exact jc_ARz (x := ⟨"LeftUndoes$Cond", "holds", "([I)Z"⟩) (C := RX17) (n := 1) hk hH hK [.ref (ha G 54)] (F := some r) (fun r' h' => by cases h'; exact hm) (lw_Uw q642 q626 q627 q628 q142 q629) (List.mem_of_getElem? (i := 19) rfl) (cRv_D (q := (RX17, TX17, 2)) hH hK (ci := 14) rfl he) (by decide +kernel) rfl rfl hd (by omega) hw kk hz
  · exact jc_ARz (x := ⟨"LeftUndoes$Cond", "holds", "([I)Z"⟩) (C := RX18) (n := 1) hk hH hK [.ref (ha G 54)] (F := some r) (fun r' h' => by cases h'; exact hm) (lw_Uw q642 q626 q645 q640 q143 q641) (List.mem_of_getElem? (i := 19) rfl) (cRv_D (q := (RX18, TX18, 2)) hH hK (ci := 15) rfl he) (by decide +kernel) rfl rfl hd (by omega) hw kk hz
theorem kc_X19_HOLDS (hk : jk p R s m args meth c NX cc nL RX19 fr lo ret) (hH : cH G KK) (hK : KK s) {q0 : Nat} {F : Option Bool} {K : Bool → Option ρ} (hM : ∀ r, F = some r → jHolds l G d KK σ frc loc q0 r) (hd : decode cc pc = .ok (.invokevirtual 29, 3)) (hr : frc + 1 ≤ fr ∧ 8 + (4 + 11) + loc ≤ lo) (hw : (st.map fun v => v.category).sum ≤ 8) (kk : ∀ r, jj p l e R s m args below meth c (hA G) NX Q (cWo G d) (cnx d) nL σ (pc + 3) lv (.int (bI r) :: st) (K r = some res)) : jj p l e R s m args below meth c (hA G) NX Q (cWo G d) (cnx d) nL σ pc lv (.ref (ha G 54) :: .ref q0 :: st) (F.bind K = some res) := by
  intro hz
  cases hF : F with
  | none => rw [hF] at hz; cases hz
  | some r =>
  rw [hF] at hz
  obtain ⟨ci, fs, he, h⟩ := hM r hF
  rcases h with ⟨rfl, hm⟩ | ⟨rfl, hm⟩ | ⟨rfl, hm⟩ | ⟨rfl, hm⟩
  · exact jc_ARz (x := ⟨"LeftUndoes$Cond", "holds", "([I)Z"⟩) (C := RX14) (n := 1) hk hH hK [.ref (ha G 54)] (F := some r) (fun r' h' => by cases h'; exact hm) (lw_Uw q624 q626 q644 q637 q139 q638) (List.mem_of_getElem? (i := 19) rfl) (cRv_D (q := (RX14, TX14, 1)) hH hK (ci := 12) rfl he) (by decide +kernel) rfl rfl hd (by omega) hw kk hz
  · exact jc_ARz (x := ⟨"LeftUndoes$Cond", "holds", "([I)Z"⟩) (C := RX16) (n := 1) hk hH hK [.ref (ha G 54)] (F := some r) (fun r' h' => by cases h'; exact hm) (lw_Uw q624 q626 q643 q631 q141 q632) (List.mem_of_getElem? (i := 19) rfl) (cRv_D (q := (RX16, TX16, 3)) hH hK (ci := 13) rfl he) (by decide +kernel) rfl rfl hd (by omega) hw kk hz
  · exact jc_ARz (x := ⟨"LeftUndoes$Cond", "holds", "([I)Z"⟩) (C := RX17) (n := 1) hk hH hK [.ref (ha G 54)] (F := some r) (fun r' h' => by cases h'; exact hm) (lw_Uw q624 q626 q627 q628 q142 q629) (List.mem_of_getElem? (i := 19) rfl) (cRv_D (q := (RX17, TX17, 2)) hH hK (ci := 14) rfl he) (by decide +kernel) rfl rfl hd (by omega) hw kk hz
  · exact jc_ARz (x := ⟨"LeftUndoes$Cond", "holds", "([I)Z"⟩) (C := RX18) (n := 1) hk hH hK [.ref (ha G 54)] (F := some r) (fun r' h' => by cases h'; exact hm) (lw_Uw q624 q626 q645 q640 q143 q641) (List.mem_of_getElem? (i := 19) rfl) (cRv_D (q := (RX18, TX18, 2)) hH hK (ci := 15) rfl he) (by decide +kernel) rfl rfl hd (by omega) hw kk hz
end
