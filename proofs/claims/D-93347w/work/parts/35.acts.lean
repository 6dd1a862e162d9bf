/-! THINGS THAT ACT, printed by gen/gen6.py -/
set_option maxRecDepth 100000
theorem pd2 : (parseMethodDescriptor "(ILLeftUndoes$Trace;)I").map (fun d => d.parameters.length) = some 2 := by decide +kernel
theorem pd0 : (parseMethodDescriptor "()I").map (fun d => d.parameters.length) = some 0 := by decide +kernel
def y7_grace (σ : SS) (d : DS) (q0 : Nat) : Option (XR (Int32 × SS × DS)) := (hInt d 1 q0).bind fun q1 => some (Sum.inr (q1, σ, d))
def y7_number (σ : SS) (d : DS) (q0 : Nat) : Option (XR (Int32 × SS × DS)) := (hInt d 0 q0).bind fun q1 => some (Sum.inr (q1, σ, d))
def yGrace (σ : SS) (d : DS) (q : Nat) : Option (XR (Int32 × SS × DS)) := (dci d q).bind fun ci => (if ci = 7 then y7_grace σ d q else (if ci = 8 then y7_grace σ d q else (if ci = 9 then y7_grace σ d q else (if ci = 10 then y7_grace σ d q else (if ci = 11 then y7_grace σ d q else none)))))
def yNumber (σ : SS) (d : DS) (q : Nat) : Option (XR (Int32 × SS × DS)) := (dci d q).bind fun ci => (if ci = 7 then y7_number σ d q else (if ci = 8 then y7_number σ d q else (if ci = 9 then y7_number σ d q else (if ci = 10 then y7_number σ d q else (if ci = 11 then y7_number σ d q else none)))))
def y21_gives (σ : SS) (d : DS) (q0 : Nat) (a0 : Int32) : Option (XR (Int32 × SS × DS)) := (f4_ran σ (10 : Int32)).bind fun σ1 => yb xnA d (yGrace σ1 d q0) fun r2 => some (Sum.inr (a0 - r2.1, r2.2.1, r2.2.2))
def y8_gives (σ : SS) (d : DS) (q0 : Nat) (a0 : Int32) : Option (XR (Int32 × SS × DS)) := (f4_ran σ (20 : Int32)).bind fun σ1 => yb xnA d ((dHd d q0).bind fun _ => y21_gives σ1 d q0 a0) fun r2 => yb xnA r2.2.2 ((dcl r2.2.2 7 q0).bind fun _ => y7_number r2.2.1 r2.2.2 q0) fun r3 => some (Sum.inr (r2.1 + r3.1, r3.2.1, r3.2.2))
def y10_gives (σ : SS) (d : DS) (q0 : Nat) (a0 : Int32) : Option (XR (Int32 × SS × DS)) := (f4_ran σ (50 : Int32)).bind fun σ1 => yb xnA d ((dHd d q0).bind fun _ => y21_gives σ1 d q0 a0) fun r2 => some (Sum.inr (r2.1 * (3 : Int32), r2.2.1, r2.2.2))
def yGives (σ : SS) (d : DS) (q : Nat) (a0 : Int32) : Option (XR (Int32 × SS × DS)) := (dci d q).bind fun ci => (if ci = 7 then y8_gives σ d q a0 else (if ci = 8 then y21_gives σ d q a0 else (if ci = 9 then y10_gives σ d q a0 else (if ci = 10 then y21_gives σ d q a0 else (if ci = 11 then y21_gives σ d q a0 else none)))))
def y22_takes (σ : SS) (d : DS) (q0 : Nat) (a0 : Int32) : Option (XR (Int32 × SS × DS)) := (f4_ran σ (11 : Int32)).bind fun σ1 => yb xnA d (yGives σ1 d q0 a0) fun r2 => some (Sum.inr (r2.1 * (2 : Int32), r2.2.1, r2.2.2))
def y9_takes (σ : SS) (d : DS) (q0 : Nat) (a0 : Int32) : Option (XR (Int32 × SS × DS)) := (f4_ran σ (30 : Int32)).bind fun σ1 => yb xnA d ((dHd d q0).bind fun _ => y22_takes σ1 d q0 a0) fun r2 => some (Sum.inr ((0 : Int32) - r2.1, r2.2.1, r2.2.2))
def y12_takes (σ : SS) (d : DS) (q0 : Nat) (a0 : Int32) : Option (XR (Int32 × SS × DS)) := (f4_ran σ (60 : Int32)).bind fun σ1 => yb xnA d ((dHd d q0).bind fun _ => y22_takes σ1 d q0 a0) fun r2 => yb xnA r2.2.2 ((dcl r2.2.2 11 q0).bind fun _ => y7_grace r2.2.1 r2.2.2 q0) fun r3 => some (Sum.inr (r2.1 ^^^ r3.1, r3.2.1, r3.2.2))
def yTakes (σ : SS) (d : DS) (q : Nat) (a0 : Int32) : Option (XR (Int32 × SS × DS)) := (dci d q).bind fun ci => (if ci = 7 then y22_takes σ d q a0 else (if ci = 8 then y9_takes σ d q a0 else (if ci = 9 then y9_takes σ d q a0 else (if ci = 10 then y22_takes σ d q a0 else (if ci = 11 then y12_takes σ d q a0 else none)))))
def y23_splits (σ : SS) (d : DS) (q0 : Nat) (a0 : Int32) : Option (XR (Int32 × SS × DS)) := (f4_ran σ (12 : Int32)).bind fun σ1 => yb xnA d (yGrace σ1 d q0) fun r2 => yb xnA r2.2.2 (yNumber r2.2.1 r2.2.2 q0) fun r3 => (if (r2.1 - r3.1) = 0 then some (Sum.inl (6, r3.2.1, r3.2.2)) else some (Sum.inr (a0 - a0 / (r2.1 - r3.1) * (r2.1 - r3.1), r3.2.1, r3.2.2)))
def y11_splits (σ : SS) (d : DS) (q0 : Nat) (a0 : Int32) : Option (XR (Int32 × SS × DS)) := (f4_ran σ (40 : Int32)).bind fun σ1 => yb xnA d ((dHd d q0).bind fun _ => y23_splits σ1 d q0 (a0 + (5 : Int32))) fun r2 => some (Sum.inr (r2.1, r2.2.1, r2.2.2))
def y12_splits (σ : SS) (d : DS) (q0 : Nat) (a0 : Int32) : Option (XR (Int32 × SS × DS)) := (f4_ran σ (61 : Int32)).bind fun σ1 => yb xnA d ((dHd d q0).bind fun _ => y11_splits σ1 d q0 a0) fun r2 => yb xnA r2.2.2 ((dcl r2.2.2 11 q0).bind fun _ => y7_number r2.2.1 r2.2.2 q0) fun r3 => yb xnA r3.2.2 ((dcl r3.2.2 11 q0).bind fun _ => y21_gives r3.2.1 r3.2.2 q0 r3.1) fun r4 => some (Sum.inr (r2.1 + r4.1, r4.2.1, r4.2.2))
def ySplits (σ : SS) (d : DS) (q : Nat) (a0 : Int32) : Option (XR (Int32 × SS × DS)) := (dci d q).bind fun ci => (if ci = 7 then y23_splits σ d q a0 else (if ci = 8 then y23_splits σ d q a0 else (if ci = 9 then y23_splits σ d q a0 else (if ci = 10 then y11_splits σ d q a0 else (if ci = 11 then y12_splits σ d q a0 else none)))))
def y24_swears (σ : SS) (d : DS) (q0 : Nat) (a0 : Int32) : Option (XR (Int32 × SS × DS)) := (f4_ran σ (13 : Int32)).bind fun σ1 => yb xnA d (yTakes σ1 d q0 a0) fun r2 => yb xnA r2.2.2 (yNumber r2.2.1 r2.2.2 q0) fun r3 => some (Sum.inr (r2.1 ^^^ r3.1, r3.2.1, r3.2.2))
def y10_swears (σ : SS) (d : DS) (q0 : Nat) (a0 : Int32) : Option (XR (Int32 × SS × DS)) := (f4_ran σ (51 : Int32)).bind fun σ1 => yb xnA d ((dHd d q0).bind fun _ => y24_swears σ1 d q0 a0) fun r2 => yb xnA r2.2.2 ((dcl r2.2.2 9 q0).bind fun _ => y7_grace r2.2.1 r2.2.2 q0) fun r3 => yb xnA r3.2.2 ((dcl r3.2.2 9 q0).bind fun _ => y23_splits r3.2.1 r3.2.2 q0 r3.1) fun r4 => some (Sum.inr (r2.1 - r4.1, r4.2.1, r4.2.2))
def ySwears (σ : SS) (d : DS) (q : Nat) (a0 : Int32) : Option (XR (Int32 × SS × DS)) := (dci d q).bind fun ci => (if ci = 7 then y24_swears σ d q a0 else (if ci = 8 then y24_swears σ d q a0 else (if ci = 9 then y10_swears σ d q a0 else (if ci = 10 then y24_swears σ d q a0 else (if ci = 11 then y24_swears σ d q a0 else none)))))
def f0_act_B33   (σ : SS) (d : DS) (x2 : Int32) (x3 : Int32) (y0 : Option Nat) : Option (Int32 × SS × DS) := (dIs d "LeftUndoes$Swears" y0).bind fun b1 => (if b1 = true then ((dCk d "LeftUndoes$Swears" y0).bind fun b => (if b = true then (if x2 = (0 : Int32) then yh xnA d (y0.bind fun q => yGives σ d q x3) (fun y => (if y.1 = 6 then some ((-15 : Int32), y.2.1) else none)) fun r2 => some (r2.1, r2.2.1, r2.2.2) else (if x2 = (1 : Int32) then yh xnA d (y0.bind fun q => yTakes σ d q x3) (fun y => (if y.1 = 6 then some ((-15 : Int32), y.2.1) else none)) fun r3 => some (r3.1, r3.2.1, r3.2.2) else (if x2 = (2 : Int32) then yh xnA d (y0.bind fun q => ySplits σ d q x3) (fun y => (if y.1 = 6 then some ((-15 : Int32), y.2.1) else none)) fun r4 => some (r4.1, r4.2.1, r4.2.2) else yh xnA d (y0.bind fun q => ySwears σ d q x3) (fun y => (if y.1 = 6 then some ((-15 : Int32), y.2.1) else none)) fun r5 => some (r5.1, r5.2.1, r5.2.2)))) else none)) else some ((0 : Int32), σ, d))
def f0_act (σ : SS) (d : DS) (a0 : Int32) (a1 : Int32) (a2 : Int32) : Option (Int32 × SS × DS) := (some (sI σ 70 (0 : Int32))).bind fun σ1 => (f0_isShelf a0).bind fun r2 => (if r2 = true then (f0_isIn a1 (0 : Int32) (3 : Int32)).bind fun r3 => (if r3 = true then yh xnA d (f0_held σ1 d a0) (fun y => none) fun r4 => f0_act_B33 r4.2.1 r4.2.2 a1 a2 r4.1 else f0_act_B33 σ1 d a1 a2 none) else f0_act_B33 σ1 d a1 a2 none)
section
variable {p : Program} {l : Launch} {e : Env} {R : Room} {s : State} {m : MethodId} {args : Array Value} {below : List Frame} {meth : Method} {c : Code}
variable {G : cG} {KK : State → Prop}
set_option maxHeartbeats 4000000 in
theorem cc_y7_grace (l : Launch) (hlt : l.stackTraces = false) {G : cG} {KK : State → Prop} (hH : cH G KK)  (σ : SS) (d : DS) (q0 : Nat) (res : (XR (Int32 × SS × DS))) (hf : y7_grace σ d q0 = some res) : jMY l yX7_grace (ws_ yX7_grace cX7_grace 1 (some .int)) 9 10400 [.ref q0] G KK (σ, d) xnA (jUa (fun x : Int32 => .int x)) res := by
  refine jy_start [(0, .ref q0)] (by decide) (Nat.le_of_ble_eq_true rfl) rfl (fun p e R s m args below meth c hk hK hWo ht => ?_) hf
  have hk : jk p R s m args meth c (ynx xnA res) cX7_grace 1 RX7 9 10400 (some .int) := hk
  have h0 : hX G s.heap := hWo.2.2
  unfold y7_grace
  refine jj_aload_n hk (pc := 0) dX7_grace_0 0 rfl rfl ?_
  refine jd_X7_grace hk hH hK (pc := 1) dX7_grace_1 (fun q1 => ?_)
  exact jy_retUi hk (pc := 4) dX7_grace_4
end
section
variable {p : Program} {l : Launch} {e : Env} {R : Room} {s : State} {m : MethodId} {args : Array Value} {below : List Frame} {meth : Method} {c : Code}
variable {G : cG} {KK : State → Prop}
set_option maxHeartbeats 4000000 in
theorem cc_y7_number (l : Launch) (hlt : l.stackTraces = false) {G : cG} {KK : State → Prop} (hH : cH G KK)  (σ : SS) (d : DS) (q0 : Nat) (res : (XR (Int32 × SS × DS))) (hf : y7_number σ d q0 = some res) : jMY l yX7_number (ws_ yX7_number cX7_number 1 (some .int)) 9 10400 [.ref q0] G KK (σ, d) xnA (jUa (fun x : Int32 => .int x)) res := by
  refine jy_start [(0, .ref q0)] (by decide) (Nat.le_of_ble_eq_true rfl) rfl (fun p e R s m args below meth c hk hK hWo ht => ?_) hf
  have hk : jk p R s m args meth c (ynx xnA res) cX7_number 1 RX7 9 10400 (some .int) := hk
  have h0 : hX G s.heap := hWo.2.2
  unfold y7_number
  refine jj_aload_n hk (pc := 0) dX7_number_0 0 rfl rfl ?_
  refine jd_X7_number hk hH hK (pc := 1) dX7_number_1 (fun q1 => ?_)
  exact jy_retUi hk (pc := 4) dX7_number_4
end
section
variable {p : Program} {l : Launch} {e : Env} {R : Room} {s : State} {m : MethodId} {args : Array Value} {below : List Frame} {meth : Method} {c : Code}
variable {G : cG} {d : DS} {KK : State → Prop}
variable {NX : Nat} {nL : Nat} {cc : ByteArray} {fr lo frc loc : Nat} {ret : Option FieldType}
variable {pc : Nat} {σ : SS} {lv : List (Nat × Value)} {st : List Value} {τ : Type} {nf : τ → Nat} {Ψ : τ → Outcome → SS × DS → Prop} {res : XR τ}
set_option maxHeartbeats 2000000 in
theorem kz_Gives_7 (hk : jk p R s m args meth c (ynx nf res) cc nL RX21 fr lo ret) (hH : cH G KK) (hK : KK s) (ht : ∀ x ∈ c.exceptionTable.toList, False) (h0 : hX G s.heap) (hlt : l.stackTraces = false) {q : Nat} {K : (Int32 × SS × DS) → Option (XR τ)} (hd : decode cc pc = .ok (.invokeinterface 7 1, 5)) (hr : 9 + 1 ≤ fr ∧ 8 + (1 + 11) + 10400 ≤ lo) (hw : (st.map fun v => v.category).sum ≤ 8) (kk : ∀ r : Int32 × SS × DS, jj p l e R s m args below meth c (hA G) (ynx nf res) (jZY below args s G nf Ψ res) (cWo G r.2.2) (cnx r.2.2) nL r.2.1 (pc + 5) lv (.int r.1 :: st) (K r = some res)) : jj p l e R s m args below meth c (hA G) (ynx nf res) (jZY below args s G nf Ψ res) (cWo G d) (cnx d) nL σ pc lv (.ref q :: st) (yb xnA d (yGrace σ d q) K = some res) := by
  intro hz
  have hS : cS0 s := (hH.2.2.2.2.2 s hK).2.2.2.2
  cases hc : dci d q with
  | none => rw [show yGrace σ d q = none by unfold yGrace; rw [hc]; rfl] at hz; cases hz
  | some ci =>
    obtain ⟨fs, he⟩ := dci_spec hc
    by_cases h7 : ci = 7
    · subst h7
      rw [show yGrace σ d q = y7_grace σ d q by unfold yGrace; rw [hc]; rfl] at hz
      refine jy_E (y := ⟨"LeftUndoes$Hand", "grace", "()I"⟩) (frc := 9) (loc := 10400) (F := y7_grace σ d q) [] hk hH hK ht q1392 q128 (fun r h => cc_y7_grace l hlt hH σ d q r h) (fun H hW ls => ?_) rfl hd (by omega) hw kk hz
      obtain ⟨mk, hsel⟩ := ySel_s (C := "LeftUndoes$Clasped") (J := "LeftUndoes$Gives") (nm := "grace") (ds := "()I") (y := ⟨"LeftUndoes$Hand", "grace", "()I"⟩) (A := args) (by decide) (cS_decl hS (Or.inl q1386)) (hk.1.2.2.2.2 _ q1388) (hk.1.2.2.2.2 _ q1390) (cS_pub hS (Or.inl q1391)) (cS_unh hS (Or.inl q1389))
      exact ⟨mk, (by obtain ⟨_, _, _, _, _, _, _, _, _, _, h, _⟩ := hsel; exact h), yE_iface (J := "LeftUndoes$Gives") (xi := ⟨"LeftUndoes$Gives", "grace", "()I"⟩) (As := []) hk.1.1 hk.1.2.1 hk.1.2.2.2.1 (hk.1.2.2.2.2 _ q1384) (cS_face hS (Or.inl q1385)) (cS_decl hS (Or.inl q1386)) (cS_pub hS (Or.inl q1462)) hsel (cS_cast hS (Or.inl q1387)) (by decide) (cRv_D (q := (RX8, TX8, 2)) hH hK (ci := 7) rfl he H hW) pd0 hd⟩
    by_cases h8 : ci = 8
    · subst h8
      rw [show yGrace σ d q = y7_grace σ d q by unfold yGrace; rw [hc]; rfl] at hz
      refine jy_E (y := ⟨"LeftUndoes$Hand", "grace", "()I"⟩) (frc := 9) (loc := 10400) (F := y7_grace σ d q) [] hk hH hK ht q1392 q128 (fun r h => cc_y7_grace l hlt hH σ d q r h) (fun H hW ls => ?_) rfl hd (by omega) hw kk hz
      obtain ⟨mk, hsel⟩ := ySel_s (C := "LeftUndoes$Forger") (J := "LeftUndoes$Gives") (nm := "grace") (ds := "()I") (y := ⟨"LeftUndoes$Hand", "grace", "()I"⟩) (A := args) (by decide) (cS_decl hS (Or.inl q1386)) (hk.1.2.2.2.2 _ q1394) (hk.1.2.2.2.2 _ q1390) (cS_pub hS (Or.inl q1391)) (cS_unh hS (Or.inl q1395))
      exact ⟨mk, (by obtain ⟨_, _, _, _, _, _, _, _, _, _, h, _⟩ := hsel; exact h), yE_iface (J := "LeftUndoes$Gives") (xi := ⟨"LeftUndoes$Gives", "grace", "()I"⟩) (As := []) hk.1.1 hk.1.2.1 hk.1.2.2.2.1 (hk.1.2.2.2.2 _ q1384) (cS_face hS (Or.inl q1385)) (cS_decl hS (Or.inl q1386)) (cS_pub hS (Or.inl q1462)) hsel (cS_cast hS (Or.inl q1393)) (by decide) (cRv_D (q := (RX9, TX9, 2)) hH hK (ci := 8) rfl he H hW) pd0 hd⟩
    by_cases h9 : ci = 9
    · subst h9
      rw [show yGrace σ d q = y7_grace σ d q by unfold yGrace; rw [hc]; rfl] at hz
      refine jy_E (y := ⟨"LeftUndoes$Hand", "grace", "()I"⟩) (frc := 9) (loc := 10400) (F := y7_grace σ d q) [] hk hH hK ht q1392 q128 (fun r h => cc_y7_grace l hlt hH σ d q r h) (fun H hW ls => ?_) rfl hd (by omega) hw kk hz
      obtain ⟨mk, hsel⟩ := ySel_s (C := "LeftUndoes$Twin") (J := "LeftUndoes$Gives") (nm := "grace") (ds := "()I") (y := ⟨"LeftUndoes$Hand", "grace", "()I"⟩) (A := args) (by decide) (cS_decl hS (Or.inl q1386)) (hk.1.2.2.2.2 _ q1403) (hk.1.2.2.2.2 _ q1390) (cS_pub hS (Or.inl q1391)) (cS_unh hS (Or.inl q1404))
      exact ⟨mk, (by obtain ⟨_, _, _, _, _, _, _, _, _, _, h, _⟩ := hsel; exact h), yE_iface (J := "LeftUndoes$Gives") (xi := ⟨"LeftUndoes$Gives", "grace", "()I"⟩) (As := []) hk.1.1 hk.1.2.1 hk.1.2.2.2.1 (hk.1.2.2.2.2 _ q1384) (cS_face hS (Or.inl q1385)) (cS_decl hS (Or.inl q1386)) (cS_pub hS (Or.inl q1462)) hsel (cS_cast hS (Or.inl q1402)) (by decide) (cRv_D (q := (RX10, TX10, 2)) hH hK (ci := 9) rfl he H hW) pd0 hd⟩
    by_cases h10 : ci = 10
    · subst h10
      rw [show yGrace σ d q = y7_grace σ d q by unfold yGrace; rw [hc]; rfl] at hz
      refine jy_E (y := ⟨"LeftUndoes$Hand", "grace", "()I"⟩) (frc := 9) (loc := 10400) (F := y7_grace σ d q) [] hk hH hK ht q1392 q128 (fun r h => cc_y7_grace l hlt hH σ d q r h) (fun H hW ls => ?_) rfl hd (by omega) hw kk hz
      obtain ⟨mk, hsel⟩ := ySel_s (C := "LeftUndoes$Slow") (J := "LeftUndoes$Gives") (nm := "grace") (ds := "()I") (y := ⟨"LeftUndoes$Hand", "grace", "()I"⟩) (A := args) (by decide) (cS_decl hS (Or.inl q1386)) (hk.1.2.2.2.2 _ q1400) (hk.1.2.2.2.2 _ q1390) (cS_pub hS (Or.inl q1391)) (cS_unh hS (Or.inl q1401))
      exact ⟨mk, (by obtain ⟨_, _, _, _, _, _, _, _, _, _, h, _⟩ := hsel; exact h), yE_iface (J := "LeftUndoes$Gives") (xi := ⟨"LeftUndoes$Gives", "grace", "()I"⟩) (As := []) hk.1.1 hk.1.2.1 hk.1.2.2.2.1 (hk.1.2.2.2.2 _ q1384) (cS_face hS (Or.inl q1385)) (cS_decl hS (Or.inl q1386)) (cS_pub hS (Or.inl q1462)) hsel (cS_cast hS (Or.inl q1399)) (by decide) (cRv_D (q := (RX11, TX11, 2)) hH hK (ci := 10) rfl he H hW) pd0 hd⟩
    by_cases h11 : ci = 11
    · subst h11
      rw [show yGrace σ d q = y7_grace σ d q by unfold yGrace; rw [hc]; rfl] at hz
      refine jy_E (y := ⟨"LeftUndoes$Hand", "grace", "()I"⟩) (frc := 9) (loc := 10400) (F := y7_grace σ d q) [] hk hH hK ht q1392 q128 (fun r h => cc_y7_grace l hlt hH σ d q r h) (fun H hW ls => ?_) rfl hd (by omega) hw kk hz
      obtain ⟨mk, hsel⟩ := ySel_s (C := "LeftUndoes$Heir") (J := "LeftUndoes$Gives") (nm := "grace") (ds := "()I") (y := ⟨"LeftUndoes$Hand", "grace", "()I"⟩) (A := args) (by decide) (cS_decl hS (Or.inl q1386)) (hk.1.2.2.2.2 _ q1397) (hk.1.2.2.2.2 _ q1390) (cS_pub hS (Or.inl q1391)) (cS_unh hS (Or.inl q1398))
      exact ⟨mk, (by obtain ⟨_, _, _, _, _, _, _, _, _, _, h, _⟩ := hsel; exact h), yE_iface (J := "LeftUndoes$Gives") (xi := ⟨"LeftUndoes$Gives", "grace", "()I"⟩) (As := []) hk.1.1 hk.1.2.1 hk.1.2.2.2.1 (hk.1.2.2.2.2 _ q1384) (cS_face hS (Or.inl q1385)) (cS_decl hS (Or.inl q1386)) (cS_pub hS (Or.inl q1462)) hsel (cS_cast hS (Or.inl q1396)) (by decide) (cRv_D (q := (RX12, TX12, 2)) hH hK (ci := 11) rfl he H hW) pd0 hd⟩
    rw [show yGrace σ d q = none by unfold yGrace; rw [hc]; simp only [Option.bind_some]; rw [if_neg h7, if_neg h8, if_neg h9, if_neg h10, if_neg h11]] at hz; cases hz
end
section
variable {p : Program} {l : Launch} {e : Env} {R : Room} {s : State} {m : MethodId} {args : Array Value} {below : List Frame} {meth : Method} {c : Code}
variable {G : cG} {d : DS} {KK : State → Prop}
variable {NX : Nat} {Q : State → Prop} {nL : Nat} {cc : ByteArray} {fr lo frc loc : Nat} {ret : Option FieldType}
variable {pc : Nat} {σ : SS} {lv : List (Nat × Value)} {st : List Value} {ρ : Type} {res : ρ}
theorem kc_X21_4_ran (hk : jk p R s m args meth c NX cc nL RX21 fr lo ret) (hH : cH G KK) (hK : KK s) {a0 : Int32} {F : Option SS} {K : SS → Option ρ} (hM : ∀ r, F = some r → jM l yX4_ran (ws_ yX4_ran cX4_ran 2 none) frc loc [.ref (ha G 6), .int a0] (cWo G d) (cnx d) KK σ (jV r) (hA G) d.2)  (hd : decode cc pc = .ok (.invokevirtual 1, 3)) (hr : frc + 1 ≤ fr ∧ 8 + (2 + 11) + loc ≤ lo) (hw : (st.map fun v => v.category).sum ≤ 8) (kk : ∀ r, jj p l e R s m args below meth c (hA G) NX Q (cWo G d) (cnx d) nL r (pc + 3) lv st (K r = some res)) : jj p l e R s m args below meth c (hA G) NX Q (cWo G d) (cnx d) nL σ pc lv (.int a0 :: .ref (ha G 6) :: st) (F.bind K = some res) :=
  jc_VV (n := 1) hk hH hK [.int a0] hM (lw_V q1382 q1376 q1377 q125 q1378) (cRv_at (q := (RX4, TX4, 2)) (ci := 3) (q0 := 6) hH hK rfl rfl) (by decide +kernel) rfl rfl hd hr hw kk
end
section
variable {p : Program} {l : Launch} {e : Env} {R : Room} {s : State} {m : MethodId} {args : Array Value} {below : List Frame} {meth : Method} {c : Code}
variable {G : cG} {KK : State → Prop}
set_option maxHeartbeats 4000000 in
theorem cc_y21_gives (l : Launch) (hlt : l.stackTraces = false) {G : cG} {KK : State → Prop} (hH : cH G KK)  (σ : SS) (d : DS) (q0 : Nat) (a0 : Int32) (res : (XR (Int32 × SS × DS))) (hf : y21_gives σ d q0 a0 = some res) : jMY l yX21_gives (ws_ yX21_gives cX21_gives 3 (some .int)) 10 10420 [.ref q0, .int a0, .ref (ha G 6)] G KK (σ, d) xnA (jUa (fun x : Int32 => .int x)) res := by
  refine jy_start [(0, .ref q0), (1, .int a0), (2, .ref (ha G 6))] (by decide) (Nat.le_of_ble_eq_true rfl) rfl (fun p e R s m args below meth c hk hK hWo ht => ?_) hf
  have hk : jk p R s m args meth c (ynx xnA res) cX21_gives 3 RX21 10 10420 (some .int) := hk
  have h0 : hX G s.heap := hWo.2.2
  unfold y21_gives
  refine jj_aload_n hk (pc := 0) dX21_gives_0 2 rfl rfl ?_
  refine jj_bipush hk (pc := 1) (v := (10 : Int32)) dX21_gives_1 (by decide) ?_
  refine kc_X21_4_ran hk hH hK (pc := 3) (a0 := (10 : Int32)) (fun r h => cc_f4_ran l hH d σ (10 : Int32) r h) dX21_gives_3 ⟨Nat.le_of_ble_eq_true rfl, Nat.le_of_ble_eq_true rfl⟩ (Nat.le_of_ble_eq_true rfl) (fun σ1 => ?_)
  refine jj_iload_n hk (pc := 6) dX21_gives_6 1 rfl rfl ?_
  refine jj_aload_n hk (pc := 7) dX21_gives_7 0 rfl rfl ?_
  refine kz_Gives_7 hk hH hK ht h0 hlt (pc := 8) (q := q0) dX21_gives_8 ⟨Nat.le_of_ble_eq_true rfl, Nat.le_of_ble_eq_true rfl⟩ (Nat.le_of_ble_eq_true rfl) (fun r2 => ?_)
  refine jj_isub hk (pc := 13) dX21_gives_13 ?_
  exact jy_retUi hk (pc := 14) dX21_gives_14
end
section
variable {p : Program} {l : Launch} {e : Env} {R : Room} {s : State} {m : MethodId} {args : Array Value} {below : List Frame} {meth : Method} {c : Code}
variable {G : cG} {d : DS} {KK : State → Prop}
variable {NX : Nat} {nL : Nat} {cc : ByteArray} {fr lo frc loc : Nat} {ret : Option FieldType}
variable {pc : Nat} {σ : SS} {lv : List (Nat × Value)} {st : List Value} {τ : Type} {nf : τ → Nat} {Ψ : τ → Outcome → SS × DS → Prop} {res : XR τ}
set_option maxHeartbeats 2000000 in
theorem kz_Clasped_17 (hk : jk p R s m args meth c (ynx nf res) cc nL RX8 fr lo ret) (hH : cH G KK) (hK : KK s) (ht : ∀ x ∈ c.exceptionTable.toList, False) (h0 : hX G s.heap) (hlt : l.stackTraces = false) {q : Nat} {a0 : Int32} {K : (Int32 × SS × DS) → Option (XR τ)} (hd : decode cc pc = .ok (.invokespecial 17, 3)) (hr : 10 + 1 ≤ fr ∧ 8 + (3 + 11) + 10420 ≤ lo) (hw : (st.map fun v => v.category).sum ≤ 8) (kk : ∀ r : Int32 × SS × DS, jj p l e R s m args below meth c (hA G) (ynx nf res) (jZY below args s G nf Ψ res) (cWo G r.2.2) (cnx r.2.2) nL r.2.1 (pc + 3) lv (.int r.1 :: st) (K r = some res)) : jj p l e R s m args below meth c (hA G) (ynx nf res) (jZY below args s G nf Ψ res) (cWo G d) (cnx d) nL σ pc lv (.ref (ha G 6) :: .int a0 :: .ref q :: st) (yb xnA d ((dHd d q).bind fun _ => y21_gives σ d q a0) K = some res) := by
  intro hz
  have hS : cS0 s := (hH.2.2.2.2.2 s hK).2.2.2.2
  cases hc : dHd d q with
  | none => rw [hc] at hz; cases hz
  | some u =>
    obtain ⟨C, hrv⟩ := dHd_rv (σ := σ) hH hK hc
    rw [hc] at hz
    have hz : yb xnA d (y21_gives σ d q a0) K = some res := hz
    refine jy_E (y := ⟨"LeftUndoes$Gives", "gives", "(ILLeftUndoes$Trace;)I"⟩) (frc := 10) (loc := 10420) (F := y21_gives σ d q a0) [.int a0, .ref (ha G 6)] hk hH hK ht q1381 q2236 (fun r h => cc_y21_gives l hlt hH σ d q a0 r h) (fun H hW ls => ?_) rfl hd (by omega) hw kk hz
    exact yE_specD (owner := "LeftUndoes$Gives") (x := ⟨"LeftUndoes$Hand", "gives", "(ILLeftUndoes$Trace;)I"⟩) (As := [.int a0, .ref (ha G 6)]) hk.1.1 hk.1.2.1 hk.1.2.2.2.1 (cS_good hS (Or.inr (by decide +kernel)) rfl rfl) (cS_good hS (Or.inr (by decide +kernel)) rfl rfl) (hk.1.2.2.2.2 _ q537) (cS_lands hS (Or.inr (by decide +kernel))) (hk.1.2.2.2.2 _ q1380) (cS_pub hS (Or.inl q1367)) (by decide) (cS_decl hS (Or.inl q1368)) (hrv H hW) pd2 hd
end
section
variable {p : Program} {l : Launch} {e : Env} {R : Room} {s : State} {m : MethodId} {args : Array Value} {below : List Frame} {meth : Method} {c : Code}
variable {G : cG} {d : DS} {KK : State → Prop}
variable {NX : Nat} {nL : Nat} {cc : ByteArray} {fr lo frc loc : Nat} {ret : Option FieldType}
variable {pc : Nat} {σ : SS} {lv : List (Nat × Value)} {st : List Value} {τ : Type} {nf : τ → Nat} {Ψ : τ → Outcome → SS × DS → Prop} {res : XR τ}
set_option maxHeartbeats 2000000 in
theorem kz_Clasped_21 (hk : jk p R s m args meth c (ynx nf res) cc nL RX8 fr lo ret) (hH : cH G KK) (hK : KK s) (ht : ∀ x ∈ c.exceptionTable.toList, False) (h0 : hX G s.heap) (hlt : l.stackTraces = false) {q : Nat} {K : (Int32 × SS × DS) → Option (XR τ)} (hd : decode cc pc = .ok (.invokevirtual 21, 3)) (hr : 9 + 1 ≤ fr ∧ 8 + (1 + 11) + 10400 ≤ lo) (hw : (st.map fun v => v.category).sum ≤ 8) (kk : ∀ r : Int32 × SS × DS, jj p l e R s m args below meth c (hA G) (ynx nf res) (jZY below args s G nf Ψ res) (cWo G r.2.2) (cnx r.2.2) nL r.2.1 (pc + 3) lv (.int r.1 :: st) (K r = some res)) : jj p l e R s m args below meth c (hA G) (ynx nf res) (jZY below args s G nf Ψ res) (cWo G d) (cnx d) nL σ pc lv (.ref q :: st) (yb xnA d ((dcl d 7 q).bind fun _ => y7_number σ d q) K = some res) := by
  intro hz
  have hS : cS0 s := (hH.2.2.2.2.2 s hK).2.2.2.2
  cases hc : dcl d 7 q with
  | none => rw [hc] at hz; cases hz
  | some u =>
    obtain ⟨fs, he⟩ := dcl_spec hc
    rw [hc] at hz
    have hz : yb xnA d (y7_number σ d q) K = some res := hz
    refine jy_E (y := ⟨"LeftUndoes$Hand", "number", "()I"⟩) (frc := 9) (loc := 10400) (F := y7_number σ d q) [] hk hH hK ht q1346 q128 (fun r h => cc_y7_number l hlt hH σ d q r h) (fun H hW ls => ?_) rfl hd (by omega) hw kk hz
    exact yE_virtU (x := ⟨"LeftUndoes$Clasped", "number", "()I"⟩) (y := ⟨"LeftUndoes$Hand", "number", "()I"⟩) (C := "LeftUndoes$Clasped") (As := []) hk.1.1 hk.1.2.1 hk.1.2.2.2.1 (hk.1.2.2.2.2 _ q1405) (hk.1.2.2.2.2 _ q1406) rfl (cS_decl hS (Or.inl q1407)) (by decide) (hk.1.2.2.2.2 _ q1408) (hk.1.2.2.2.2 _ q1339) (cRv_D (q := (RX8, TX8, 2)) hH hK (ci := 7) rfl he H hW) pd0 hd
end
section
variable {p : Program} {l : Launch} {e : Env} {R : Room} {s : State} {m : MethodId} {args : Array Value} {below : List Frame} {meth : Method} {c : Code}
variable {G : cG} {d : DS} {KK : State → Prop}
variable {NX : Nat} {Q : State → Prop} {nL : Nat} {cc : ByteArray} {fr lo frc loc : Nat} {ret : Option FieldType}
variable {pc : Nat} {σ : SS} {lv : List (Nat × Value)} {st : List Value} {ρ : Type} {res : ρ}
theorem kc_X8_4_ran (hk : jk p R s m args meth c NX cc nL RX8 fr lo ret) (hH : cH G KK) (hK : KK s) {a0 : Int32} {F : Option SS} {K : SS → Option ρ} (hM : ∀ r, F = some r → jM l yX4_ran (ws_ yX4_ran cX4_ran 2 none) frc loc [.ref (ha G 6), .int a0] (cWo G d) (cnx d) KK σ (jV r) (hA G) d.2)  (hd : decode cc pc = .ok (.invokevirtual 11, 3)) (hr : frc + 1 ≤ fr ∧ 8 + (2 + 11) + loc ≤ lo) (hw : (st.map fun v => v.category).sum ≤ 8) (kk : ∀ r, jj p l e R s m args below meth c (hA G) NX Q (cWo G d) (cnx d) nL r (pc + 3) lv st (K r = some res)) : jj p l e R s m args below meth c (hA G) NX Q (cWo G d) (cnx d) nL σ pc lv (.int a0 :: .ref (ha G 6) :: st) (F.bind K = some res) :=
  jc_VV (n := 1) hk hH hK [.int a0] hM (lw_V q1375 q1376 q1377 q125 q1378) (cRv_at (q := (RX4, TX4, 2)) (ci := 3) (q0 := 6) hH hK rfl rfl) (by decide +kernel) rfl rfl hd hr hw kk
end
section
variable {p : Program} {l : Launch} {e : Env} {R : Room} {s : State} {m : MethodId} {args : Array Value} {below : List Frame} {meth : Method} {c : Code}
variable {G : cG} {KK : State → Prop}
set_option maxHeartbeats 4000000 in
theorem cc_y8_gives (l : Launch) (hlt : l.stackTraces = false) {G : cG} {KK : State → Prop} (hH : cH G KK)  (σ : SS) (d : DS) (q0 : Nat) (a0 : Int32) (res : (XR (Int32 × SS × DS))) (hf : y8_gives σ d q0 a0 = some res) : jMY l yX8_gives (ws_ yX8_gives cX8_gives 3 (some .int)) 11 10442 [.ref q0, .int a0, .ref (ha G 6)] G KK (σ, d) xnA (jUa (fun x : Int32 => .int x)) res := by
  refine jy_start [(0, .ref q0), (1, .int a0), (2, .ref (ha G 6))] (by decide) (Nat.le_of_ble_eq_true rfl) rfl (fun p e R s m args below meth c hk hK hWo ht => ?_) hf
  have hk : jk p R s m args meth c (ynx xnA res) cX8_gives 3 RX8 11 10442 (some .int) := hk
  have h0 : hX G s.heap := hWo.2.2
  unfold y8_gives
  refine jj_aload_n hk (pc := 0) dX8_gives_0 2 rfl rfl ?_
  refine jj_bipush hk (pc := 1) (v := (20 : Int32)) dX8_gives_1 (by decide) ?_
  refine kc_X8_4_ran hk hH hK (pc := 3) (a0 := (20 : Int32)) (fun r h => cc_f4_ran l hH d σ (20 : Int32) r h) dX8_gives_3 ⟨Nat.le_of_ble_eq_true rfl, Nat.le_of_ble_eq_true rfl⟩ (Nat.le_of_ble_eq_true rfl) (fun σ1 => ?_)
  refine jj_aload_n hk (pc := 6) dX8_gives_6 0 rfl rfl ?_
  refine jj_iload_n hk (pc := 7) dX8_gives_7 1 rfl rfl ?_
  refine jj_aload_n hk (pc := 8) dX8_gives_8 2 rfl rfl ?_
  refine kz_Clasped_17 hk hH hK ht h0 hlt (pc := 9) (q := q0) (a0 := a0) dX8_gives_9 ⟨Nat.le_of_ble_eq_true rfl, Nat.le_of_ble_eq_true rfl⟩ (Nat.le_of_ble_eq_true rfl) (fun r2 => ?_)
  refine jj_aload_n hk (pc := 12) dX8_gives_12 0 rfl rfl ?_
  refine kz_Clasped_21 hk hH hK ht h0 hlt (pc := 13) (q := q0) dX8_gives_13 ⟨Nat.le_of_ble_eq_true rfl, Nat.le_of_ble_eq_true rfl⟩ (Nat.le_of_ble_eq_true rfl) (fun r3 => ?_)
  refine jj_iadd hk (pc := 16) dX8_gives_16 ?_
  exact jy_retUi hk (pc := 17) dX8_gives_17
end
section
variable {p : Program} {l : Launch} {e : Env} {R : Room} {s : State} {m : MethodId} {args : Array Value} {below : List Frame} {meth : Method} {c : Code}
variable {G : cG} {d : DS} {KK : State → Prop}
variable {NX : Nat} {nL : Nat} {cc : ByteArray} {fr lo frc loc : Nat} {ret : Option FieldType}
variable {pc : Nat} {σ : SS} {lv : List (Nat × Value)} {st : List Value} {τ : Type} {nf : τ → Nat} {Ψ : τ → Outcome → SS × DS → Prop} {res : XR τ}
set_option maxHeartbeats 2000000 in
theorem kz_Twin_21 (hk : jk p R s m args meth c (ynx nf res) cc nL RX10 fr lo ret) (hH : cH G KK) (hK : KK s) (ht : ∀ x ∈ c.exceptionTable.toList, False) (h0 : hX G s.heap) (hlt : l.stackTraces = false) {q : Nat} {a0 : Int32} {K : (Int32 × SS × DS) → Option (XR τ)} (hd : decode cc pc = .ok (.invokespecial 21, 3)) (hr : 10 + 1 ≤ fr ∧ 8 + (3 + 11) + 10420 ≤ lo) (hw : (st.map fun v => v.category).sum ≤ 8) (kk : ∀ r : Int32 × SS × DS, jj p l e R s m args below meth c (hA G) (ynx nf res) (jZY below args s G nf Ψ res) (cWo G r.2.2) (cnx r.2.2) nL r.2.1 (pc + 3) lv (.int r.1 :: st) (K r = some res)) : jj p l e R s m args below meth c (hA G) (ynx nf res) (jZY below args s G nf Ψ res) (cWo G d) (cnx d) nL σ pc lv (.ref (ha G 6) :: .int a0 :: .ref q :: st) (yb xnA d ((dHd d q).bind fun _ => y21_gives σ d q a0) K = some res) := by
  intro hz
  have hS : cS0 s := (hH.2.2.2.2.2 s hK).2.2.2.2
  cases hc : dHd d q with
  | none => rw [hc] at hz; cases hz
  | some u =>
    obtain ⟨C, hrv⟩ := dHd_rv (σ := σ) hH hK hc
    rw [hc] at hz
    have hz : yb xnA d (y21_gives σ d q a0) K = some res := hz
    refine jy_E (y := ⟨"LeftUndoes$Gives", "gives", "(ILLeftUndoes$Trace;)I"⟩) (frc := 10) (loc := 10420) (F := y21_gives σ d q a0) [.int a0, .ref (ha G 6)] hk hH hK ht q1381 q2236 (fun r h => cc_y21_gives l hlt hH σ d q a0 r h) (fun H hW ls => ?_) rfl hd (by omega) hw kk hz
    exact yE_specD (owner := "LeftUndoes$Gives") (x := ⟨"LeftUndoes$Forger", "gives", "(ILLeftUndoes$Trace;)I"⟩) (As := [.int a0, .ref (ha G 6)]) hk.1.1 hk.1.2.1 hk.1.2.2.2.1 (cS_good hS (Or.inr (by decide +kernel)) rfl rfl) (cS_good hS (Or.inr (by decide +kernel)) rfl rfl) (hk.1.2.2.2.2 _ q555) (cS_lands hS (Or.inr (by decide +kernel))) (hk.1.2.2.2.2 _ q1380) (cS_pub hS (Or.inl q1367)) (by decide) (cS_decl hS (Or.inl q1368)) (hrv H hW) pd2 hd
end
section
variable {p : Program} {l : Launch} {e : Env} {R : Room} {s : State} {m : MethodId} {args : Array Value} {below : List Frame} {meth : Method} {c : Code}
variable {G : cG} {d : DS} {KK : State → Prop}
variable {NX : Nat} {Q : State → Prop} {nL : Nat} {cc : ByteArray} {fr lo frc loc : Nat} {ret : Option FieldType}
variable {pc : Nat} {σ : SS} {lv : List (Nat × Value)} {st : List Value} {ρ : Type} {res : ρ}
theorem kc_X10_4_ran (hk : jk p R s m args meth c NX cc nL RX10 fr lo ret) (hH : cH G KK) (hK : KK s) {a0 : Int32} {F : Option SS} {K : SS → Option ρ} (hM : ∀ r, F = some r → jM l yX4_ran (ws_ yX4_ran cX4_ran 2 none) frc loc [.ref (ha G 6), .int a0] (cWo G d) (cnx d) KK σ (jV r) (hA G) d.2)  (hd : decode cc pc = .ok (.invokevirtual 15, 3)) (hr : frc + 1 ≤ fr ∧ 8 + (2 + 11) + loc ≤ lo) (hw : (st.map fun v => v.category).sum ≤ 8) (kk : ∀ r, jj p l e R s m args below meth c (hA G) NX Q (cWo G d) (cnx d) nL r (pc + 3) lv st (K r = some res)) : jj p l e R s m args below meth c (hA G) NX Q (cWo G d) (cnx d) nL σ pc lv (.int a0 :: .ref (ha G 6) :: st) (F.bind K = some res) :=
  jc_VV (n := 1) hk hH hK [.int a0] hM (lw_V q1421 q1376 q1377 q125 q1378) (cRv_at (q := (RX4, TX4, 2)) (ci := 3) (q0 := 6) hH hK rfl rfl) (by decide +kernel) rfl rfl hd hr hw kk
end
section
variable {p : Program} {l : Launch} {e : Env} {R : Room} {s : State} {m : MethodId} {args : Array Value} {below : List Frame} {meth : Method} {c : Code}
variable {G : cG} {KK : State → Prop}
set_option maxHeartbeats 4000000 in
theorem cc_y10_gives (l : Launch) (hlt : l.stackTraces = false) {G : cG} {KK : State → Prop} (hH : cH G KK)  (σ : SS) (d : DS) (q0 : Nat) (a0 : Int32) (res : (XR (Int32 × SS × DS))) (hf : y10_gives σ d q0 a0 = some res) : jMY l yX10_gives (ws_ yX10_gives cX10_gives 3 (some .int)) 11 10442 [.ref q0, .int a0, .ref (ha G 6)] G KK (σ, d) xnA (jUa (fun x : Int32 => .int x)) res := by
  refine jy_start [(0, .ref q0), (1, .int a0), (2, .ref (ha G 6))] (by decide) (Nat.le_of_ble_eq_true rfl) rfl (fun p e R s m args below meth c hk hK hWo ht => ?_) hf
  have hk : jk p R s m args meth c (ynx xnA res) cX10_gives 3 RX10 11 10442 (some .int) := hk
  have h0 : hX G s.heap := hWo.2.2
  unfold y10_gives
  refine jj_aload_n hk (pc := 0) dX10_gives_0 2 rfl rfl ?_
  refine jj_bipush hk (pc := 1) (v := (50 : Int32)) dX10_gives_1 (by decide) ?_
  refine kc_X10_4_ran hk hH hK (pc := 3) (a0 := (50 : Int32)) (fun r h => cc_f4_ran l hH d σ (50 : Int32) r h) dX10_gives_3 ⟨Nat.le_of_ble_eq_true rfl, Nat.le_of_ble_eq_true rfl⟩ (Nat.le_of_ble_eq_true rfl) (fun σ1 => ?_)
  refine jj_aload_n hk (pc := 6) dX10_gives_6 0 rfl rfl ?_
  refine jj_iload_n hk (pc := 7) dX10_gives_7 1 rfl rfl ?_
  refine jj_aload_n hk (pc := 8) dX10_gives_8 2 rfl rfl ?_
  refine kz_Twin_21 hk hH hK ht h0 hlt (pc := 9) (q := q0) (a0 := a0) dX10_gives_9 ⟨Nat.le_of_ble_eq_true rfl, Nat.le_of_ble_eq_true rfl⟩ (Nat.le_of_ble_eq_true rfl) (fun r2 => ?_)
  refine jj_iconst hk (pc := 12) (v := (3 : Int32)) dX10_gives_12 (by decide) ?_
  refine jj_imul hk (pc := 13) dX10_gives_13 ?_
  exact jy_retUi hk (pc := 14) dX10_gives_14
end
section
variable {p : Program} {l : Launch} {e : Env} {R : Room} {s : State} {m : MethodId} {args : Array Value} {below : List Frame} {meth : Method} {c : Code}
variable {G : cG} {d : DS} {KK : State → Prop}
variable {NX : Nat} {nL : Nat} {cc : ByteArray} {fr lo frc loc : Nat} {ret : Option FieldType}
variable {pc : Nat} {σ : SS} {lv : List (Nat × Value)} {st : List Value} {τ : Type} {nf : τ → Nat} {Ψ : τ → Outcome → SS × DS → Prop} {res : XR τ}
set_option maxHeartbeats 2000000 in
theorem kz_Takes_7 (hk : jk p R s m args meth c (ynx nf res) cc nL RX22 fr lo ret) (hH : cH G KK) (hK : KK s) (ht : ∀ x ∈ c.exceptionTable.toList, False) (h0 : hX G s.heap) (hlt : l.stackTraces = false) {q : Nat} {a0 : Int32} {K : (Int32 × SS × DS) → Option (XR τ)} (hd : decode cc pc = .ok (.invokeinterface 7 3, 5)) (hr : 11 + 1 ≤ fr ∧ 8 + (3 + 11) + 10442 ≤ lo) (hw : (st.map fun v => v.category).sum ≤ 8) (kk : ∀ r : Int32 × SS × DS, jj p l e R s m args below meth c (hA G) (ynx nf res) (jZY below args s G nf Ψ res) (cWo G r.2.2) (cnx r.2.2) nL r.2.1 (pc + 5) lv (.int r.1 :: st) (K r = some res)) : jj p l e R s m args below meth c (hA G) (ynx nf res) (jZY below args s G nf Ψ res) (cWo G d) (cnx d) nL σ pc lv (.ref (ha G 6) :: .int a0 :: .ref q :: st) (yb xnA d (yGives σ d q a0) K = some res) := by
  intro hz
  have hS : cS0 s := (hH.2.2.2.2.2 s hK).2.2.2.2
  cases hc : dci d q with
  | none => rw [show yGives σ d q a0 = none by unfold yGives; rw [hc]; rfl] at hz; cases hz
  | some ci =>
    obtain ⟨fs, he⟩ := dci_spec hc
    by_cases h7 : ci = 7
    · subst h7
      rw [show yGives σ d q a0 = y8_gives σ d q a0 by unfold yGives; rw [hc]; rfl] at hz
      refine jy_E (y := ⟨"LeftUndoes$Clasped", "gives", "(ILLeftUndoes$Trace;)I"⟩) (frc := 11) (loc := 10442) (F := y8_gives σ d q a0) [.int a0, .ref (ha G 6)] hk hH hK ht q1374 q129 (fun r h => cc_y8_gives l hlt hH σ d q a0 r h) (fun H hW ls => ?_) rfl hd (by omega) hw kk hz
      obtain ⟨mk, hsel⟩ := ySel_s (C := "LeftUndoes$Clasped") (J := "LeftUndoes$Gives") (nm := "gives") (ds := "(ILLeftUndoes$Trace;)I") (y := ⟨"LeftUndoes$Clasped", "gives", "(ILLeftUndoes$Trace;)I"⟩) (A := args) (by decide) (cS_decl hS (Or.inl q1368)) (hk.1.2.2.2.2 _ q1370) (hk.1.2.2.2.2 _ q1372) (cS_pub hS (Or.inl q1373)) (cS_unh hS (Or.inl q1371))
      exact ⟨mk, (by obtain ⟨_, _, _, _, _, _, _, _, _, _, h, _⟩ := hsel; exact h), yE_iface (J := "LeftUndoes$Gives") (xi := ⟨"LeftUndoes$Takes", "gives", "(ILLeftUndoes$Trace;)I"⟩) (As := [.int a0, .ref (ha G 6)]) hk.1.1 hk.1.2.1 hk.1.2.2.2.1 (cS_good hS (Or.inr (by decide +kernel)) rfl rfl) (cS_face hS (Or.inr (by decide +kernel))) (cS_decl hS (Or.inl q1368)) (cS_pub hS (Or.inl q1367)) hsel (cS_cast hS (Or.inl q1430)) (by decide) (cRv_D (q := (RX8, TX8, 2)) hH hK (ci := 7) rfl he H hW) pd2 hd⟩
    by_cases h8 : ci = 8
    · subst h8
      rw [show yGives σ d q a0 = y21_gives σ d q a0 by unfold yGives; rw [hc]; rfl] at hz
      refine jy_E (y := ⟨"LeftUndoes$Gives", "gives", "(ILLeftUndoes$Trace;)I"⟩) (frc := 10) (loc := 10420) (F := y21_gives σ d q a0) [.int a0, .ref (ha G 6)] hk hH hK ht q1381 q2236 (fun r h => cc_y21_gives l hlt hH σ d q a0 r h) (fun H hW ls => ?_) rfl hd (by omega) hw kk hz
      obtain ⟨mk, hsel⟩ := ySel_d (C := "LeftUndoes$Forger") (J := "LeftUndoes$Gives") (nm := "gives") (ds := "(ILLeftUndoes$Trace;)I") (y := ⟨"LeftUndoes$Gives", "gives", "(ILLeftUndoes$Trace;)I"⟩) (A := args) (by decide) (cS_decl hS (Or.inl q1368)) (cS_lands hS (Or.inr (by decide +kernel))) (hk.1.2.2.2.2 _ q1380) (cS_pub hS (Or.inl q1367))
      exact ⟨mk, (by obtain ⟨_, _, _, _, _, _, _, _, _, _, h, _⟩ := hsel; exact h), yE_iface (J := "LeftUndoes$Gives") (xi := ⟨"LeftUndoes$Takes", "gives", "(ILLeftUndoes$Trace;)I"⟩) (As := [.int a0, .ref (ha G 6)]) hk.1.1 hk.1.2.1 hk.1.2.2.2.1 (cS_good hS (Or.inr (by decide +kernel)) rfl rfl) (cS_face hS (Or.inr (by decide +kernel))) (cS_decl hS (Or.inl q1368)) (cS_pub hS (Or.inl q1367)) hsel (cS_cast hS (Or.inl q1431)) (by decide) (cRv_D (q := (RX9, TX9, 2)) hH hK (ci := 8) rfl he H hW) pd2 hd⟩
    by_cases h9 : ci = 9
    · subst h9
      rw [show yGives σ d q a0 = y10_gives σ d q a0 by unfold yGives; rw [hc]; rfl] at hz
      refine jy_E (y := ⟨"LeftUndoes$Twin", "gives", "(ILLeftUndoes$Trace;)I"⟩) (frc := 11) (loc := 10442) (F := y10_gives σ d q a0) [.int a0, .ref (ha G 6)] hk hH hK ht q1420 q131 (fun r h => cc_y10_gives l hlt hH σ d q a0 r h) (fun H hW ls => ?_) rfl hd (by omega) hw kk hz
      obtain ⟨mk, hsel⟩ := ySel_s (C := "LeftUndoes$Twin") (J := "LeftUndoes$Gives") (nm := "gives") (ds := "(ILLeftUndoes$Trace;)I") (y := ⟨"LeftUndoes$Twin", "gives", "(ILLeftUndoes$Trace;)I"⟩) (A := args) (by decide) (cS_decl hS (Or.inl q1368)) (hk.1.2.2.2.2 _ q1416) (hk.1.2.2.2.2 _ q1418) (cS_pub hS (Or.inl q1419)) (cS_unh hS (Or.inl q1417))
      exact ⟨mk, (by obtain ⟨_, _, _, _, _, _, _, _, _, _, h, _⟩ := hsel; exact h), yE_iface (J := "LeftUndoes$Gives") (xi := ⟨"LeftUndoes$Takes", "gives", "(ILLeftUndoes$Trace;)I"⟩) (As := [.int a0, .ref (ha G 6)]) hk.1.1 hk.1.2.1 hk.1.2.2.2.1 (cS_good hS (Or.inr (by decide +kernel)) rfl rfl) (cS_face hS (Or.inr (by decide +kernel))) (cS_decl hS (Or.inl q1368)) (cS_pub hS (Or.inl q1367)) hsel (cS_cast hS (Or.inl q1434)) (by decide) (cRv_D (q := (RX10, TX10, 2)) hH hK (ci := 9) rfl he H hW) pd2 hd⟩
    by_cases h10 : ci = 10
    · subst h10
      rw [show yGives σ d q a0 = y21_gives σ d q a0 by unfold yGives; rw [hc]; rfl] at hz
      refine jy_E (y := ⟨"LeftUndoes$Gives", "gives", "(ILLeftUndoes$Trace;)I"⟩) (frc := 10) (loc := 10420) (F := y21_gives σ d q a0) [.int a0, .ref (ha G 6)] hk hH hK ht q1381 q2236 (fun r h => cc_y21_gives l hlt hH σ d q a0 r h) (fun H hW ls => ?_) rfl hd (by omega) hw kk hz
      obtain ⟨mk, hsel⟩ := ySel_d (C := "LeftUndoes$Slow") (J := "LeftUndoes$Gives") (nm := "gives") (ds := "(ILLeftUndoes$Trace;)I") (y := ⟨"LeftUndoes$Gives", "gives", "(ILLeftUndoes$Trace;)I"⟩) (A := args) (by decide) (cS_decl hS (Or.inl q1368)) (cS_lands hS (Or.inr (by decide +kernel))) (hk.1.2.2.2.2 _ q1380) (cS_pub hS (Or.inl q1367))
      exact ⟨mk, (by obtain ⟨_, _, _, _, _, _, _, _, _, _, h, _⟩ := hsel; exact h), yE_iface (J := "LeftUndoes$Gives") (xi := ⟨"LeftUndoes$Takes", "gives", "(ILLeftUndoes$Trace;)I"⟩) (As := [.int a0, .ref (ha G 6)]) hk.1.1 hk.1.2.1 hk.1.2.2.2.1 (cS_good hS (Or.inr (by decide +kernel)) rfl rfl) (cS_face hS (Or.inr (by decide +kernel))) (cS_decl hS (Or.inl q1368)) (cS_pub hS (Or.inl q1367)) hsel (cS_cast hS (Or.inl q1433)) (by decide) (cRv_D (q := (RX11, TX11, 2)) hH hK (ci := 10) rfl he H hW) pd2 hd⟩
    by_cases h11 : ci = 11
    · subst h11
      rw [show yGives σ d q a0 = y21_gives σ d q a0 by unfold yGives; rw [hc]; rfl] at hz
      refine jy_E (y := ⟨"LeftUndoes$Gives", "gives", "(ILLeftUndoes$Trace;)I"⟩) (frc := 10) (loc := 10420) (F := y21_gives σ d q a0) [.int a0, .ref (ha G 6)] hk hH hK ht q1381 q2236 (fun r h => cc_y21_gives l hlt hH σ d q a0 r h) (fun H hW ls => ?_) rfl hd (by omega) hw kk hz
      obtain ⟨mk, hsel⟩ := ySel_d (C := "LeftUndoes$Heir") (J := "LeftUndoes$Gives") (nm := "gives") (ds := "(ILLeftUndoes$Trace;)I") (y := ⟨"LeftUndoes$Gives", "gives", "(ILLeftUndoes$Trace;)I"⟩) (A := args) (by decide) (cS_decl hS (Or.inl q1368)) (cS_lands hS (Or.inr (by decide +kernel))) (hk.1.2.2.2.2 _ q1380) (cS_pub hS (Or.inl q1367))
      exact ⟨mk, (by obtain ⟨_, _, _, _, _, _, _, _, _, _, h, _⟩ := hsel; exact h), yE_iface (J := "LeftUndoes$Gives") (xi := ⟨"LeftUndoes$Takes", "gives", "(ILLeftUndoes$Trace;)I"⟩) (As := [.int a0, .ref (ha G 6)]) hk.1.1 hk.1.2.1 hk.1.2.2.2.1 (cS_good hS (Or.inr (by decide +kernel)) rfl rfl) (cS_face hS (Or.inr (by decide +kernel))) (cS_decl hS (Or.inl q1368)) (cS_pub hS (Or.inl q1367)) hsel (cS_cast hS (Or.inl q1432)) (by decide) (cRv_D (q := (RX12, TX12, 2)) hH hK (ci := 11) rfl he H hW) pd2 hd⟩
    rw [show yGives σ d q a0 = none by unfold yGives; rw [hc]; simp only [Option.bind_some]; rw [if_neg h7, if_neg h8, if_neg h9, if_neg h10, if_neg h11]] at hz; cases hz
end
section
variable {p : Program} {l : Launch} {e : Env} {R : Room} {s : State} {m : MethodId} {args : Array Value} {below : List Frame} {meth : Method} {c : Code}
variable {G : cG} {d : DS} {KK : State → Prop}
variable {NX : Nat} {Q : State → Prop} {nL : Nat} {cc : ByteArray} {fr lo frc loc : Nat} {ret : Option FieldType}
variable {pc : Nat} {σ : SS} {lv : List (Nat × Value)} {st : List Value} {ρ : Type} {res : ρ}
theorem kc_X22_4_ran (hk : jk p R s m args meth c NX cc nL RX22 fr lo ret) (hH : cH G KK) (hK : KK s) {a0 : Int32} {F : Option SS} {K : SS → Option ρ} (hM : ∀ r, F = some r → jM l yX4_ran (ws_ yX4_ran cX4_ran 2 none) frc loc [.ref (ha G 6), .int a0] (cWo G d) (cnx d) KK σ (jV r) (hA G) d.2)  (hd : decode cc pc = .ok (.invokevirtual 1, 3)) (hr : frc + 1 ≤ fr ∧ 8 + (2 + 11) + loc ≤ lo) (hw : (st.map fun v => v.category).sum ≤ 8) (kk : ∀ r, jj p l e R s m args below meth c (hA G) NX Q (cWo G d) (cnx d) nL r (pc + 3) lv st (K r = some res)) : jj p l e R s m args below meth c (hA G) NX Q (cWo G d) (cnx d) nL σ pc lv (.int a0 :: .ref (ha G 6) :: st) (F.bind K = some res) :=
  jc_VV (n := 1) hk hH hK [.int a0] hM (lw_V q1428 q1376 q1377 q125 q1378) (cRv_at (q := (RX4, TX4, 2)) (ci := 3) (q0 := 6) hH hK rfl rfl) (by decide +kernel) rfl rfl hd hr hw kk
end
section
variable {p : Program} {l : Launch} {e : Env} {R : Room} {s : State} {m : MethodId} {args : Array Value} {below : List Frame} {meth : Method} {c : Code}
variable {G : cG} {KK : State → Prop}
set_option maxHeartbeats 4000000 in
theorem cc_y22_takes (l : Launch) (hlt : l.stackTraces = false) {G : cG} {KK : State → Prop} (hH : cH G KK)  (σ : SS) (d : DS) (q0 : Nat) (a0 : Int32) (res : (XR (Int32 × SS × DS))) (hf : y22_takes σ d q0 a0 = some res) : jMY l yX22_takes (ws_ yX22_takes cX22_takes 3 (some .int)) 12 10464 [.ref q0, .int a0, .ref (ha G 6)] G KK (σ, d) xnA (jUa (fun x : Int32 => .int x)) res := by
  refine jy_start [(0, .ref q0), (1, .int a0), (2, .ref (ha G 6))] (by decide) (Nat.le_of_ble_eq_true rfl) rfl (fun p e R s m args below meth c hk hK hWo ht => ?_) hf
  have hk : jk p R s m args meth c (ynx xnA res) cX22_takes 3 RX22 12 10464 (some .int) := hk
  have h0 : hX G s.heap := hWo.2.2
  unfold y22_takes
  refine jj_aload_n hk (pc := 0) dX22_takes_0 2 rfl rfl ?_
  refine jj_bipush hk (pc := 1) (v := (11 : Int32)) dX22_takes_1 (by decide) ?_
  refine kc_X22_4_ran hk hH hK (pc := 3) (a0 := (11 : Int32)) (fun r h => cc_f4_ran l hH d σ (11 : Int32) r h) dX22_takes_3 ⟨Nat.le_of_ble_eq_true rfl, Nat.le_of_ble_eq_true rfl⟩ (Nat.le_of_ble_eq_true rfl) (fun σ1 => ?_)
  refine jj_aload_n hk (pc := 6) dX22_takes_6 0 rfl rfl ?_
  refine jj_iload_n hk (pc := 7) dX22_takes_7 1 rfl rfl ?_
  refine jj_aload_n hk (pc := 8) dX22_takes_8 2 rfl rfl ?_
  refine kz_Takes_7 hk hH hK ht h0 hlt (pc := 9) (q := q0) (a0 := a0) dX22_takes_9 ⟨Nat.le_of_ble_eq_true rfl, Nat.le_of_ble_eq_true rfl⟩ (Nat.le_of_ble_eq_true rfl) (fun r2 => ?_)
  refine jj_iconst hk (pc := 14) (v := (2 : Int32)) dX22_takes_14 (by decide) ?_
  refine jj_imul hk (pc := 15) dX22_takes_15 ?_
  exact jy_retUi hk (pc := 16) dX22_takes_16
end
section
variable {p : Program} {l : Launch} {e : Env} {R : Room} {s : State} {m : MethodId} {args : Array Value} {below : List Frame} {meth : Method} {c : Code}
variable {G : cG} {d : DS} {KK : State → Prop}
variable {NX : Nat} {nL : Nat} {cc : ByteArray} {fr lo frc loc : Nat} {ret : Option FieldType}
variable {pc : Nat} {σ : SS} {lv : List (Nat × Value)} {st : List Value} {τ : Type} {nf : τ → Nat} {Ψ : τ → Outcome → SS × DS → Prop} {res : XR τ}
set_option maxHeartbeats 2000000 in
theorem kz_Forger_17 (hk : jk p R s m args meth c (ynx nf res) cc nL RX9 fr lo ret) (hH : cH G KK) (hK : KK s) (ht : ∀ x ∈ c.exceptionTable.toList, False) (h0 : hX G s.heap) (hlt : l.stackTraces = false) {q : Nat} {a0 : Int32} {K : (Int32 × SS × DS) → Option (XR τ)} (hd : decode cc pc = .ok (.invokespecial 17, 3)) (hr : 12 + 1 ≤ fr ∧ 8 + (3 + 11) + 10464 ≤ lo) (hw : (st.map fun v => v.category).sum ≤ 8) (kk : ∀ r : Int32 × SS × DS, jj p l e R s m args below meth c (hA G) (ynx nf res) (jZY below args s G nf Ψ res) (cWo G r.2.2) (cnx r.2.2) nL r.2.1 (pc + 3) lv (.int r.1 :: st) (K r = some res)) : jj p l e R s m args below meth c (hA G) (ynx nf res) (jZY below args s G nf Ψ res) (cWo G d) (cnx d) nL σ pc lv (.ref (ha G 6) :: .int a0 :: .ref q :: st) (yb xnA d ((dHd d q).bind fun _ => y22_takes σ d q a0) K = some res) := by
  intro hz
  have hS : cS0 s := (hH.2.2.2.2.2 s hK).2.2.2.2
  cases hc : dHd d q with
  | none => rw [hc] at hz; cases hz
  | some u =>
    obtain ⟨C, hrv⟩ := dHd_rv (σ := σ) hH hK hc
    rw [hc] at hz
    have hz : yb xnA d (y22_takes σ d q a0) K = some res := hz
    refine jy_E (y := ⟨"LeftUndoes$Takes", "takes", "(ILLeftUndoes$Trace;)I"⟩) (frc := 12) (loc := 10464) (F := y22_takes σ d q a0) [.int a0, .ref (ha G 6)] hk hH hK ht q1427 q2237 (fun r h => cc_y22_takes l hlt hH σ d q a0 r h) (fun H hW ls => ?_) rfl hd (by omega) hw kk hz
    exact yE_specD (owner := "LeftUndoes$Takes") (x := ⟨"LeftUndoes$Hand", "takes", "(ILLeftUndoes$Trace;)I"⟩) (As := [.int a0, .ref (ha G 6)]) hk.1.1 hk.1.2.1 hk.1.2.2.2.1 (cS_good hS (Or.inr (by decide +kernel)) rfl rfl) (cS_good hS (Or.inr (by decide +kernel)) rfl rfl) (hk.1.2.2.2.2 _ q546) (cS_lands hS (Or.inr (by decide +kernel))) (hk.1.2.2.2.2 _ q1426) (cS_pub hS (Or.inl q1423)) (by decide) (cS_decl hS (Or.inl q1424)) (hrv H hW) pd2 hd
end
section
variable {p : Program} {l : Launch} {e : Env} {R : Room} {s : State} {m : MethodId} {args : Array Value} {below : List Frame} {meth : Method} {c : Code}
variable {G : cG} {d : DS} {KK : State → Prop}
variable {NX : Nat} {Q : State → Prop} {nL : Nat} {cc : ByteArray} {fr lo frc loc : Nat} {ret : Option FieldType}
variable {pc : Nat} {σ : SS} {lv : List (Nat × Value)} {st : List Value} {ρ : Type} {res : ρ}
theorem kc_X9_4_ran (hk : jk p R s m args meth c NX cc nL RX9 fr lo ret) (hH : cH G KK) (hK : KK s) {a0 : Int32} {F : Option SS} {K : SS → Option ρ} (hM : ∀ r, F = some r → jM l yX4_ran (ws_ yX4_ran cX4_ran 2 none) frc loc [.ref (ha G 6), .int a0] (cWo G d) (cnx d) KK σ (jV r) (hA G) d.2)  (hd : decode cc pc = .ok (.invokevirtual 11, 3)) (hr : frc + 1 ≤ fr ∧ 8 + (2 + 11) + loc ≤ lo) (hw : (st.map fun v => v.category).sum ≤ 8) (kk : ∀ r, jj p l e R s m args below meth c (hA G) NX Q (cWo G d) (cnx d) nL r (pc + 3) lv st (K r = some res)) : jj p l e R s m args below meth c (hA G) NX Q (cWo G d) (cnx d) nL σ pc lv (.int a0 :: .ref (ha G 6) :: st) (F.bind K = some res) :=
  jc_VV (n := 1) hk hH hK [.int a0] hM (lw_V q1440 q1376 q1377 q125 q1378) (cRv_at (q := (RX4, TX4, 2)) (ci := 3) (q0 := 6) hH hK rfl rfl) (by decide +kernel) rfl rfl hd hr hw kk
end
section
variable {p : Program} {l : Launch} {e : Env} {R : Room} {s : State} {m : MethodId} {args : Array Value} {below : List Frame} {meth : Method} {c : Code}
variable {G : cG} {KK : State → Prop}
set_option maxHeartbeats 4000000 in
theorem cc_y9_takes (l : Launch) (hlt : l.stackTraces = false) {G : cG} {KK : State → Prop} (hH : cH G KK)  (σ : SS) (d : DS) (q0 : Nat) (a0 : Int32) (res : (XR (Int32 × SS × DS))) (hf : y9_takes σ d q0 a0 = some res) : jMY l yX9_takes (ws_ yX9_takes cX9_takes 3 (some .int)) 13 10486 [.ref q0, .int a0, .ref (ha G 6)] G KK (σ, d) xnA (jUa (fun x : Int32 => .int x)) res := by
  refine jy_start [(0, .ref q0), (1, .int a0), (2, .ref (ha G 6))] (by decide) (Nat.le_of_ble_eq_true rfl) rfl (fun p e R s m args below meth c hk hK hWo ht => ?_) hf
  have hk : jk p R s m args meth c (ynx xnA res) cX9_takes 3 RX9 13 10486 (some .int) := hk
  have h0 : hX G s.heap := hWo.2.2
  unfold y9_takes
  refine jj_aload_n hk (pc := 0) dX9_takes_0 2 rfl rfl ?_
  refine jj_bipush hk (pc := 1) (v := (30 : Int32)) dX9_takes_1 (by decide) ?_
  refine kc_X9_4_ran hk hH hK (pc := 3) (a0 := (30 : Int32)) (fun r h => cc_f4_ran l hH d σ (30 : Int32) r h) dX9_takes_3 ⟨Nat.le_of_ble_eq_true rfl, Nat.le_of_ble_eq_true rfl⟩ (Nat.le_of_ble_eq_true rfl) (fun σ1 => ?_)
  refine jj_iconst hk (pc := 6) (v := (0 : Int32)) dX9_takes_6 (by decide) ?_
  refine jj_aload_n hk (pc := 7) dX9_takes_7 0 rfl rfl ?_
  refine jj_iload_n hk (pc := 8) dX9_takes_8 1 rfl rfl ?_
  refine jj_aload_n hk (pc := 9) dX9_takes_9 2 rfl rfl ?_
  refine kz_Forger_17 hk hH hK ht h0 hlt (pc := 10) (q := q0) (a0 := a0) dX9_takes_10 ⟨Nat.le_of_ble_eq_true rfl, Nat.le_of_ble_eq_true rfl⟩ (Nat.le_of_ble_eq_true rfl) (fun r2 => ?_)
  refine jj_isub hk (pc := 13) dX9_takes_13 ?_
  exact jy_retUi hk (pc := 14) dX9_takes_14
end
section
variable {p : Program} {l : Launch} {e : Env} {R : Room} {s : State} {m : MethodId} {args : Array Value} {below : List Frame} {meth : Method} {c : Code}
variable {G : cG} {d : DS} {KK : State → Prop}
variable {NX : Nat} {nL : Nat} {cc : ByteArray} {fr lo frc loc : Nat} {ret : Option FieldType}
variable {pc : Nat} {σ : SS} {lv : List (Nat × Value)} {st : List Value} {τ : Type} {nf : τ → Nat} {Ψ : τ → Outcome → SS × DS → Prop} {res : XR τ}
set_option maxHeartbeats 2000000 in
theorem kz_Heir_21 (hk : jk p R s m args meth c (ynx nf res) cc nL RX12 fr lo ret) (hH : cH G KK) (hK : KK s) (ht : ∀ x ∈ c.exceptionTable.toList, False) (h0 : hX G s.heap) (hlt : l.stackTraces = false) {q : Nat} {a0 : Int32} {K : (Int32 × SS × DS) → Option (XR τ)} (hd : decode cc pc = .ok (.invokespecial 21, 3)) (hr : 12 + 1 ≤ fr ∧ 8 + (3 + 11) + 10464 ≤ lo) (hw : (st.map fun v => v.category).sum ≤ 8) (kk : ∀ r : Int32 × SS × DS, jj p l e R s m args below meth c (hA G) (ynx nf res) (jZY below args s G nf Ψ res) (cWo G r.2.2) (cnx r.2.2) nL r.2.1 (pc + 3) lv (.int r.1 :: st) (K r = some res)) : jj p l e R s m args below meth c (hA G) (ynx nf res) (jZY below args s G nf Ψ res) (cWo G d) (cnx d) nL σ pc lv (.ref (ha G 6) :: .int a0 :: .ref q :: st) (yb xnA d ((dHd d q).bind fun _ => y22_takes σ d q a0) K = some res) := by
  intro hz
  have hS : cS0 s := (hH.2.2.2.2.2 s hK).2.2.2.2
  cases hc : dHd d q with
  | none => rw [hc] at hz; cases hz
  | some u =>
    obtain ⟨C, hrv⟩ := dHd_rv (σ := σ) hH hK hc
    rw [hc] at hz
    have hz : yb xnA d (y22_takes σ d q a0) K = some res := hz
    refine jy_E (y := ⟨"LeftUndoes$Takes", "takes", "(ILLeftUndoes$Trace;)I"⟩) (frc := 12) (loc := 10464) (F := y22_takes σ d q a0) [.int a0, .ref (ha G 6)] hk hH hK ht q1427 q2237 (fun r h => cc_y22_takes l hlt hH σ d q a0 r h) (fun H hW ls => ?_) rfl hd (by omega) hw kk hz
    exact yE_specD (owner := "LeftUndoes$Takes") (x := ⟨"LeftUndoes$Slow", "takes", "(ILLeftUndoes$Trace;)I"⟩) (As := [.int a0, .ref (ha G 6)]) hk.1.1 hk.1.2.1 hk.1.2.2.2.1 (cS_good hS (Or.inr (by decide +kernel)) rfl rfl) (cS_good hS (Or.inr (by decide +kernel)) rfl rfl) (hk.1.2.2.2.2 _ q573) (cS_lands hS (Or.inr (by decide +kernel))) (hk.1.2.2.2.2 _ q1426) (cS_pub hS (Or.inl q1423)) (by decide) (cS_decl hS (Or.inl q1424)) (hrv H hW) pd2 hd
end
section
variable {p : Program} {l : Launch} {e : Env} {R : Room} {s : State} {m : MethodId} {args : Array Value} {below : List Frame} {meth : Method} {c : Code}
variable {G : cG} {d : DS} {KK : State → Prop}
variable {NX : Nat} {nL : Nat} {cc : ByteArray} {fr lo frc loc : Nat} {ret : Option FieldType}
variable {pc : Nat} {σ : SS} {lv : List (Nat × Value)} {st : List Value} {τ : Type} {nf : τ → Nat} {Ψ : τ → Outcome → SS × DS → Prop} {res : XR τ}
set_option maxHeartbeats 2000000 in
theorem kz_Heir_25 (hk : jk p R s m args meth c (ynx nf res) cc nL RX12 fr lo ret) (hH : cH G KK) (hK : KK s) (ht : ∀ x ∈ c.exceptionTable.toList, False) (h0 : hX G s.heap) (hlt : l.stackTraces = false) {q : Nat} {K : (Int32 × SS × DS) → Option (XR τ)} (hd : decode cc pc = .ok (.invokevirtual 25, 3)) (hr : 9 + 1 ≤ fr ∧ 8 + (1 + 11) + 10400 ≤ lo) (hw : (st.map fun v => v.category).sum ≤ 8) (kk : ∀ r : Int32 × SS × DS, jj p l e R s m args below meth c (hA G) (ynx nf res) (jZY below args s G nf Ψ res) (cWo G r.2.2) (cnx r.2.2) nL r.2.1 (pc + 3) lv (.int r.1 :: st) (K r = some res)) : jj p l e R s m args below meth c (hA G) (ynx nf res) (jZY below args s G nf Ψ res) (cWo G d) (cnx d) nL σ pc lv (.ref q :: st) (yb xnA d ((dcl d 11 q).bind fun _ => y7_grace σ d q) K = some res) := by
  intro hz
  have hS : cS0 s := (hH.2.2.2.2.2 s hK).2.2.2.2
  cases hc : dcl d 11 q with
  | none => rw [hc] at hz; cases hz
  | some u =>
    obtain ⟨fs, he⟩ := dcl_spec hc
    rw [hc] at hz
    have hz : yb xnA d (y7_grace σ d q) K = some res := hz
    refine jy_E (y := ⟨"LeftUndoes$Hand", "grace", "()I"⟩) (frc := 9) (loc := 10400) (F := y7_grace σ d q) [] hk hH hK ht q1392 q128 (fun r h => cc_y7_grace l hlt hH σ d q r h) (fun H hW ls => ?_) rfl hd (by omega) hw kk hz
    exact yE_virtU (x := ⟨"LeftUndoes$Heir", "grace", "()I"⟩) (y := ⟨"LeftUndoes$Hand", "grace", "()I"⟩) (C := "LeftUndoes$Heir") (As := []) hk.1.1 hk.1.2.1 hk.1.2.2.2.1 (hk.1.2.2.2.2 _ q1447) (hk.1.2.2.2.2 _ q1448) rfl (cS_decl hS (Or.inl q1449)) (by decide) (hk.1.2.2.2.2 _ q1450) (hk.1.2.2.2.2 _ q1390) (cRv_D (q := (RX12, TX12, 2)) hH hK (ci := 11) rfl he H hW) pd0 hd
end
section
variable {p : Program} {l : Launch} {e : Env} {R : Room} {s : State} {m : MethodId} {args : Array Value} {below : List Frame} {meth : Method} {c : Code}
variable {G : cG} {d : DS} {KK : State → Prop}
variable {NX : Nat} {Q : State → Prop} {nL : Nat} {cc : ByteArray} {fr lo frc loc : Nat} {ret : Option FieldType}
variable {pc : Nat} {σ : SS} {lv : List (Nat × Value)} {st : List Value} {ρ : Type} {res : ρ}
theorem kc_X12_4_ran (hk : jk p R s m args meth c NX cc nL RX12 fr lo ret) (hH : cH G KK) (hK : KK s) {a0 : Int32} {F : Option SS} {K : SS → Option ρ} (hM : ∀ r, F = some r → jM l yX4_ran (ws_ yX4_ran cX4_ran 2 none) frc loc [.ref (ha G 6), .int a0] (cWo G d) (cnx d) KK σ (jV r) (hA G) d.2)  (hd : decode cc pc = .ok (.invokevirtual 15, 3)) (hr : frc + 1 ≤ fr ∧ 8 + (2 + 11) + loc ≤ lo) (hw : (st.map fun v => v.category).sum ≤ 8) (kk : ∀ r, jj p l e R s m args below meth c (hA G) NX Q (cWo G d) (cnx d) nL r (pc + 3) lv st (K r = some res)) : jj p l e R s m args below meth c (hA G) NX Q (cWo G d) (cnx d) nL σ pc lv (.int a0 :: .ref (ha G 6) :: st) (F.bind K = some res) :=
  jc_VV (n := 1) hk hH hK [.int a0] hM (lw_V q1446 q1376 q1377 q125 q1378) (cRv_at (q := (RX4, TX4, 2)) (ci := 3) (q0 := 6) hH hK rfl rfl) (by decide +kernel) rfl rfl hd hr hw kk
end
section
variable {p : Program} {l : Launch} {e : Env} {R : Room} {s : State} {m : MethodId} {args : Array Value} {below : List Frame} {meth : Method} {c : Code}
variable {G : cG} {KK : State → Prop}
set_option maxHeartbeats 4000000 in
theorem cc_y12_takes (l : Launch) (hlt : l.stackTraces = false) {G : cG} {KK : State → Prop} (hH : cH G KK)  (σ : SS) (d : DS) (q0 : Nat) (a0 : Int32) (res : (XR (Int32 × SS × DS))) (hf : y12_takes σ d q0 a0 = some res) : jMY l yX12_takes (ws_ yX12_takes cX12_takes 3 (some .int)) 13 10486 [.ref q0, .int a0, .ref (ha G 6)] G KK (σ, d) xnA (jUa (fun x : Int32 => .int x)) res := by
  refine jy_start [(0, .ref q0), (1, .int a0), (2, .ref (ha G 6))] (by decide) (Nat.le_of_ble_eq_true rfl) rfl (fun p e R s m args below meth c hk hK hWo ht => ?_) hf
  have hk : jk p R s m args meth c (ynx xnA res) cX12_takes 3 RX12 13 10486 (some .int) := hk
  have h0 : hX G s.heap := hWo.2.2
  unfold y12_takes
  refine jj_aload_n hk (pc := 0) dX12_takes_0 2 rfl rfl ?_
  refine jj_bipush hk (pc := 1) (v := (60 : Int32)) dX12_takes_1 (by decide) ?_
  refine kc_X12_4_ran hk hH hK (pc := 3) (a0 := (60 : Int32)) (fun r h => cc_f4_ran l hH d σ (60 : Int32) r h) dX12_takes_3 ⟨Nat.le_of_ble_eq_true rfl, Nat.le_of_ble_eq_true rfl⟩ (Nat.le_of_ble_eq_true rfl) (fun σ1 => ?_)
  refine jj_aload_n hk (pc := 6) dX12_takes_6 0 rfl rfl ?_
  refine jj_iload_n hk (pc := 7) dX12_takes_7 1 rfl rfl ?_
  refine jj_aload_n hk (pc := 8) dX12_takes_8 2 rfl rfl ?_
  refine kz_Heir_21 hk hH hK ht h0 hlt (pc := 9) (q := q0) (a0 := a0) dX12_takes_9 ⟨Nat.le_of_ble_eq_true rfl, Nat.le_of_ble_eq_true rfl⟩ (Nat.le_of_ble_eq_true rfl) (fun r2 => ?_)
  refine jj_aload_n hk (pc := 12) dX12_takes_12 0 rfl rfl ?_
  refine kz_Heir_25 hk hH hK ht h0 hlt (pc := 13) (q := q0) dX12_takes_13 ⟨Nat.le_of_ble_eq_true rfl, Nat.le_of_ble_eq_true rfl⟩ (Nat.le_of_ble_eq_true rfl) (fun r3 => ?_)
  refine jj_ixor hk (pc := 16) dX12_takes_16 ?_
  exact jy_retUi hk (pc := 17) dX12_takes_17
end
section
variable {p : Program} {l : Launch} {e : Env} {R : Room} {s : State} {m : MethodId} {args : Array Value} {below : List Frame} {meth : Method} {c : Code}
variable {G : cG} {d : DS} {KK : State → Prop}
variable {NX : Nat} {nL : Nat} {cc : ByteArray} {fr lo frc loc : Nat} {ret : Option FieldType}
variable {pc : Nat} {σ : SS} {lv : List (Nat × Value)} {st : List Value} {τ : Type} {nf : τ → Nat} {Ψ : τ → Outcome → SS × DS → Prop} {res : XR τ}
set_option maxHeartbeats 2000000 in
theorem kz_Splits_7 (hk : jk p R s m args meth c (ynx nf res) cc nL RX23 fr lo ret) (hH : cH G KK) (hK : KK s) (ht : ∀ x ∈ c.exceptionTable.toList, False) (h0 : hX G s.heap) (hlt : l.stackTraces = false) {q : Nat} {K : (Int32 × SS × DS) → Option (XR τ)} (hd : decode cc pc = .ok (.invokeinterface 7 1, 5)) (hr : 9 + 1 ≤ fr ∧ 8 + (1 + 11) + 10400 ≤ lo) (hw : (st.map fun v => v.category).sum ≤ 8) (kk : ∀ r : Int32 × SS × DS, jj p l e R s m args below meth c (hA G) (ynx nf res) (jZY below args s G nf Ψ res) (cWo G r.2.2) (cnx r.2.2) nL r.2.1 (pc + 5) lv (.int r.1 :: st) (K r = some res)) : jj p l e R s m args below meth c (hA G) (ynx nf res) (jZY below args s G nf Ψ res) (cWo G d) (cnx d) nL σ pc lv (.ref q :: st) (yb xnA d (yGrace σ d q) K = some res) := by
  intro hz
  have hS : cS0 s := (hH.2.2.2.2.2 s hK).2.2.2.2
  cases hc : dci d q with
  | none => rw [show yGrace σ d q = none by unfold yGrace; rw [hc]; rfl] at hz; cases hz
  | some ci =>
    obtain ⟨fs, he⟩ := dci_spec hc
    by_cases h7 : ci = 7
    · subst h7
      rw [show yGrace σ d q = y7_grace σ d q by unfold yGrace; rw [hc]; rfl] at hz
      refine jy_E (y := ⟨"LeftUndoes$Hand", "grace", "()I"⟩) (frc := 9) (loc := 10400) (F := y7_grace σ d q) [] hk hH hK ht q1392 q128 (fun r h => cc_y7_grace l hlt hH σ d q r h) (fun H hW ls => ?_) rfl hd (by omega) hw kk hz
      obtain ⟨mk, hsel⟩ := ySel_s (C := "LeftUndoes$Clasped") (J := "LeftUndoes$Gives") (nm := "grace") (ds := "()I") (y := ⟨"LeftUndoes$Hand", "grace", "()I"⟩) (A := args) (by decide) (cS_decl hS (Or.inl q1386)) (hk.1.2.2.2.2 _ q1388) (hk.1.2.2.2.2 _ q1390) (cS_pub hS (Or.inl q1391)) (cS_unh hS (Or.inl q1389))
      exact ⟨mk, (by obtain ⟨_, _, _, _, _, _, _, _, _, _, h, _⟩ := hsel; exact h), yE_iface (J := "LeftUndoes$Gives") (xi := ⟨"LeftUndoes$Splits", "grace", "()I"⟩) (As := []) hk.1.1 hk.1.2.1 hk.1.2.2.2.1 (cS_good hS (Or.inr (by decide +kernel)) rfl rfl) (cS_face hS (Or.inr (by decide +kernel))) (cS_decl hS (Or.inl q1386)) (cS_pub hS (Or.inl q1462)) hsel (cS_cast hS (Or.inl q1463)) (by decide) (cRv_D (q := (RX8, TX8, 2)) hH hK (ci := 7) rfl he H hW) pd0 hd⟩
    by_cases h8 : ci = 8
    · subst h8
      rw [show yGrace σ d q = y7_grace σ d q by unfold yGrace; rw [hc]; rfl] at hz
      refine jy_E (y := ⟨"LeftUndoes$Hand", "grace", "()I"⟩) (frc := 9) (loc := 10400) (F := y7_grace σ d q) [] hk hH hK ht q1392 q128 (fun r h => cc_y7_grace l hlt hH σ d q r h) (fun H hW ls => ?_) rfl hd (by omega) hw kk hz
      obtain ⟨mk, hsel⟩ := ySel_s (C := "LeftUndoes$Forger") (J := "LeftUndoes$Gives") (nm := "grace") (ds := "()I") (y := ⟨"LeftUndoes$Hand", "grace", "()I"⟩) (A := args) (by decide) (cS_decl hS (Or.inl q1386)) (hk.1.2.2.2.2 _ q1394) (hk.1.2.2.2.2 _ q1390) (cS_pub hS (Or.inl q1391)) (cS_unh hS (Or.inl q1395))
      exact ⟨mk, (by obtain ⟨_, _, _, _, _, _, _, _, _, _, h, _⟩ := hsel; exact h), yE_iface (J := "LeftUndoes$Gives") (xi := ⟨"LeftUndoes$Splits", "grace", "()I"⟩) (As := []) hk.1.1 hk.1.2.1 hk.1.2.2.2.1 (cS_good hS (Or.inr (by decide +kernel)) rfl rfl) (cS_face hS (Or.inr (by decide +kernel))) (cS_decl hS (Or.inl q1386)) (cS_pub hS (Or.inl q1462)) hsel (cS_cast hS (Or.inl q1464)) (by decide) (cRv_D (q := (RX9, TX9, 2)) hH hK (ci := 8) rfl he H hW) pd0 hd⟩
    by_cases h9 : ci = 9
    · subst h9
      rw [show yGrace σ d q = y7_grace σ d q by unfold yGrace; rw [hc]; rfl] at hz
      refine jy_E (y := ⟨"LeftUndoes$Hand", "grace", "()I"⟩) (frc := 9) (loc := 10400) (F := y7_grace σ d q) [] hk hH hK ht q1392 q128 (fun r h => cc_y7_grace l hlt hH σ d q r h) (fun H hW ls => ?_) rfl hd (by omega) hw kk hz
      obtain ⟨mk, hsel⟩ := ySel_s (C := "LeftUndoes$Twin") (J := "LeftUndoes$Gives") (nm := "grace") (ds := "()I") (y := ⟨"LeftUndoes$Hand", "grace", "()I"⟩) (A := args) (by decide) (cS_decl hS (Or.inl q1386)) (hk.1.2.2.2.2 _ q1403) (hk.1.2.2.2.2 _ q1390) (cS_pub hS (Or.inl q1391)) (cS_unh hS (Or.inl q1404))
      exact ⟨mk, (by obtain ⟨_, _, _, _, _, _, _, _, _, _, h, _⟩ := hsel; exact h), yE_iface (J := "LeftUndoes$Gives") (xi := ⟨"LeftUndoes$Splits", "grace", "()I"⟩) (As := []) hk.1.1 hk.1.2.1 hk.1.2.2.2.1 (cS_good hS (Or.inr (by decide +kernel)) rfl rfl) (cS_face hS (Or.inr (by decide +kernel))) (cS_decl hS (Or.inl q1386)) (cS_pub hS (Or.inl q1462)) hsel (cS_cast hS (Or.inl q1467)) (by decide) (cRv_D (q := (RX10, TX10, 2)) hH hK (ci := 9) rfl he H hW) pd0 hd⟩
    by_cases h10 : ci = 10
    · subst h10
      rw [show yGrace σ d q = y7_grace σ d q by unfold yGrace; rw [hc]; rfl] at hz
      refine jy_E (y := ⟨"LeftUndoes$Hand", "grace", "()I"⟩) (frc := 9) (loc := 10400) (F := y7_grace σ d q) [] hk hH hK ht q1392 q128 (fun r h => cc_y7_grace l hlt hH σ d q r h) (fun H hW ls => ?_) rfl hd (by omega) hw kk hz
      obtain ⟨mk, hsel⟩ := ySel_s (C := "LeftUndoes$Slow") (J := "LeftUndoes$Gives") (nm := "grace") (ds := "()I") (y := ⟨"LeftUndoes$Hand", "grace", "()I"⟩) (A := args) (by decide) (cS_decl hS (Or.inl q1386)) (hk.1.2.2.2.2 _ q1400) (hk.1.2.2.2.2 _ q1390) (cS_pub hS (Or.inl q1391)) (cS_unh hS (Or.inl q1401))
      exact ⟨mk, (by obtain ⟨_, _, _, _, _, _, _, _, _, _, h, _⟩ := hsel; exact h), yE_iface (J := "LeftUndoes$Gives") (xi := ⟨"LeftUndoes$Splits", "grace", "()I"⟩) (As := []) hk.1.1 hk.1.2.1 hk.1.2.2.2.1 (cS_good hS (Or.inr (by decide +kernel)) rfl rfl) (cS_face hS (Or.inr (by decide +kernel))) (cS_decl hS (Or.inl q1386)) (cS_pub hS (Or.inl q1462)) hsel (cS_cast hS (Or.inl q1466)) (by decide) (cRv_D (q := (RX11, TX11, 2)) hH hK (ci := 10) rfl he H hW) pd0 hd⟩
    by_cases h11 : ci = 11
    · subst h11
      rw [show yGrace σ d q = y7_grace σ d q by unfold yGrace; rw [hc]; rfl] at hz
      refine jy_E (y := ⟨"LeftUndoes$Hand", "grace", "()I"⟩) (frc := 9) (loc := 10400) (F := y7_grace σ d q) [] hk hH hK ht q1392 q128 (fun r h => cc_y7_grace l hlt hH σ d q r h) (fun H hW ls => ?_) rfl hd (by omega) hw kk hz
      obtain ⟨mk, hsel⟩ := ySel_s (C := "LeftUndoes$Heir") (J := "LeftUndoes$Gives") (nm := "grace") (ds := "()I") (y := ⟨"LeftUndoes$Hand", "grace", "()I"⟩) (A := args) (by decide) (cS_decl hS (Or.inl q1386)) (hk.1.2.2.2.2 _ q1397) (hk.1.2.2.2.2 _ q1390) (cS_pub hS (Or.inl q1391)) (cS_unh hS (Or.inl q1398))
      exact ⟨mk, (by obtain ⟨_, _, _, _, _, _, _, _, _, _, h, _⟩ := hsel; exact h), yE_iface (J := "LeftUndoes$Gives") (xi := ⟨"LeftUndoes$Splits", "grace", "()I"⟩) (As := []) hk.1.1 hk.1.2.1 hk.1.2.2.2.1 (cS_good hS (Or.inr (by decide +kernel)) rfl rfl) (cS_face hS (Or.inr (by decide +kernel))) (cS_decl hS (Or.inl q1386)) (cS_pub hS (Or.inl q1462)) hsel (cS_cast hS (Or.inl q1465)) (by decide) (cRv_D (q := (RX12, TX12, 2)) hH hK (ci := 11) rfl he H hW) pd0 hd⟩
    rw [show yGrace σ d q = none by unfold yGrace; rw [hc]; simp only [Option.bind_some]; rw [if_neg h7, if_neg h8, if_neg h9, if_neg h10, if_neg h11]] at hz; cases hz
end
section
variable {p : Program} {l : Launch} {e : Env} {R : Room} {s : State} {m : MethodId} {args : Array Value} {below : List Frame} {meth : Method} {c : Code}
variable {G : cG} {d : DS} {KK : State → Prop}
variable {NX : Nat} {nL : Nat} {cc : ByteArray} {fr lo frc loc : Nat} {ret : Option FieldType}
variable {pc : Nat} {σ : SS} {lv : List (Nat × Value)} {st : List Value} {τ : Type} {nf : τ → Nat} {Ψ : τ → Outcome → SS × DS → Prop} {res : XR τ}
set_option maxHeartbeats 2000000 in
theorem kz_Splits_13 (hk : jk p R s m args meth c (ynx nf res) cc nL RX23 fr lo ret) (hH : cH G KK) (hK : KK s) (ht : ∀ x ∈ c.exceptionTable.toList, False) (h0 : hX G s.heap) (hlt : l.stackTraces = false) {q : Nat} {K : (Int32 × SS × DS) → Option (XR τ)} (hd : decode cc pc = .ok (.invokeinterface 13 1, 5)) (hr : 9 + 1 ≤ fr ∧ 8 + (1 + 11) + 10400 ≤ lo) (hw : (st.map fun v => v.category).sum ≤ 8) (kk : ∀ r : Int32 × SS × DS, jj p l e R s m args below meth c (hA G) (ynx nf res) (jZY below args s G nf Ψ res) (cWo G r.2.2) (cnx r.2.2) nL r.2.1 (pc + 5) lv (.int r.1 :: st) (K r = some res)) : jj p l e R s m args below meth c (hA G) (ynx nf res) (jZY below args s G nf Ψ res) (cWo G d) (cnx d) nL σ pc lv (.ref q :: st) (yb xnA d (yNumber σ d q) K = some res) := by
  intro hz
  have hS : cS0 s := (hH.2.2.2.2.2 s hK).2.2.2.2
  cases hc : dci d q with
  | none => rw [show yNumber σ d q = none by unfold yNumber; rw [hc]; rfl] at hz; cases hz
  | some ci =>
    obtain ⟨fs, he⟩ := dci_spec hc
    by_cases h7 : ci = 7
    · subst h7
      rw [show yNumber σ d q = y7_number σ d q by unfold yNumber; rw [hc]; rfl] at hz
      refine jy_E (y := ⟨"LeftUndoes$Hand", "number", "()I"⟩) (frc := 9) (loc := 10400) (F := y7_number σ d q) [] hk hH hK ht q1346 q128 (fun r h => cc_y7_number l hlt hH σ d q r h) (fun H hW ls => ?_) rfl hd (by omega) hw kk hz
      obtain ⟨mk, hsel⟩ := ySel_s (C := "LeftUndoes$Clasped") (J := "LeftUndoes$Gives") (nm := "number") (ds := "()I") (y := ⟨"LeftUndoes$Hand", "number", "()I"⟩) (A := args) (by decide) (cS_decl hS (Or.inl q1470)) (hk.1.2.2.2.2 _ q1471) (hk.1.2.2.2.2 _ q1339) (cS_pub hS (Or.inl q1473)) (cS_unh hS (Or.inl q1472))
      exact ⟨mk, (by obtain ⟨_, _, _, _, _, _, _, _, _, _, h, _⟩ := hsel; exact h), yE_iface (J := "LeftUndoes$Gives") (xi := ⟨"LeftUndoes$Splits", "number", "()I"⟩) (As := []) hk.1.1 hk.1.2.1 hk.1.2.2.2.1 (cS_good hS (Or.inr (by decide +kernel)) rfl rfl) (cS_face hS (Or.inr (by decide +kernel))) (cS_decl hS (Or.inl q1470)) (cS_pub hS (Or.inl q1469)) hsel (cS_cast hS (Or.inl q1463)) (by decide) (cRv_D (q := (RX8, TX8, 2)) hH hK (ci := 7) rfl he H hW) pd0 hd⟩
    by_cases h8 : ci = 8
    · subst h8
      rw [show yNumber σ d q = y7_number σ d q by unfold yNumber; rw [hc]; rfl] at hz
      refine jy_E (y := ⟨"LeftUndoes$Hand", "number", "()I"⟩) (frc := 9) (loc := 10400) (F := y7_number σ d q) [] hk hH hK ht q1346 q128 (fun r h => cc_y7_number l hlt hH σ d q r h) (fun H hW ls => ?_) rfl hd (by omega) hw kk hz
      obtain ⟨mk, hsel⟩ := ySel_s (C := "LeftUndoes$Forger") (J := "LeftUndoes$Gives") (nm := "number") (ds := "()I") (y := ⟨"LeftUndoes$Hand", "number", "()I"⟩) (A := args) (by decide) (cS_decl hS (Or.inl q1470)) (hk.1.2.2.2.2 _ q1474) (hk.1.2.2.2.2 _ q1339) (cS_pub hS (Or.inl q1473)) (cS_unh hS (Or.inl q1475))
      exact ⟨mk, (by obtain ⟨_, _, _, _, _, _, _, _, _, _, h, _⟩ := hsel; exact h), yE_iface (J := "LeftUndoes$Gives") (xi := ⟨"LeftUndoes$Splits", "number", "()I"⟩) (As := []) hk.1.1 hk.1.2.1 hk.1.2.2.2.1 (cS_good hS (Or.inr (by decide +kernel)) rfl rfl) (cS_face hS (Or.inr (by decide +kernel))) (cS_decl hS (Or.inl q1470)) (cS_pub hS (Or.inl q1469)) hsel (cS_cast hS (Or.inl q1464)) (by decide) (cRv_D (q := (RX9, TX9, 2)) hH hK (ci := 8) rfl he H hW) pd0 hd⟩
    by_cases h9 : ci = 9
    · subst h9
      rw [show yNumber σ d q = y7_number σ d q by unfold yNumber; rw [hc]; rfl] at hz
      refine jy_E (y := ⟨"LeftUndoes$Hand", "number", "()I"⟩) (frc := 9) (loc := 10400) (F := y7_number σ d q) [] hk hH hK ht q1346 q128 (fun r h => cc_y7_number l hlt hH σ d q r h) (fun H hW ls => ?_) rfl hd (by omega) hw kk hz
      obtain ⟨mk, hsel⟩ := ySel_s (C := "LeftUndoes$Twin") (J := "LeftUndoes$Gives") (nm := "number") (ds := "()I") (y := ⟨"LeftUndoes$Hand", "number", "()I"⟩) (A := args) (by decide) (cS_decl hS (Or.inl q1470)) (hk.1.2.2.2.2 _ q1480) (hk.1.2.2.2.2 _ q1339) (cS_pub hS (Or.inl q1473)) (cS_unh hS (Or.inl q1481))
      exact ⟨mk, (by obtain ⟨_, _, _, _, _, _, _, _, _, _, h, _⟩ := hsel; exact h), yE_iface (J := "LeftUndoes$Gives") (xi := ⟨"LeftUndoes$Splits", "number", "()I"⟩) (As := []) hk.1.1 hk.1.2.1 hk.1.2.2.2.1 (cS_good hS (Or.inr (by decide +kernel)) rfl rfl) (cS_face hS (Or.inr (by decide +kernel))) (cS_decl hS (Or.inl q1470)) (cS_pub hS (Or.inl q1469)) hsel (cS_cast hS (Or.inl q1467)) (by decide) (cRv_D (q := (RX10, TX10, 2)) hH hK (ci := 9) rfl he H hW) pd0 hd⟩
    by_cases h10 : ci = 10
    · subst h10
      rw [show yNumber σ d q = y7_number σ d q by unfold yNumber; rw [hc]; rfl] at hz
      refine jy_E (y := ⟨"LeftUndoes$Hand", "number", "()I"⟩) (frc := 9) (loc := 10400) (F := y7_number σ d q) [] hk hH hK ht q1346 q128 (fun r h => cc_y7_number l hlt hH σ d q r h) (fun H hW ls => ?_) rfl hd (by omega) hw kk hz
      obtain ⟨mk, hsel⟩ := ySel_s (C := "LeftUndoes$Slow") (J := "LeftUndoes$Gives") (nm := "number") (ds := "()I") (y := ⟨"LeftUndoes$Hand", "number", "()I"⟩) (A := args) (by decide) (cS_decl hS (Or.inl q1470)) (hk.1.2.2.2.2 _ q1478) (hk.1.2.2.2.2 _ q1339) (cS_pub hS (Or.inl q1473)) (cS_unh hS (Or.inl q1479))
      exact ⟨mk, (by obtain ⟨_, _, _, _, _, _, _, _, _, _, h, _⟩ := hsel; exact h), yE_iface (J := "LeftUndoes$Gives") (xi := ⟨"LeftUndoes$Splits", "number", "()I"⟩) (As := []) hk.1.1 hk.1.2.1 hk.1.2.2.2.1 (cS_good hS (Or.inr (by decide +kernel)) rfl rfl) (cS_face hS (Or.inr (by decide +kernel))) (cS_decl hS (Or.inl q1470)) (cS_pub hS (Or.inl q1469)) hsel (cS_cast hS (Or.inl q1466)) (by decide) (cRv_D (q := (RX11, TX11, 2)) hH hK (ci := 10) rfl he H hW) pd0 hd⟩
    by_cases h11 : ci = 11
    · subst h11
      rw [show yNumber σ d q = y7_number σ d q by unfold yNumber; rw [hc]; rfl] at hz
      refine jy_E (y := ⟨"LeftUndoes$Hand", "number", "()I"⟩) (frc := 9) (loc := 10400) (F := y7_number σ d q) [] hk hH hK ht q1346 q128 (fun r h => cc_y7_number l hlt hH σ d q r h) (fun H hW ls => ?_) rfl hd (by omega) hw kk hz
      obtain ⟨mk, hsel⟩ := ySel_s (C := "LeftUndoes$Heir") (J := "LeftUndoes$Gives") (nm := "number") (ds := "()I") (y := ⟨"LeftUndoes$Hand", "number", "()I"⟩) (A := args) (by decide) (cS_decl hS (Or.inl q1470)) (hk.1.2.2.2.2 _ q1476) (hk.1.2.2.2.2 _ q1339) (cS_pub hS (Or.inl q1473)) (cS_unh hS (Or.inl q1477))
      exact ⟨mk, (by obtain ⟨_, _, _, _, _, _, _, _, _, _, h, _⟩ := hsel; exact h), yE_iface (J := "LeftUndoes$Gives") (xi := ⟨"LeftUndoes$Splits", "number", "()I"⟩) (As := []) hk.1.1 hk.1.2.1 hk.1.2.2.2.1 (cS_good hS (Or.inr (by decide +kernel)) rfl rfl) (cS_face hS (Or.inr (by decide +kernel))) (cS_decl hS (Or.inl q1470)) (cS_pub hS (Or.inl q1469)) hsel (cS_cast hS (Or.inl q1465)) (by decide) (cRv_D (q := (RX12, TX12, 2)) hH hK (ci := 11) rfl he H hW) pd0 hd⟩
    rw [show yNumber σ d q = none by unfold yNumber; rw [hc]; simp only [Option.bind_some]; rw [if_neg h7, if_neg h8, if_neg h9, if_neg h10, if_neg h11]] at hz; cases hz
end
section
variable {p : Program} {l : Launch} {e : Env} {R : Room} {s : State} {m : MethodId} {args : Array Value} {below : List Frame} {meth : Method} {c : Code}
variable {G : cG} {d : DS} {KK : State → Prop}
variable {NX : Nat} {Q : State → Prop} {nL : Nat} {cc : ByteArray} {fr lo frc loc : Nat} {ret : Option FieldType}
variable {pc : Nat} {σ : SS} {lv : List (Nat × Value)} {st : List Value} {ρ : Type} {res : ρ}
theorem kc_X23_4_ran (hk : jk p R s m args meth c NX cc nL RX23 fr lo ret) (hH : cH G KK) (hK : KK s) {a0 : Int32} {F : Option SS} {K : SS → Option ρ} (hM : ∀ r, F = some r → jM l yX4_ran (ws_ yX4_ran cX4_ran 2 none) frc loc [.ref (ha G 6), .int a0] (cWo G d) (cnx d) KK σ (jV r) (hA G) d.2)  (hd : decode cc pc = .ok (.invokevirtual 1, 3)) (hr : frc + 1 ≤ fr ∧ 8 + (2 + 11) + loc ≤ lo) (hw : (st.map fun v => v.category).sum ≤ 8) (kk : ∀ r, jj p l e R s m args below meth c (hA G) NX Q (cWo G d) (cnx d) nL r (pc + 3) lv st (K r = some res)) : jj p l e R s m args below meth c (hA G) NX Q (cWo G d) (cnx d) nL σ pc lv (.int a0 :: .ref (ha G 6) :: st) (F.bind K = some res) :=
  jc_VV (n := 1) hk hH hK [.int a0] hM (lw_V q1460 q1376 q1377 q125 q1378) (cRv_at (q := (RX4, TX4, 2)) (ci := 3) (q0 := 6) hH hK rfl rfl) (by decide +kernel) rfl rfl hd hr hw kk
end
section
variable {p : Program} {l : Launch} {e : Env} {R : Room} {s : State} {m : MethodId} {args : Array Value} {below : List Frame} {meth : Method} {c : Code}
variable {G : cG} {KK : State → Prop}
set_option maxHeartbeats 4000000 in
theorem cc_y23_splits (l : Launch) (hlt : l.stackTraces = false) {G : cG} {KK : State → Prop} (hH : cH G KK)  (σ : SS) (d : DS) (q0 : Nat) (a0 : Int32) (res : (XR (Int32 × SS × DS))) (hf : y23_splits σ d q0 a0 = some res) : jMY l yX23_splits (ws_ yX23_splits cX23_splits 3 (some .int)) 10 10420 [.ref q0, .int a0, .ref (ha G 6)] G KK (σ, d) xnA (jUa (fun x : Int32 => .int x)) res := by
  refine jy_start [(0, .ref q0), (1, .int a0), (2, .ref (ha G 6))] (by decide) (Nat.le_of_ble_eq_true rfl) rfl (fun p e R s m args below meth c hk hK hWo ht => ?_) hf
  have hk : jk p R s m args meth c (ynx xnA res) cX23_splits 3 RX23 10 10420 (some .int) := hk
  have h0 : hX G s.heap := hWo.2.2
  unfold y23_splits
  refine jj_aload_n hk (pc := 0) dX23_splits_0 2 rfl rfl ?_
  refine jj_bipush hk (pc := 1) (v := (12 : Int32)) dX23_splits_1 (by decide) ?_
  refine kc_X23_4_ran hk hH hK (pc := 3) (a0 := (12 : Int32)) (fun r h => cc_f4_ran l hH d σ (12 : Int32) r h) dX23_splits_3 ⟨Nat.le_of_ble_eq_true rfl, Nat.le_of_ble_eq_true rfl⟩ (Nat.le_of_ble_eq_true rfl) (fun σ1 => ?_)
  refine jj_iload_n hk (pc := 6) dX23_splits_6 1 rfl rfl ?_
  refine jj_aload_n hk (pc := 7) dX23_splits_7 0 rfl rfl ?_
  refine kz_Splits_7 hk hH hK ht h0 hlt (pc := 8) (q := q0) dX23_splits_8 ⟨Nat.le_of_ble_eq_true rfl, Nat.le_of_ble_eq_true rfl⟩ (Nat.le_of_ble_eq_true rfl) (fun r2 => ?_)
  refine jj_aload_n hk (pc := 13) dX23_splits_13 0 rfl rfl ?_
  refine kz_Splits_13 hk hH hK ht h0 hlt (pc := 14) (q := q0) dX23_splits_14 ⟨Nat.le_of_ble_eq_true rfl, Nat.le_of_ble_eq_true rfl⟩ (Nat.le_of_ble_eq_true rfl) (fun r3 => ?_)
  refine jj_isub hk (pc := 19) dX23_splits_19 ?_
  refine jy_irem (pc := 20) hk hH hK ht h0 hlt dX23_splits_20 ⟨Nat.le_of_ble_eq_true rfl, Nat.le_of_ble_eq_true rfl⟩ (Nat.le_of_ble_eq_true rfl) ?_
  exact jy_retUi hk (pc := 21) dX23_splits_21
end
section
variable {p : Program} {l : Launch} {e : Env} {R : Room} {s : State} {m : MethodId} {args : Array Value} {below : List Frame} {meth : Method} {c : Code}
variable {G : cG} {d : DS} {KK : State → Prop}
variable {NX : Nat} {nL : Nat} {cc : ByteArray} {fr lo frc loc : Nat} {ret : Option FieldType}
variable {pc : Nat} {σ : SS} {lv : List (Nat × Value)} {st : List Value} {τ : Type} {nf : τ → Nat} {Ψ : τ → Outcome → SS × DS → Prop} {res : XR τ}
set_option maxHeartbeats 2000000 in
theorem kz_Slow_21 (hk : jk p R s m args meth c (ynx nf res) cc nL RX11 fr lo ret) (hH : cH G KK) (hK : KK s) (ht : ∀ x ∈ c.exceptionTable.toList, False) (h0 : hX G s.heap) (hlt : l.stackTraces = false) {q : Nat} {a0 : Int32} {K : (Int32 × SS × DS) → Option (XR τ)} (hd : decode cc pc = .ok (.invokespecial 21, 3)) (hr : 10 + 1 ≤ fr ∧ 8 + (3 + 11) + 10420 ≤ lo) (hw : (st.map fun v => v.category).sum ≤ 8) (kk : ∀ r : Int32 × SS × DS, jj p l e R s m args below meth c (hA G) (ynx nf res) (jZY below args s G nf Ψ res) (cWo G r.2.2) (cnx r.2.2) nL r.2.1 (pc + 3) lv (.int r.1 :: st) (K r = some res)) : jj p l e R s m args below meth c (hA G) (ynx nf res) (jZY below args s G nf Ψ res) (cWo G d) (cnx d) nL σ pc lv (.ref (ha G 6) :: .int a0 :: .ref q :: st) (yb xnA d ((dHd d q).bind fun _ => y23_splits σ d q a0) K = some res) := by
  intro hz
  have hS : cS0 s := (hH.2.2.2.2.2 s hK).2.2.2.2
  cases hc : dHd d q with
  | none => rw [hc] at hz; cases hz
  | some u =>
    obtain ⟨C, hrv⟩ := dHd_rv (σ := σ) hH hK hc
    rw [hc] at hz
    have hz : yb xnA d (y23_splits σ d q a0) K = some res := hz
    refine jy_E (y := ⟨"LeftUndoes$Splits", "splits", "(ILLeftUndoes$Trace;)I"⟩) (frc := 10) (loc := 10420) (F := y23_splits σ d q a0) [.int a0, .ref (ha G 6)] hk hH hK ht q1459 q2238 (fun r h => cc_y23_splits l hlt hH σ d q a0 r h) (fun H hW ls => ?_) rfl hd (by omega) hw kk hz
    exact yE_specD (owner := "LeftUndoes$Splits") (x := ⟨"LeftUndoes$Hand", "splits", "(ILLeftUndoes$Trace;)I"⟩) (As := [.int a0, .ref (ha G 6)]) hk.1.1 hk.1.2.1 hk.1.2.2.2.1 (cS_good hS (Or.inr (by decide +kernel)) rfl rfl) (cS_good hS (Or.inr (by decide +kernel)) rfl rfl) (hk.1.2.2.2.2 _ q564) (cS_lands hS (Or.inr (by decide +kernel))) (hk.1.2.2.2.2 _ q1458) (cS_pub hS (Or.inl q1455)) (by decide) (cS_decl hS (Or.inl q1456)) (hrv H hW) pd2 hd
end
section
variable {p : Program} {l : Launch} {e : Env} {R : Room} {s : State} {m : MethodId} {args : Array Value} {below : List Frame} {meth : Method} {c : Code}
variable {G : cG} {d : DS} {KK : State → Prop}
variable {NX : Nat} {Q : State → Prop} {nL : Nat} {cc : ByteArray} {fr lo frc loc : Nat} {ret : Option FieldType}
variable {pc : Nat} {σ : SS} {lv : List (Nat × Value)} {st : List Value} {ρ : Type} {res : ρ}
theorem kc_X11_4_ran (hk : jk p R s m args meth c NX cc nL RX11 fr lo ret) (hH : cH G KK) (hK : KK s) {a0 : Int32} {F : Option SS} {K : SS → Option ρ} (hM : ∀ r, F = some r → jM l yX4_ran (ws_ yX4_ran cX4_ran 2 none) frc loc [.ref (ha G 6), .int a0] (cWo G d) (cnx d) KK σ (jV r) (hA G) d.2)  (hd : decode cc pc = .ok (.invokevirtual 15, 3)) (hr : frc + 1 ≤ fr ∧ 8 + (2 + 11) + loc ≤ lo) (hw : (st.map fun v => v.category).sum ≤ 8) (kk : ∀ r, jj p l e R s m args below meth c (hA G) NX Q (cWo G d) (cnx d) nL r (pc + 3) lv st (K r = some res)) : jj p l e R s m args below meth c (hA G) NX Q (cWo G d) (cnx d) nL σ pc lv (.int a0 :: .ref (ha G 6) :: st) (F.bind K = some res) :=
  jc_VV (n := 1) hk hH hK [.int a0] hM (lw_V q1491 q1376 q1377 q125 q1378) (cRv_at (q := (RX4, TX4, 2)) (ci := 3) (q0 := 6) hH hK rfl rfl) (by decide +kernel) rfl rfl hd hr hw kk
end
section
variable {p : Program} {l : Launch} {e : Env} {R : Room} {s : State} {m : MethodId} {args : Array Value} {below : List Frame} {meth : Method} {c : Code}
variable {G : cG} {KK : State → Prop}
set_option maxHeartbeats 4000000 in
theorem cc_y11_splits (l : Launch) (hlt : l.stackTraces = false) {G : cG} {KK : State → Prop} (hH : cH G KK)  (σ : SS) (d : DS) (q0 : Nat) (a0 : Int32) (res : (XR (Int32 × SS × DS))) (hf : y11_splits σ d q0 a0 = some res) : jMY l yX11_splits (ws_ yX11_splits cX11_splits 3 (some .int)) 11 10442 [.ref q0, .int a0, .ref (ha G 6)] G KK (σ, d) xnA (jUa (fun x : Int32 => .int x)) res := by
  refine jy_start [(0, .ref q0), (1, .int a0), (2, .ref (ha G 6))] (by decide) (Nat.le_of_ble_eq_true rfl) rfl (fun p e R s m args below meth c hk hK hWo ht => ?_) hf
  have hk : jk p R s m args meth c (ynx xnA res) cX11_splits 3 RX11 11 10442 (some .int) := hk
  have h0 : hX G s.heap := hWo.2.2
  unfold y11_splits
  refine jj_aload_n hk (pc := 0) dX11_splits_0 2 rfl rfl ?_
  refine jj_bipush hk (pc := 1) (v := (40 : Int32)) dX11_splits_1 (by decide) ?_
  refine kc_X11_4_ran hk hH hK (pc := 3) (a0 := (40 : Int32)) (fun r h => cc_f4_ran l hH d σ (40 : Int32) r h) dX11_splits_3 ⟨Nat.le_of_ble_eq_true rfl, Nat.le_of_ble_eq_true rfl⟩ (Nat.le_of_ble_eq_true rfl) (fun σ1 => ?_)
  refine jj_aload_n hk (pc := 6) dX11_splits_6 0 rfl rfl ?_
  refine jj_iload_n hk (pc := 7) dX11_splits_7 1 rfl rfl ?_
  refine jj_iconst hk (pc := 8) (v := (5 : Int32)) dX11_splits_8 (by decide) ?_
  refine jj_iadd hk (pc := 9) dX11_splits_9 ?_
  refine jj_aload_n hk (pc := 10) dX11_splits_10 2 rfl rfl ?_
  refine kz_Slow_21 hk hH hK ht h0 hlt (pc := 11) (q := q0) (a0 := (a0 + (5 : Int32))) dX11_splits_11 ⟨Nat.le_of_ble_eq_true rfl, Nat.le_of_ble_eq_true rfl⟩ (Nat.le_of_ble_eq_true rfl) (fun r2 => ?_)
  exact jy_retUi hk (pc := 14) dX11_splits_14
end
section
variable {p : Program} {l : Launch} {e : Env} {R : Room} {s : State} {m : MethodId} {args : Array Value} {below : List Frame} {meth : Method} {c : Code}
variable {G : cG} {d : DS} {KK : State → Prop}
variable {NX : Nat} {nL : Nat} {cc : ByteArray} {fr lo frc loc : Nat} {ret : Option FieldType}
variable {pc : Nat} {σ : SS} {lv : List (Nat × Value)} {st : List Value} {τ : Type} {nf : τ → Nat} {Ψ : τ → Outcome → SS × DS → Prop} {res : XR τ}
set_option maxHeartbeats 2000000 in
theorem kz_Heir_30 (hk : jk p R s m args meth c (ynx nf res) cc nL RX12 fr lo ret) (hH : cH G KK) (hK : KK s) (ht : ∀ x ∈ c.exceptionTable.toList, False) (h0 : hX G s.heap) (hlt : l.stackTraces = false) {q : Nat} {a0 : Int32} {K : (Int32 × SS × DS) → Option (XR τ)} (hd : decode cc pc = .ok (.invokespecial 30, 3)) (hr : 11 + 1 ≤ fr ∧ 8 + (3 + 11) + 10442 ≤ lo) (hw : (st.map fun v => v.category).sum ≤ 8) (kk : ∀ r : Int32 × SS × DS, jj p l e R s m args below meth c (hA G) (ynx nf res) (jZY below args s G nf Ψ res) (cWo G r.2.2) (cnx r.2.2) nL r.2.1 (pc + 3) lv (.int r.1 :: st) (K r = some res)) : jj p l e R s m args below meth c (hA G) (ynx nf res) (jZY below args s G nf Ψ res) (cWo G d) (cnx d) nL σ pc lv (.ref (ha G 6) :: .int a0 :: .ref q :: st) (yb xnA d ((dHd d q).bind fun _ => y11_splits σ d q a0) K = some res) := by
  intro hz
  have hS : cS0 s := (hH.2.2.2.2.2 s hK).2.2.2.2
  cases hc : dHd d q with
  | none => rw [hc] at hz; cases hz
  | some u =>
    obtain ⟨C, hrv⟩ := dHd_rv (σ := σ) hH hK hc
    rw [hc] at hz
    have hz : yb xnA d (y11_splits σ d q a0) K = some res := hz
    refine jy_E (y := ⟨"LeftUndoes$Slow", "splits", "(ILLeftUndoes$Trace;)I"⟩) (frc := 11) (loc := 10442) (F := y11_splits σ d q a0) [.int a0, .ref (ha G 6)] hk hH hK ht q1490 q132 (fun r h => cc_y11_splits l hlt hH σ d q a0 r h) (fun H hW ls => ?_) rfl hd (by omega) hw kk hz
    exact yE_specU (x := ⟨"LeftUndoes$Slow", "splits", "(ILLeftUndoes$Trace;)I"⟩) (As := [.int a0, .ref (ha G 6)]) hk.1.1 hk.1.2.1 hk.1.2.2.2.1 (hk.1.2.2.2.2 _ q1488) (hk.1.2.2.2.2 _ q2235) (hk.1.2.2.2.2 _ q573) (hk.1.2.2.2.2 _ q1489) (by decide) (hk.1.2.2.2.2 _ q1490) (hrv H hW) pd2 hd
end
section
variable {p : Program} {l : Launch} {e : Env} {R : Room} {s : State} {m : MethodId} {args : Array Value} {below : List Frame} {meth : Method} {c : Code}
variable {G : cG} {d : DS} {KK : State → Prop}
variable {NX : Nat} {nL : Nat} {cc : ByteArray} {fr lo frc loc : Nat} {ret : Option FieldType}
variable {pc : Nat} {σ : SS} {lv : List (Nat × Value)} {st : List Value} {τ : Type} {nf : τ → Nat} {Ψ : τ → Outcome → SS × DS → Prop} {res : XR τ}
set_option maxHeartbeats 2000000 in
theorem kz_Heir_33 (hk : jk p R s m args meth c (ynx nf res) cc nL RX12 fr lo ret) (hH : cH G KK) (hK : KK s) (ht : ∀ x ∈ c.exceptionTable.toList, False) (h0 : hX G s.heap) (hlt : l.stackTraces = false) {q : Nat} {K : (Int32 × SS × DS) → Option (XR τ)} (hd : decode cc pc = .ok (.invokevirtual 33, 3)) (hr : 9 + 1 ≤ fr ∧ 8 + (1 + 11) + 10400 ≤ lo) (hw : (st.map fun v => v.category).sum ≤ 8) (kk : ∀ r : Int32 × SS × DS, jj p l e R s m args below meth c (hA G) (ynx nf res) (jZY below args s G nf Ψ res) (cWo G r.2.2) (cnx r.2.2) nL r.2.1 (pc + 3) lv (.int r.1 :: st) (K r = some res)) : jj p l e R s m args below meth c (hA G) (ynx nf res) (jZY below args s G nf Ψ res) (cWo G d) (cnx d) nL σ pc lv (.ref q :: st) (yb xnA d ((dcl d 11 q).bind fun _ => y7_number σ d q) K = some res) := by
  intro hz
  have hS : cS0 s := (hH.2.2.2.2.2 s hK).2.2.2.2
  cases hc : dcl d 11 q with
  | none => rw [hc] at hz; cases hz
  | some u =>
    obtain ⟨fs, he⟩ := dcl_spec hc
    rw [hc] at hz
    have hz : yb xnA d (y7_number σ d q) K = some res := hz
    refine jy_E (y := ⟨"LeftUndoes$Hand", "number", "()I"⟩) (frc := 9) (loc := 10400) (F := y7_number σ d q) [] hk hH hK ht q1346 q128 (fun r h => cc_y7_number l hlt hH σ d q r h) (fun H hW ls => ?_) rfl hd (by omega) hw kk hz
    exact yE_virtU (x := ⟨"LeftUndoes$Heir", "number", "()I"⟩) (y := ⟨"LeftUndoes$Hand", "number", "()I"⟩) (C := "LeftUndoes$Heir") (As := []) hk.1.1 hk.1.2.1 hk.1.2.2.2.1 (hk.1.2.2.2.2 _ q1492) (hk.1.2.2.2.2 _ q1493) rfl (cS_decl hS (Or.inl q1407)) (by decide) (hk.1.2.2.2.2 _ q1494) (hk.1.2.2.2.2 _ q1339) (cRv_D (q := (RX12, TX12, 2)) hH hK (ci := 11) rfl he H hW) pd0 hd
end
section
variable {p : Program} {l : Launch} {e : Env} {R : Room} {s : State} {m : MethodId} {args : Array Value} {below : List Frame} {meth : Method} {c : Code}
variable {G : cG} {d : DS} {KK : State → Prop}
variable {NX : Nat} {nL : Nat} {cc : ByteArray} {fr lo frc loc : Nat} {ret : Option FieldType}
variable {pc : Nat} {σ : SS} {lv : List (Nat × Value)} {st : List Value} {τ : Type} {nf : τ → Nat} {Ψ : τ → Outcome → SS × DS → Prop} {res : XR τ}
set_option maxHeartbeats 2000000 in
theorem kz_Heir_36 (hk : jk p R s m args meth c (ynx nf res) cc nL RX12 fr lo ret) (hH : cH G KK) (hK : KK s) (ht : ∀ x ∈ c.exceptionTable.toList, False) (h0 : hX G s.heap) (hlt : l.stackTraces = false) {q : Nat} {a0 : Int32} {K : (Int32 × SS × DS) → Option (XR τ)} (hd : decode cc pc = .ok (.invokevirtual 36, 3)) (hr : 10 + 1 ≤ fr ∧ 8 + (3 + 11) + 10420 ≤ lo) (hw : (st.map fun v => v.category).sum ≤ 8) (kk : ∀ r : Int32 × SS × DS, jj p l e R s m args below meth c (hA G) (ynx nf res) (jZY below args s G nf Ψ res) (cWo G r.2.2) (cnx r.2.2) nL r.2.1 (pc + 3) lv (.int r.1 :: st) (K r = some res)) : jj p l e R s m args below meth c (hA G) (ynx nf res) (jZY below args s G nf Ψ res) (cWo G d) (cnx d) nL σ pc lv (.ref (ha G 6) :: .int a0 :: .ref q :: st) (yb xnA d ((dcl d 11 q).bind fun _ => y21_gives σ d q a0) K = some res) := by
  intro hz
  have hS : cS0 s := (hH.2.2.2.2.2 s hK).2.2.2.2
  cases hc : dcl d 11 q with
  | none => rw [hc] at hz; cases hz
  | some u =>
    obtain ⟨fs, he⟩ := dcl_spec hc
    rw [hc] at hz
    have hz : yb xnA d (y21_gives σ d q a0) K = some res := hz
    refine jy_E (y := ⟨"LeftUndoes$Gives", "gives", "(ILLeftUndoes$Trace;)I"⟩) (frc := 10) (loc := 10420) (F := y21_gives σ d q a0) [.int a0, .ref (ha G 6)] hk hH hK ht q1381 q2236 (fun r h => cc_y21_gives l hlt hH σ d q a0 r h) (fun H hW ls => ?_) rfl hd (by omega) hw kk hz
    exact yE_virtD (owner := "LeftUndoes$Gives") (x := ⟨"LeftUndoes$Heir", "gives", "(ILLeftUndoes$Trace;)I"⟩) (C := "LeftUndoes$Heir") (As := [.int a0, .ref (ha G 6)]) hk.1.1 hk.1.2.1 hk.1.2.2.2.1 (cS_good hS (Or.inr (by decide +kernel)) rfl rfl) (cS_good hS (Or.inr (by decide +kernel)) rfl rfl) (cS_decl hS (Or.inl q1368)) (by decide) (cS_lands hS (Or.inr (by decide +kernel))) (hk.1.2.2.2.2 _ q1380) (cRv_D (q := (RX12, TX12, 2)) hH hK (ci := 11) rfl he H hW) pd2 hd
end
section
variable {p : Program} {l : Launch} {e : Env} {R : Room} {s : State} {m : MethodId} {args : Array Value} {below : List Frame} {meth : Method} {c : Code}
variable {G : cG} {KK : State → Prop}
set_option maxHeartbeats 4000000 in
theorem cc_y12_splits (l : Launch) (hlt : l.stackTraces = false) {G : cG} {KK : State → Prop} (hH : cH G KK)  (σ : SS) (d : DS) (q0 : Nat) (a0 : Int32) (res : (XR (Int32 × SS × DS))) (hf : y12_splits σ d q0 a0 = some res) : jMY l yX12_splits (ws_ yX12_splits cX12_splits 4 (some .int)) 12 10464 [.ref q0, .int a0, .ref (ha G 6)] G KK (σ, d) xnA (jUa (fun x : Int32 => .int x)) res := by
  refine jy_start [(0, .ref q0), (1, .int a0), (2, .ref (ha G 6))] (by decide) (Nat.le_of_ble_eq_true rfl) rfl (fun p e R s m args below meth c hk hK hWo ht => ?_) hf
  have hk : jk p R s m args meth c (ynx xnA res) cX12_splits 4 RX12 12 10464 (some .int) := hk
  have h0 : hX G s.heap := hWo.2.2
  unfold y12_splits
  refine jj_aload_n hk (pc := 0) dX12_splits_0 2 rfl rfl ?_
  refine jj_bipush hk (pc := 1) (v := (61 : Int32)) dX12_splits_1 (by decide) ?_
  refine kc_X12_4_ran hk hH hK (pc := 3) (a0 := (61 : Int32)) (fun r h => cc_f4_ran l hH d σ (61 : Int32) r h) dX12_splits_3 ⟨Nat.le_of_ble_eq_true rfl, Nat.le_of_ble_eq_true rfl⟩ (Nat.le_of_ble_eq_true rfl) (fun σ1 => ?_)
  refine jj_aload_n hk (pc := 6) dX12_splits_6 0 rfl rfl ?_
  refine jj_iload_n hk (pc := 7) dX12_splits_7 1 rfl rfl ?_
  refine jj_aload_n hk (pc := 8) dX12_splits_8 2 rfl rfl ?_
  refine kz_Heir_30 hk hH hK ht h0 hlt (pc := 9) (q := q0) (a0 := a0) dX12_splits_9 ⟨Nat.le_of_ble_eq_true rfl, Nat.le_of_ble_eq_true rfl⟩ (Nat.le_of_ble_eq_true rfl) (fun r2 => ?_)
  refine jj_istore_n hk (pc := 12) [(3, .int r2.1), (0, .ref q0), (1, .int a0), (2, .ref (ha G 6))] dX12_splits_12 rfl (Nat.le_of_ble_eq_true rfl) rfl ?_
  refine jj_iload_n hk (pc := 13) dX12_splits_13 0 rfl rfl ?_
  refine jj_aload_n hk (pc := 14) dX12_splits_14 1 rfl rfl ?_
  refine jj_aload_n hk (pc := 15) dX12_splits_15 1 rfl rfl ?_
  refine kz_Heir_33 hk hH hK ht h0 hlt (pc := 16) (q := q0) dX12_splits_16 ⟨Nat.le_of_ble_eq_true rfl, Nat.le_of_ble_eq_true rfl⟩ (Nat.le_of_ble_eq_true rfl) (fun r3 => ?_)
  refine jj_aload_n hk (pc := 19) dX12_splits_19 3 rfl rfl ?_
  refine kz_Heir_36 hk hH hK ht h0 hlt (pc := 20) (q := q0) (a0 := r3.1) dX12_splits_20 ⟨Nat.le_of_ble_eq_true rfl, Nat.le_of_ble_eq_true rfl⟩ (Nat.le_of_ble_eq_true rfl) (fun r4 => ?_)
  refine jj_iadd hk (pc := 23) dX12_splits_23 ?_
  exact jy_retUi hk (pc := 24) dX12_splits_24
end
section
variable {p : Program} {l : Launch} {e : Env} {R : Room} {s : State} {m : MethodId} {args : Array Value} {below : List Frame} {meth : Method} {c : Code}
variable {G : cG} {d : DS} {KK : State → Prop}
variable {NX : Nat} {nL : Nat} {cc : ByteArray} {fr lo frc loc : Nat} {ret : Option FieldType}
variable {pc : Nat} {σ : SS} {lv : List (Nat × Value)} {st : List Value} {τ : Type} {nf : τ → Nat} {Ψ : τ → Outcome → SS × DS → Prop} {res : XR τ}
set_option maxHeartbeats 2000000 in
theorem kz_Swears_7 (hk : jk p R s m args meth c (ynx nf res) cc nL RX24 fr lo ret) (hH : cH G KK) (hK : KK s) (ht : ∀ x ∈ c.exceptionTable.toList, False) (h0 : hX G s.heap) (hlt : l.stackTraces = false) {q : Nat} {a0 : Int32} {K : (Int32 × SS × DS) → Option (XR τ)} (hd : decode cc pc = .ok (.invokeinterface 7 3, 5)) (hr : 13 + 1 ≤ fr ∧ 8 + (3 + 11) + 10486 ≤ lo) (hw : (st.map fun v => v.category).sum ≤ 8) (kk : ∀ r : Int32 × SS × DS, jj p l e R s m args below meth c (hA G) (ynx nf res) (jZY below args s G nf Ψ res) (cWo G r.2.2) (cnx r.2.2) nL r.2.1 (pc + 5) lv (.int r.1 :: st) (K r = some res)) : jj p l e R s m args below meth c (hA G) (ynx nf res) (jZY below args s G nf Ψ res) (cWo G d) (cnx d) nL σ pc lv (.ref (ha G 6) :: .int a0 :: .ref q :: st) (yb xnA d (yTakes σ d q a0) K = some res) := by
  intro hz
  have hS : cS0 s := (hH.2.2.2.2.2 s hK).2.2.2.2
  cases hc : dci d q with
  | none => rw [show yTakes σ d q a0 = none by unfold yTakes; rw [hc]; rfl] at hz; cases hz
  | some ci =>
    obtain ⟨fs, he⟩ := dci_spec hc
    by_cases h7 : ci = 7
    · subst h7
      rw [show yTakes σ d q a0 = y22_takes σ d q a0 by unfold yTakes; rw [hc]; rfl] at hz
      refine jy_E (y := ⟨"LeftUndoes$Takes", "takes", "(ILLeftUndoes$Trace;)I"⟩) (frc := 12) (loc := 10464) (F := y22_takes σ d q a0) [.int a0, .ref (ha G 6)] hk hH hK ht q1427 q2237 (fun r h => cc_y22_takes l hlt hH σ d q a0 r h) (fun H hW ls => ?_) rfl hd (by omega) hw kk hz
      obtain ⟨mk, hsel⟩ := ySel_d (C := "LeftUndoes$Clasped") (J := "LeftUndoes$Takes") (nm := "takes") (ds := "(ILLeftUndoes$Trace;)I") (y := ⟨"LeftUndoes$Takes", "takes", "(ILLeftUndoes$Trace;)I"⟩) (A := args) (by decide) (cS_decl hS (Or.inl q1424)) (cS_lands hS (Or.inr (by decide +kernel))) (hk.1.2.2.2.2 _ q1426) (cS_pub hS (Or.inl q1423))
      exact ⟨mk, (by obtain ⟨_, _, _, _, _, _, _, _, _, _, h, _⟩ := hsel; exact h), yE_iface (J := "LeftUndoes$Takes") (xi := ⟨"LeftUndoes$Swears", "takes", "(ILLeftUndoes$Trace;)I"⟩) (As := [.int a0, .ref (ha G 6)]) hk.1.1 hk.1.2.1 hk.1.2.2.2.1 (cS_good hS (Or.inr (by decide +kernel)) rfl rfl) (cS_face hS (Or.inr (by decide +kernel))) (cS_decl hS (Or.inl q1424)) (cS_pub hS (Or.inl q1423)) hsel (cS_cast hS (Or.inl q1369)) (by decide) (cRv_D (q := (RX8, TX8, 2)) hH hK (ci := 7) rfl he H hW) pd2 hd⟩
    by_cases h8 : ci = 8
    · subst h8
      rw [show yTakes σ d q a0 = y9_takes σ d q a0 by unfold yTakes; rw [hc]; rfl] at hz
      refine jy_E (y := ⟨"LeftUndoes$Forger", "takes", "(ILLeftUndoes$Trace;)I"⟩) (frc := 13) (loc := 10486) (F := y9_takes σ d q a0) [.int a0, .ref (ha G 6)] hk hH hK ht q1439 q130 (fun r h => cc_y9_takes l hlt hH σ d q a0 r h) (fun H hW ls => ?_) rfl hd (by omega) hw kk hz
      obtain ⟨mk, hsel⟩ := ySel_s (C := "LeftUndoes$Forger") (J := "LeftUndoes$Takes") (nm := "takes") (ds := "(ILLeftUndoes$Trace;)I") (y := ⟨"LeftUndoes$Forger", "takes", "(ILLeftUndoes$Trace;)I"⟩) (A := args) (by decide) (cS_decl hS (Or.inl q1424)) (hk.1.2.2.2.2 _ q1435) (hk.1.2.2.2.2 _ q1437) (cS_pub hS (Or.inl q1438)) (cS_unh hS (Or.inl q1436))
      exact ⟨mk, (by obtain ⟨_, _, _, _, _, _, _, _, _, _, h, _⟩ := hsel; exact h), yE_iface (J := "LeftUndoes$Takes") (xi := ⟨"LeftUndoes$Swears", "takes", "(ILLeftUndoes$Trace;)I"⟩) (As := [.int a0, .ref (ha G 6)]) hk.1.1 hk.1.2.1 hk.1.2.2.2.1 (cS_good hS (Or.inr (by decide +kernel)) rfl rfl) (cS_face hS (Or.inr (by decide +kernel))) (cS_decl hS (Or.inl q1424)) (cS_pub hS (Or.inl q1423)) hsel (cS_cast hS (Or.inl q1409)) (by decide) (cRv_D (q := (RX9, TX9, 2)) hH hK (ci := 8) rfl he H hW) pd2 hd⟩
    by_cases h9 : ci = 9
    · subst h9
      rw [show yTakes σ d q a0 = y9_takes σ d q a0 by unfold yTakes; rw [hc]; rfl] at hz
      refine jy_E (y := ⟨"LeftUndoes$Forger", "takes", "(ILLeftUndoes$Trace;)I"⟩) (frc := 13) (loc := 10486) (F := y9_takes σ d q a0) [.int a0, .ref (ha G 6)] hk hH hK ht q1439 q130 (fun r h => cc_y9_takes l hlt hH σ d q a0 r h) (fun H hW ls => ?_) rfl hd (by omega) hw kk hz
      obtain ⟨mk, hsel⟩ := ySel_s (C := "LeftUndoes$Twin") (J := "LeftUndoes$Takes") (nm := "takes") (ds := "(ILLeftUndoes$Trace;)I") (y := ⟨"LeftUndoes$Forger", "takes", "(ILLeftUndoes$Trace;)I"⟩) (A := args) (by decide) (cS_decl hS (Or.inl q1424)) (hk.1.2.2.2.2 _ q1452) (hk.1.2.2.2.2 _ q1437) (cS_pub hS (Or.inl q1438)) (cS_unh hS (Or.inl q1453))
      exact ⟨mk, (by obtain ⟨_, _, _, _, _, _, _, _, _, _, h, _⟩ := hsel; exact h), yE_iface (J := "LeftUndoes$Takes") (xi := ⟨"LeftUndoes$Swears", "takes", "(ILLeftUndoes$Trace;)I"⟩) (As := [.int a0, .ref (ha G 6)]) hk.1.1 hk.1.2.1 hk.1.2.2.2.1 (cS_good hS (Or.inr (by decide +kernel)) rfl rfl) (cS_face hS (Or.inr (by decide +kernel))) (cS_decl hS (Or.inl q1424)) (cS_pub hS (Or.inl q1423)) hsel (cS_cast hS (Or.inl q1415)) (by decide) (cRv_D (q := (RX10, TX10, 2)) hH hK (ci := 9) rfl he H hW) pd2 hd⟩
    by_cases h10 : ci = 10
    · subst h10
      rw [show yTakes σ d q a0 = y22_takes σ d q a0 by unfold yTakes; rw [hc]; rfl] at hz
      refine jy_E (y := ⟨"LeftUndoes$Takes", "takes", "(ILLeftUndoes$Trace;)I"⟩) (frc := 12) (loc := 10464) (F := y22_takes σ d q a0) [.int a0, .ref (ha G 6)] hk hH hK ht q1427 q2237 (fun r h => cc_y22_takes l hlt hH σ d q a0 r h) (fun H hW ls => ?_) rfl hd (by omega) hw kk hz
      obtain ⟨mk, hsel⟩ := ySel_d (C := "LeftUndoes$Slow") (J := "LeftUndoes$Takes") (nm := "takes") (ds := "(ILLeftUndoes$Trace;)I") (y := ⟨"LeftUndoes$Takes", "takes", "(ILLeftUndoes$Trace;)I"⟩) (A := args) (by decide) (cS_decl hS (Or.inl q1424)) (cS_lands hS (Or.inr (by decide +kernel))) (hk.1.2.2.2.2 _ q1426) (cS_pub hS (Or.inl q1423))
      exact ⟨mk, (by obtain ⟨_, _, _, _, _, _, _, _, _, _, h, _⟩ := hsel; exact h), yE_iface (J := "LeftUndoes$Takes") (xi := ⟨"LeftUndoes$Swears", "takes", "(ILLeftUndoes$Trace;)I"⟩) (As := [.int a0, .ref (ha G 6)]) hk.1.1 hk.1.2.1 hk.1.2.2.2.1 (cS_good hS (Or.inr (by decide +kernel)) rfl rfl) (cS_face hS (Or.inr (by decide +kernel))) (cS_decl hS (Or.inl q1424)) (cS_pub hS (Or.inl q1423)) hsel (cS_cast hS (Or.inl q1413)) (by decide) (cRv_D (q := (RX11, TX11, 2)) hH hK (ci := 10) rfl he H hW) pd2 hd⟩
    by_cases h11 : ci = 11
    · subst h11
      rw [show yTakes σ d q a0 = y12_takes σ d q a0 by unfold yTakes; rw [hc]; rfl] at hz
      refine jy_E (y := ⟨"LeftUndoes$Heir", "takes", "(ILLeftUndoes$Trace;)I"⟩) (frc := 13) (loc := 10486) (F := y12_takes σ d q a0) [.int a0, .ref (ha G 6)] hk hH hK ht q1445 q133 (fun r h => cc_y12_takes l hlt hH σ d q a0 r h) (fun H hW ls => ?_) rfl hd (by omega) hw kk hz
      obtain ⟨mk, hsel⟩ := ySel_s (C := "LeftUndoes$Heir") (J := "LeftUndoes$Takes") (nm := "takes") (ds := "(ILLeftUndoes$Trace;)I") (y := ⟨"LeftUndoes$Heir", "takes", "(ILLeftUndoes$Trace;)I"⟩) (A := args) (by decide) (cS_decl hS (Or.inl q1424)) (hk.1.2.2.2.2 _ q1441) (hk.1.2.2.2.2 _ q1443) (cS_pub hS (Or.inl q1444)) (cS_unh hS (Or.inl q1442))
      exact ⟨mk, (by obtain ⟨_, _, _, _, _, _, _, _, _, _, h, _⟩ := hsel; exact h), yE_iface (J := "LeftUndoes$Takes") (xi := ⟨"LeftUndoes$Swears", "takes", "(ILLeftUndoes$Trace;)I"⟩) (As := [.int a0, .ref (ha G 6)]) hk.1.1 hk.1.2.1 hk.1.2.2.2.1 (cS_good hS (Or.inr (by decide +kernel)) rfl rfl) (cS_face hS (Or.inr (by decide +kernel))) (cS_decl hS (Or.inl q1424)) (cS_pub hS (Or.inl q1423)) hsel (cS_cast hS (Or.inl q1411)) (by decide) (cRv_D (q := (RX12, TX12, 2)) hH hK (ci := 11) rfl he H hW) pd2 hd⟩
    rw [show yTakes σ d q a0 = none by unfold yTakes; rw [hc]; simp only [Option.bind_some]; rw [if_neg h7, if_neg h8, if_neg h9, if_neg h10, if_neg h11]] at hz; cases hz
end
section
variable {p : Program} {l : Launch} {e : Env} {R : Room} {s : State} {m : MethodId} {args : Array Value} {below : List Frame} {meth : Method} {c : Code}
variable {G : cG} {d : DS} {KK : State → Prop}
variable {NX : Nat} {nL : Nat} {cc : ByteArray} {fr lo frc loc : Nat} {ret : Option FieldType}
variable {pc : Nat} {σ : SS} {lv : List (Nat × Value)} {st : List Value} {τ : Type} {nf : τ → Nat} {Ψ : τ → Outcome → SS × DS → Prop} {res : XR τ}
set_option maxHeartbeats 2000000 in
theorem kz_Swears_13 (hk : jk p R s m args meth c (ynx nf res) cc nL RX24 fr lo ret) (hH : cH G KK) (hK : KK s) (ht : ∀ x ∈ c.exceptionTable.toList, False) (h0 : hX G s.heap) (hlt : l.stackTraces = false) {q : Nat} {K : (Int32 × SS × DS) → Option (XR τ)} (hd : decode cc pc = .ok (.invokeinterface 13 1, 5)) (hr : 9 + 1 ≤ fr ∧ 8 + (1 + 11) + 10400 ≤ lo) (hw : (st.map fun v => v.category).sum ≤ 8) (kk : ∀ r : Int32 × SS × DS, jj p l e R s m args below meth c (hA G) (ynx nf res) (jZY below args s G nf Ψ res) (cWo G r.2.2) (cnx r.2.2) nL r.2.1 (pc + 5) lv (.int r.1 :: st) (K r = some res)) : jj p l e R s m args below meth c (hA G) (ynx nf res) (jZY below args s G nf Ψ res) (cWo G d) (cnx d) nL σ pc lv (.ref q :: st) (yb xnA d (yNumber σ d q) K = some res) := by
  intro hz
  have hS : cS0 s := (hH.2.2.2.2.2 s hK).2.2.2.2
  cases hc : dci d q with
  | none => rw [show yNumber σ d q = none by unfold yNumber; rw [hc]; rfl] at hz; cases hz
  | some ci =>
    obtain ⟨fs, he⟩ := dci_spec hc
    by_cases h7 : ci = 7
    · subst h7
      rw [show yNumber σ d q = y7_number σ d q by unfold yNumber; rw [hc]; rfl] at hz
      refine jy_E (y := ⟨"LeftUndoes$Hand", "number", "()I"⟩) (frc := 9) (loc := 10400) (F := y7_number σ d q) [] hk hH hK ht q1346 q128 (fun r h => cc_y7_number l hlt hH σ d q r h) (fun H hW ls => ?_) rfl hd (by omega) hw kk hz
      obtain ⟨mk, hsel⟩ := ySel_s (C := "LeftUndoes$Clasped") (J := "LeftUndoes$Gives") (nm := "number") (ds := "()I") (y := ⟨"LeftUndoes$Hand", "number", "()I"⟩) (A := args) (by decide) (cS_decl hS (Or.inl q1470)) (hk.1.2.2.2.2 _ q1471) (hk.1.2.2.2.2 _ q1339) (cS_pub hS (Or.inl q1473)) (cS_unh hS (Or.inl q1472))
      exact ⟨mk, (by obtain ⟨_, _, _, _, _, _, _, _, _, _, h, _⟩ := hsel; exact h), yE_iface (J := "LeftUndoes$Gives") (xi := ⟨"LeftUndoes$Swears", "number", "()I"⟩) (As := []) hk.1.1 hk.1.2.1 hk.1.2.2.2.1 (cS_good hS (Or.inr (by decide +kernel)) rfl rfl) (cS_face hS (Or.inr (by decide +kernel))) (cS_decl hS (Or.inl q1470)) (cS_pub hS (Or.inl q1469)) hsel (cS_cast hS (Or.inl q1369)) (by decide) (cRv_D (q := (RX8, TX8, 2)) hH hK (ci := 7) rfl he H hW) pd0 hd⟩
    by_cases h8 : ci = 8
    · subst h8
      rw [show yNumber σ d q = y7_number σ d q by unfold yNumber; rw [hc]; rfl] at hz
      refine jy_E (y := ⟨"LeftUndoes$Hand", "number", "()I"⟩) (frc := 9) (loc := 10400) (F := y7_number σ d q) [] hk hH hK ht q1346 q128 (fun r h => cc_y7_number l hlt hH σ d q r h) (fun H hW ls => ?_) rfl hd (by omega) hw kk hz
      obtain ⟨mk, hsel⟩ := ySel_s (C := "LeftUndoes$Forger") (J := "LeftUndoes$Gives") (nm := "number") (ds := "()I") (y := ⟨"LeftUndoes$Hand", "number", "()I"⟩) (A := args) (by decide) (cS_decl hS (Or.inl q1470)) (hk.1.2.2.2.2 _ q1474) (hk.1.2.2.2.2 _ q1339) (cS_pub hS (Or.inl q1473)) (cS_unh hS (Or.inl q1475))
      exact ⟨mk, (by obtain ⟨_, _, _, _, _, _, _, _, _, _, h, _⟩ := hsel; exact h), yE_iface (J := "LeftUndoes$Gives") (xi := ⟨"LeftUndoes$Swears", "number", "()I"⟩) (As := []) hk.1.1 hk.1.2.1 hk.1.2.2.2.1 (cS_good hS (Or.inr (by decide +kernel)) rfl rfl) (cS_face hS (Or.inr (by decide +kernel))) (cS_decl hS (Or.inl q1470)) (cS_pub hS (Or.inl q1469)) hsel (cS_cast hS (Or.inl q1409)) (by decide) (cRv_D (q := (RX9, TX9, 2)) hH hK (ci := 8) rfl he H hW) pd0 hd⟩
    by_cases h9 : ci = 9
    · subst h9
      rw [show yNumber σ d q = y7_number σ d q by unfold yNumber; rw [hc]; rfl] at hz
      refine jy_E (y := ⟨"LeftUndoes$Hand", "number", "()I"⟩) (frc := 9) (loc := 10400) (F := y7_number σ d q) [] hk hH hK ht q1346 q128 (fun r h => cc_y7_number l hlt hH σ d q r h) (fun H hW ls => ?_) rfl hd (by omega) hw kk hz
      obtain ⟨mk, hsel⟩ := ySel_s (C := "LeftUndoes$Twin") (J := "LeftUndoes$Gives") (nm := "number") (ds := "()I") (y := ⟨"LeftUndoes$Hand", "number", "()I"⟩) (A := args) (by decide) (cS_decl hS (Or.inl q1470)) (hk.1.2.2.2.2 _ q1480) (hk.1.2.2.2.2 _ q1339) (cS_pub hS (Or.inl q1473)) (cS_unh hS (Or.inl q1481))
      exact ⟨mk, (by obtain ⟨_, _, _, _, _, _, _, _, _, _, h, _⟩ := hsel; exact h), yE_iface (J := "LeftUndoes$Gives") (xi := ⟨"LeftUndoes$Swears", "number", "()I"⟩) (As := []) hk.1.1 hk.1.2.1 hk.1.2.2.2.1 (cS_good hS (Or.inr (by decide +kernel)) rfl rfl) (cS_face hS (Or.inr (by decide +kernel))) (cS_decl hS (Or.inl q1470)) (cS_pub hS (Or.inl q1469)) hsel (cS_cast hS (Or.inl q1415)) (by decide) (cRv_D (q := (RX10, TX10, 2)) hH hK (ci := 9) rfl he H hW) pd0 hd⟩
    by_cases h10 : ci = 10
    · subst h10
      rw [show yNumber σ d q = y7_number σ d q by unfold yNumber; rw [hc]; rfl] at hz
      refine jy_E (y := ⟨"LeftUndoes$Hand", "number", "()I"⟩) (frc := 9) (loc := 10400) (F := y7_number σ d q) [] hk hH hK ht q1346 q128 (fun r h => cc_y7_number l hlt hH σ d q r h) (fun H hW ls => ?_) rfl hd (by omega) hw kk hz
      obtain ⟨mk, hsel⟩ := ySel_s (C := "LeftUndoes$Slow") (J := "LeftUndoes$Gives") (nm := "number") (ds := "()I") (y := ⟨"LeftUndoes$Hand", "number", "()I"⟩) (A := args) (by decide) (cS_decl hS (Or.inl q1470)) (hk.1.2.2.2.2 _ q1478) (hk.1.2.2.2.2 _ q1339) (cS_pub hS (Or.inl q1473)) (cS_unh hS (Or.inl q1479))
      exact ⟨mk, (by obtain ⟨_, _, _, _, _, _, _, _, _, _, h, _⟩ := hsel; exact h), yE_iface (J := "LeftUndoes$Gives") (xi := ⟨"LeftUndoes$Swears", "number", "()I"⟩) (As := []) hk.1.1 hk.1.2.1 hk.1.2.2.2.1 (cS_good hS (Or.inr (by decide +kernel)) rfl rfl) (cS_face hS (Or.inr (by decide +kernel))) (cS_decl hS (Or.inl q1470)) (cS_pub hS (Or.inl q1469)) hsel (cS_cast hS (Or.inl q1413)) (by decide) (cRv_D (q := (RX11, TX11, 2)) hH hK (ci := 10) rfl he H hW) pd0 hd⟩
    by_cases h11 : ci = 11
    · subst h11
      rw [show yNumber σ d q = y7_number σ d q by unfold yNumber; rw [hc]; rfl] at hz
      refine jy_E (y := ⟨"LeftUndoes$Hand", "number", "()I"⟩) (frc := 9) (loc := 10400) (F := y7_number σ d q) [] hk hH hK ht q1346 q128 (fun r h => cc_y7_number l hlt hH σ d q r h) (fun H hW ls => ?_) rfl hd (by omega) hw kk hz
      obtain ⟨mk, hsel⟩ := ySel_s (C := "LeftUndoes$Heir") (J := "LeftUndoes$Gives") (nm := "number") (ds := "()I") (y := ⟨"LeftUndoes$Hand", "number", "()I"⟩) (A := args) (by decide) (cS_decl hS (Or.inl q1470)) (hk.1.2.2.2.2 _ q1476) (hk.1.2.2.2.2 _ q1339) (cS_pub hS (Or.inl q1473)) (cS_unh hS (Or.inl q1477))
      exact ⟨mk, (by obtain ⟨_, _, _, _, _, _, _, _, _, _, h, _⟩ := hsel; exact h), yE_iface (J := "LeftUndoes$Gives") (xi := ⟨"LeftUndoes$Swears", "number", "()I"⟩) (As := []) hk.1.1 hk.1.2.1 hk.1.2.2.2.1 (cS_good hS (Or.inr (by decide +kernel)) rfl rfl) (cS_face hS (Or.inr (by decide +kernel))) (cS_decl hS (Or.inl q1470)) (cS_pub hS (Or.inl q1469)) hsel (cS_cast hS (Or.inl q1411)) (by decide) (cRv_D (q := (RX12, TX12, 2)) hH hK (ci := 11) rfl he H hW) pd0 hd⟩
    rw [show yNumber σ d q = none by unfold yNumber; rw [hc]; simp only [Option.bind_some]; rw [if_neg h7, if_neg h8, if_neg h9, if_neg h10, if_neg h11]] at hz; cases hz
end
section
variable {p : Program} {l : Launch} {e : Env} {R : Room} {s : State} {m : MethodId} {args : Array Value} {below : List Frame} {meth : Method} {c : Code}
variable {G : cG} {d : DS} {KK : State → Prop}
variable {NX : Nat} {Q : State → Prop} {nL : Nat} {cc : ByteArray} {fr lo frc loc : Nat} {ret : Option FieldType}
variable {pc : Nat} {σ : SS} {lv : List (Nat × Value)} {st : List Value} {ρ : Type} {res : ρ}
theorem kc_X24_4_ran (hk : jk p R s m args meth c NX cc nL RX24 fr lo ret) (hH : cH G KK) (hK : KK s) {a0 : Int32} {F : Option SS} {K : SS → Option ρ} (hM : ∀ r, F = some r → jM l yX4_ran (ws_ yX4_ran cX4_ran 2 none) frc loc [.ref (ha G 6), .int a0] (cWo G d) (cnx d) KK σ (jV r) (hA G) d.2)  (hd : decode cc pc = .ok (.invokevirtual 1, 3)) (hr : frc + 1 ≤ fr ∧ 8 + (2 + 11) + loc ≤ lo) (hw : (st.map fun v => v.category).sum ≤ 8) (kk : ∀ r, jj p l e R s m args below meth c (hA G) NX Q (cWo G d) (cnx d) nL r (pc + 3) lv st (K r = some res)) : jj p l e R s m args below meth c (hA G) NX Q (cWo G d) (cnx d) nL σ pc lv (.int a0 :: .ref (ha G 6) :: st) (F.bind K = some res) :=
  jc_VV (n := 1) hk hH hK [.int a0] hM (lw_V q1507 q1376 q1377 q125 q1378) (cRv_at (q := (RX4, TX4, 2)) (ci := 3) (q0 := 6) hH hK rfl rfl) (by decide +kernel) rfl rfl hd hr hw kk
end
section
variable {p : Program} {l : Launch} {e : Env} {R : Room} {s : State} {m : MethodId} {args : Array Value} {below : List Frame} {meth : Method} {c : Code}
variable {G : cG} {KK : State → Prop}
set_option maxHeartbeats 4000000 in
theorem cc_y24_swears (l : Launch) (hlt : l.stackTraces = false) {G : cG} {KK : State → Prop} (hH : cH G KK)  (σ : SS) (d : DS) (q0 : Nat) (a0 : Int32) (res : (XR (Int32 × SS × DS))) (hf : y24_swears σ d q0 a0 = some res) : jMY l yX24_swears (ws_ yX24_swears cX24_swears 3 (some .int)) 14 10508 [.ref q0, .int a0, .ref (ha G 6)] G KK (σ, d) xnA (jUa (fun x : Int32 => .int x)) res := by
  refine jy_start [(0, .ref q0), (1, .int a0), (2, .ref (ha G 6))] (by decide) (Nat.le_of_ble_eq_true rfl) rfl (fun p e R s m args below meth c hk hK hWo ht => ?_) hf
  have hk : jk p R s m args meth c (ynx xnA res) cX24_swears 3 RX24 14 10508 (some .int) := hk
  have h0 : hX G s.heap := hWo.2.2
  unfold y24_swears
  refine jj_aload_n hk (pc := 0) dX24_swears_0 2 rfl rfl ?_
  refine jj_bipush hk (pc := 1) (v := (13 : Int32)) dX24_swears_1 (by decide) ?_
  refine kc_X24_4_ran hk hH hK (pc := 3) (a0 := (13 : Int32)) (fun r h => cc_f4_ran l hH d σ (13 : Int32) r h) dX24_swears_3 ⟨Nat.le_of_ble_eq_true rfl, Nat.le_of_ble_eq_true rfl⟩ (Nat.le_of_ble_eq_true rfl) (fun σ1 => ?_)
  refine jj_aload_n hk (pc := 6) dX24_swears_6 0 rfl rfl ?_
  refine jj_iload_n hk (pc := 7) dX24_swears_7 1 rfl rfl ?_
  refine jj_aload_n hk (pc := 8) dX24_swears_8 2 rfl rfl ?_
  refine kz_Swears_7 hk hH hK ht h0 hlt (pc := 9) (q := q0) (a0 := a0) dX24_swears_9 ⟨Nat.le_of_ble_eq_true rfl, Nat.le_of_ble_eq_true rfl⟩ (Nat.le_of_ble_eq_true rfl) (fun r2 => ?_)
  refine jj_aload_n hk (pc := 14) dX24_swears_14 0 rfl rfl ?_
  refine kz_Swears_13 hk hH hK ht h0 hlt (pc := 15) (q := q0) dX24_swears_15 ⟨Nat.le_of_ble_eq_true rfl, Nat.le_of_ble_eq_true rfl⟩ (Nat.le_of_ble_eq_true rfl) (fun r3 => ?_)
  refine jj_ixor hk (pc := 20) dX24_swears_20 ?_
  exact jy_retUi hk (pc := 21) dX24_swears_21
end
section
variable {p : Program} {l : Launch} {e : Env} {R : Room} {s : State} {m : MethodId} {args : Array Value} {below : List Frame} {meth : Method} {c : Code}
variable {G : cG} {d : DS} {KK : State → Prop}
variable {NX : Nat} {nL : Nat} {cc : ByteArray} {fr lo frc loc : Nat} {ret : Option FieldType}
variable {pc : Nat} {σ : SS} {lv : List (Nat × Value)} {st : List Value} {τ : Type} {nf : τ → Nat} {Ψ : τ → Outcome → SS × DS → Prop} {res : XR τ}
set_option maxHeartbeats 2000000 in
theorem kz_Twin_25 (hk : jk p R s m args meth c (ynx nf res) cc nL RX10 fr lo ret) (hH : cH G KK) (hK : KK s) (ht : ∀ x ∈ c.exceptionTable.toList, False) (h0 : hX G s.heap) (hlt : l.stackTraces = false) {q : Nat} {a0 : Int32} {K : (Int32 × SS × DS) → Option (XR τ)} (hd : decode cc pc = .ok (.invokespecial 25, 3)) (hr : 14 + 1 ≤ fr ∧ 8 + (3 + 11) + 10508 ≤ lo) (hw : (st.map fun v => v.category).sum ≤ 8) (kk : ∀ r : Int32 × SS × DS, jj p l e R s m args below meth c (hA G) (ynx nf res) (jZY below args s G nf Ψ res) (cWo G r.2.2) (cnx r.2.2) nL r.2.1 (pc + 3) lv (.int r.1 :: st) (K r = some res)) : jj p l e R s m args below meth c (hA G) (ynx nf res) (jZY below args s G nf Ψ res) (cWo G d) (cnx d) nL σ pc lv (.ref (ha G 6) :: .int a0 :: .ref q :: st) (yb xnA d ((dHd d q).bind fun _ => y24_swears σ d q a0) K = some res) := by
  intro hz
  have hS : cS0 s := (hH.2.2.2.2.2 s hK).2.2.2.2
  cases hc : dHd d q with
  | none => rw [hc] at hz; cases hz
  | some u =>
    obtain ⟨C, hrv⟩ := dHd_rv (σ := σ) hH hK hc
    rw [hc] at hz
    have hz : yb xnA d (y24_swears σ d q a0) K = some res := hz
    refine jy_E (y := ⟨"LeftUndoes$Swears", "swears", "(ILLeftUndoes$Trace;)I"⟩) (frc := 14) (loc := 10508) (F := y24_swears σ d q a0) [.int a0, .ref (ha G 6)] hk hH hK ht q1506 q2239 (fun r h => cc_y24_swears l hlt hH σ d q a0 r h) (fun H hW ls => ?_) rfl hd (by omega) hw kk hz
    exact yE_specD (owner := "LeftUndoes$Swears") (x := ⟨"LeftUndoes$Forger", "swears", "(ILLeftUndoes$Trace;)I"⟩) (As := [.int a0, .ref (ha G 6)]) hk.1.1 hk.1.2.1 hk.1.2.2.2.1 (cS_good hS (Or.inr (by decide +kernel)) rfl rfl) (cS_good hS (Or.inr (by decide +kernel)) rfl rfl) (hk.1.2.2.2.2 _ q555) (cS_lands hS (Or.inr (by decide +kernel))) (hk.1.2.2.2.2 _ q1504) (cS_pub hS (Or.inl q1505)) (by decide) (cS_decl hS (Or.inl q1502)) (hrv H hW) pd2 hd
end
section
variable {p : Program} {l : Launch} {e : Env} {R : Room} {s : State} {m : MethodId} {args : Array Value} {below : List Frame} {meth : Method} {c : Code}
variable {G : cG} {d : DS} {KK : State → Prop}
variable {NX : Nat} {nL : Nat} {cc : ByteArray} {fr lo frc loc : Nat} {ret : Option FieldType}
variable {pc : Nat} {σ : SS} {lv : List (Nat × Value)} {st : List Value} {τ : Type} {nf : τ → Nat} {Ψ : τ → Outcome → SS × DS → Prop} {res : XR τ}
set_option maxHeartbeats 2000000 in
theorem kz_Twin_28 (hk : jk p R s m args meth c (ynx nf res) cc nL RX10 fr lo ret) (hH : cH G KK) (hK : KK s) (ht : ∀ x ∈ c.exceptionTable.toList, False) (h0 : hX G s.heap) (hlt : l.stackTraces = false) {q : Nat} {K : (Int32 × SS × DS) → Option (XR τ)} (hd : decode cc pc = .ok (.invokevirtual 28, 3)) (hr : 9 + 1 ≤ fr ∧ 8 + (1 + 11) + 10400 ≤ lo) (hw : (st.map fun v => v.category).sum ≤ 8) (kk : ∀ r : Int32 × SS × DS, jj p l e R s m args below meth c (hA G) (ynx nf res) (jZY below args s G nf Ψ res) (cWo G r.2.2) (cnx r.2.2) nL r.2.1 (pc + 3) lv (.int r.1 :: st) (K r = some res)) : jj p l e R s m args below meth c (hA G) (ynx nf res) (jZY below args s G nf Ψ res) (cWo G d) (cnx d) nL σ pc lv (.ref q :: st) (yb xnA d ((dcl d 9 q).bind fun _ => y7_grace σ d q) K = some res) := by
  intro hz
  have hS : cS0 s := (hH.2.2.2.2.2 s hK).2.2.2.2
  cases hc : dcl d 9 q with
  | none => rw [hc] at hz; cases hz
  | some u =>
    obtain ⟨fs, he⟩ := dcl_spec hc
    rw [hc] at hz
    have hz : yb xnA d (y7_grace σ d q) K = some res := hz
    refine jy_E (y := ⟨"LeftUndoes$Hand", "grace", "()I"⟩) (frc := 9) (loc := 10400) (F := y7_grace σ d q) [] hk hH hK ht q1392 q128 (fun r h => cc_y7_grace l hlt hH σ d q r h) (fun H hW ls => ?_) rfl hd (by omega) hw kk hz
    exact yE_virtU (x := ⟨"LeftUndoes$Twin", "grace", "()I"⟩) (y := ⟨"LeftUndoes$Hand", "grace", "()I"⟩) (C := "LeftUndoes$Twin") (As := []) hk.1.1 hk.1.2.1 hk.1.2.2.2.1 (hk.1.2.2.2.2 _ q1518) (hk.1.2.2.2.2 _ q1519) rfl (cS_decl hS (Or.inl q1449)) (by decide) (hk.1.2.2.2.2 _ q1520) (hk.1.2.2.2.2 _ q1390) (cRv_D (q := (RX10, TX10, 2)) hH hK (ci := 9) rfl he H hW) pd0 hd
end
section
variable {p : Program} {l : Launch} {e : Env} {R : Room} {s : State} {m : MethodId} {args : Array Value} {below : List Frame} {meth : Method} {c : Code}
variable {G : cG} {d : DS} {KK : State → Prop}
variable {NX : Nat} {nL : Nat} {cc : ByteArray} {fr lo frc loc : Nat} {ret : Option FieldType}
variable {pc : Nat} {σ : SS} {lv : List (Nat × Value)} {st : List Value} {τ : Type} {nf : τ → Nat} {Ψ : τ → Outcome → SS × DS → Prop} {res : XR τ}
set_option maxHeartbeats 2000000 in
theorem kz_Twin_33 (hk : jk p R s m args meth c (ynx nf res) cc nL RX10 fr lo ret) (hH : cH G KK) (hK : KK s) (ht : ∀ x ∈ c.exceptionTable.toList, False) (h0 : hX G s.heap) (hlt : l.stackTraces = false) {q : Nat} {a0 : Int32} {K : (Int32 × SS × DS) → Option (XR τ)} (hd : decode cc pc = .ok (.invokevirtual 33, 3)) (hr : 10 + 1 ≤ fr ∧ 8 + (3 + 11) + 10420 ≤ lo) (hw : (st.map fun v => v.category).sum ≤ 8) (kk : ∀ r : Int32 × SS × DS, jj p l e R s m args below meth c (hA G) (ynx nf res) (jZY below args s G nf Ψ res) (cWo G r.2.2) (cnx r.2.2) nL r.2.1 (pc + 3) lv (.int r.1 :: st) (K r = some res)) : jj p l e R s m args below meth c (hA G) (ynx nf res) (jZY below args s G nf Ψ res) (cWo G d) (cnx d) nL σ pc lv (.ref (ha G 6) :: .int a0 :: .ref q :: st) (yb xnA d ((dcl d 9 q).bind fun _ => y23_splits σ d q a0) K = some res) := by
  intro hz
  have hS : cS0 s := (hH.2.2.2.2.2 s hK).2.2.2.2
  cases hc : dcl d 9 q with
  | none => rw [hc] at hz; cases hz
  | some u =>
    obtain ⟨fs, he⟩ := dcl_spec hc
    rw [hc] at hz
    have hz : yb xnA d (y23_splits σ d q a0) K = some res := hz
    refine jy_E (y := ⟨"LeftUndoes$Splits", "splits", "(ILLeftUndoes$Trace;)I"⟩) (frc := 10) (loc := 10420) (F := y23_splits σ d q a0) [.int a0, .ref (ha G 6)] hk hH hK ht q1459 q2238 (fun r h => cc_y23_splits l hlt hH σ d q a0 r h) (fun H hW ls => ?_) rfl hd (by omega) hw kk hz
    exact yE_virtD (owner := "LeftUndoes$Splits") (x := ⟨"LeftUndoes$Twin", "splits", "(ILLeftUndoes$Trace;)I"⟩) (C := "LeftUndoes$Twin") (As := [.int a0, .ref (ha G 6)]) hk.1.1 hk.1.2.1 hk.1.2.2.2.1 (cS_good hS (Or.inr (by decide +kernel)) rfl rfl) (cS_good hS (Or.inr (by decide +kernel)) rfl rfl) (cS_decl hS (Or.inl q1456)) (by decide) (cS_lands hS (Or.inr (by decide +kernel))) (hk.1.2.2.2.2 _ q1458) (cRv_D (q := (RX10, TX10, 2)) hH hK (ci := 9) rfl he H hW) pd2 hd
end
section
variable {p : Program} {l : Launch} {e : Env} {R : Room} {s : State} {m : MethodId} {args : Array Value} {below : List Frame} {meth : Method} {c : Code}
variable {G : cG} {KK : State → Prop}
set_option maxHeartbeats 4000000 in
theorem cc_y10_swears (l : Launch) (hlt : l.stackTraces = false) {G : cG} {KK : State → Prop} (hH : cH G KK)  (σ : SS) (d : DS) (q0 : Nat) (a0 : Int32) (res : (XR (Int32 × SS × DS))) (hf : y10_swears σ d q0 a0 = some res) : jMY l yX10_swears (ws_ yX10_swears cX10_swears 4 (some .int)) 15 10530 [.ref q0, .int a0, .ref (ha G 6)] G KK (σ, d) xnA (jUa (fun x : Int32 => .int x)) res := by
  refine jy_start [(0, .ref q0), (1, .int a0), (2, .ref (ha G 6))] (by decide) (Nat.le_of_ble_eq_true rfl) rfl (fun p e R s m args below meth c hk hK hWo ht => ?_) hf
  have hk : jk p R s m args meth c (ynx xnA res) cX10_swears 4 RX10 15 10530 (some .int) := hk
  have h0 : hX G s.heap := hWo.2.2
  unfold y10_swears
  refine jj_aload_n hk (pc := 0) dX10_swears_0 2 rfl rfl ?_
  refine jj_bipush hk (pc := 1) (v := (51 : Int32)) dX10_swears_1 (by decide) ?_
  refine kc_X10_4_ran hk hH hK (pc := 3) (a0 := (51 : Int32)) (fun r h => cc_f4_ran l hH d σ (51 : Int32) r h) dX10_swears_3 ⟨Nat.le_of_ble_eq_true rfl, Nat.le_of_ble_eq_true rfl⟩ (Nat.le_of_ble_eq_true rfl) (fun σ1 => ?_)
  refine jj_aload_n hk (pc := 6) dX10_swears_6 0 rfl rfl ?_
  refine jj_iload_n hk (pc := 7) dX10_swears_7 1 rfl rfl ?_
  refine jj_aload_n hk (pc := 8) dX10_swears_8 2 rfl rfl ?_
  refine kz_Twin_25 hk hH hK ht h0 hlt (pc := 9) (q := q0) (a0 := a0) dX10_swears_9 ⟨Nat.le_of_ble_eq_true rfl, Nat.le_of_ble_eq_true rfl⟩ (Nat.le_of_ble_eq_true rfl) (fun r2 => ?_)
  refine jj_istore_n hk (pc := 12) [(3, .int r2.1), (0, .ref q0), (1, .int a0), (2, .ref (ha G 6))] dX10_swears_12 rfl (Nat.le_of_ble_eq_true rfl) rfl ?_
  refine jj_iload_n hk (pc := 13) dX10_swears_13 0 rfl rfl ?_
  refine jj_aload_n hk (pc := 14) dX10_swears_14 1 rfl rfl ?_
  refine jj_aload_n hk (pc := 15) dX10_swears_15 1 rfl rfl ?_
  refine kz_Twin_28 hk hH hK ht h0 hlt (pc := 16) (q := q0) dX10_swears_16 ⟨Nat.le_of_ble_eq_true rfl, Nat.le_of_ble_eq_true rfl⟩ (Nat.le_of_ble_eq_true rfl) (fun r3 => ?_)
  refine jj_aload_n hk (pc := 19) dX10_swears_19 3 rfl rfl ?_
  refine kz_Twin_33 hk hH hK ht h0 hlt (pc := 20) (q := q0) (a0 := r3.1) dX10_swears_20 ⟨Nat.le_of_ble_eq_true rfl, Nat.le_of_ble_eq_true rfl⟩ (Nat.le_of_ble_eq_true rfl) (fun r4 => ?_)
  refine jj_isub hk (pc := 23) dX10_swears_23 ?_
  exact jy_retUi hk (pc := 24) dX10_swears_24
end
section
variable {p : Program} {l : Launch} {e : Env} {R : Room} {s : State} {m : MethodId} {args : Array Value} {below : List Frame} {meth : Method} {c : Code}
variable {G : cG} {d : DS} {KK : State → Prop}
variable {NX : Nat} {nL : Nat} {cc : ByteArray} {fr lo frc loc : Nat} {ret : Option FieldType}
variable {pc : Nat} {σ : SS} {lv : List (Nat × Value)} {st : List Value} {τ : Type} {nf : τ → Nat} {Ψ : τ → Outcome → SS × DS → Prop} {res : XR τ}
set_option maxHeartbeats 2000000 in
theorem kz_LeftUndoes_586 {res : Int32 × SS × DS} (hk : jk p R s m args meth c (res.2.2.2 + 25) cc nL RX0 fr lo ret) (hH : cH G KK) (hK : KK s) (hlt : l.stackTraces = false) {o : Option Nat} {a0 : Int32} {K : (Int32 × SS × DS) → Option (Int32 × SS × DS)} {Hh : Nat × SS × DS → Option (Int32 × SS)} (hd : decode cc pc = .ok (.invokeinterface 586 3, 5)) (hr : 11 + 1 ≤ fr ∧ 8 + (3 + 11) + 10442 ≤ lo) (hw : (st.map fun v => v.category).sum ≤ 8) (kx : ∀ (y : Nat × SS × DS) (r' : Int32 × SS), Hh y = some r' → ∃ h, jCatch s c RX0 (yE y.1) args pc h ∧ ∀ (R : Room) (s : State) (q : Nat) (d' : DS), (y.1 ≤ 2 → q = ha G y.1) → jk p R s m args meth c d'.2 cc nL RX0 fr lo ret → KK s → jj p l e R s m args below meth c (hA G) d'.2 (jZ below args s (hA G) d'.2 (jU r') (cWo G d') (cnx d')) (cWo G d') (cnx d') nL y.2.1 h lv [.ref q] (Hh y = some r')) (kk : ∀ r : Int32 × SS × DS, jj p l e R s m args below meth c (hA G) (res.2.2.2 + 25) (jZ below args s (hA G) (res.2.2.2 + 25) (jUs res) (aWo G) anx) (cWo G r.2.2) (cnx r.2.2) nL r.2.1 (pc + 5) lv (.int r.1 :: st) (K r = some res)) : jj p l e R s m args below meth c (hA G) (res.2.2.2 + 25) (jZ below args s (hA G) (res.2.2.2 + 25) (jUs res) (aWo G) anx) (cWo G d) (cnx d) nL σ pc lv (.ref (ha G 6) :: .int a0 :: va_rf o :: st) (yh xnA d (o.bind fun q => yGives σ d q a0) Hh K = some res) := by
  cases o with
  | none => intro hz; cases hz
  | some q =>
  intro hz
  have hS : cS0 s := (hH.2.2.2.2.2 s hK).2.2.2.2
  have hz : yh xnA d (yGives σ d q a0) Hh K = some res := hz
  cases hc : dci d q with
  | none => rw [show yGives σ d q a0 = none by unfold yGives; rw [hc]; rfl] at hz; cases hz
  | some ci =>
    obtain ⟨fs, he⟩ := dci_spec hc
    by_cases h7 : ci = 7
    · subst h7
      rw [show yGives σ d q a0 = y8_gives σ d q a0 by unfold yGives; rw [hc]; rfl] at hz
      refine jyh_E (y := ⟨"LeftUndoes$Clasped", "gives", "(ILLeftUndoes$Trace;)I"⟩) (frc := 11) (loc := 10442) (F := y8_gives σ d q a0) [.int a0, .ref (ha G 6)] hk hH hK q1374 q129 (fun r h => cc_y8_gives l hlt hH σ d q a0 r h) (fun H hW ls => ?_) rfl hd (by omega) hw kx kk hz
      obtain ⟨mk, hsel⟩ := ySel_s (C := "LeftUndoes$Clasped") (J := "LeftUndoes$Gives") (nm := "gives") (ds := "(ILLeftUndoes$Trace;)I") (y := ⟨"LeftUndoes$Clasped", "gives", "(ILLeftUndoes$Trace;)I"⟩) (A := args) (by decide) (cS_decl hS (Or.inl q1368)) (hk.1.2.2.2.2 _ q1370) (hk.1.2.2.2.2 _ q1372) (cS_pub hS (Or.inl q1373)) (cS_unh hS (Or.inl q1371))
      exact ⟨mk, (by obtain ⟨_, _, _, _, _, _, _, _, _, _, h, _⟩ := hsel; exact h), yE_iface (J := "LeftUndoes$Gives") (xi := ⟨"LeftUndoes$Swears", "gives", "(ILLeftUndoes$Trace;)I"⟩) (As := [.int a0, .ref (ha G 6)]) hk.1.1 hk.1.2.1 hk.1.2.2.2.1 (cS_good hS (Or.inr (by decide +kernel)) rfl rfl) (cS_face hS (Or.inr (by decide +kernel))) (cS_decl hS (Or.inl q1368)) (cS_pub hS (Or.inl q1367)) hsel (cS_cast hS (Or.inl q1369)) (by decide) (cRv_D (q := (RX8, TX8, 2)) hH hK (ci := 7) rfl he H hW) pd2 hd⟩
    by_cases h8 : ci = 8
    · subst h8
      rw [show yGives σ d q a0 = y21_gives σ d q a0 by unfold yGives; rw [hc]; rfl] at hz
      refine jyh_E (y := ⟨"LeftUndoes$Gives", "gives", "(ILLeftUndoes$Trace;)I"⟩) (frc := 10) (loc := 10420) (F := y21_gives σ d q a0) [.int a0, .ref (ha G 6)] hk hH hK q1381 q2236 (fun r h => cc_y21_gives l hlt hH σ d q a0 r h) (fun H hW ls => ?_) rfl hd (by omega) hw kx kk hz
      obtain ⟨mk, hsel⟩ := ySel_d (C := "LeftUndoes$Forger") (J := "LeftUndoes$Gives") (nm := "gives") (ds := "(ILLeftUndoes$Trace;)I") (y := ⟨"LeftUndoes$Gives", "gives", "(ILLeftUndoes$Trace;)I"⟩) (A := args) (by decide) (cS_decl hS (Or.inl q1368)) (cS_lands hS (Or.inr (by decide +kernel))) (hk.1.2.2.2.2 _ q1380) (cS_pub hS (Or.inl q1367))
      exact ⟨mk, (by obtain ⟨_, _, _, _, _, _, _, _, _, _, h, _⟩ := hsel; exact h), yE_iface (J := "LeftUndoes$Gives") (xi := ⟨"LeftUndoes$Swears", "gives", "(ILLeftUndoes$Trace;)I"⟩) (As := [.int a0, .ref (ha G 6)]) hk.1.1 hk.1.2.1 hk.1.2.2.2.1 (cS_good hS (Or.inr (by decide +kernel)) rfl rfl) (cS_face hS (Or.inr (by decide +kernel))) (cS_decl hS (Or.inl q1368)) (cS_pub hS (Or.inl q1367)) hsel (cS_cast hS (Or.inl q1409)) (by decide) (cRv_D (q := (RX9, TX9, 2)) hH hK (ci := 8) rfl he H hW) pd2 hd⟩
    by_cases h9 : ci = 9
    · subst h9
      rw [show yGives σ d q a0 = y10_gives σ d q a0 by unfold yGives; rw [hc]; rfl] at hz
      refine jyh_E (y := ⟨"LeftUndoes$Twin", "gives", "(ILLeftUndoes$Trace;)I"⟩) (frc := 11) (loc := 10442) (F := y10_gives σ d q a0) [.int a0, .ref (ha G 6)] hk hH hK q1420 q131 (fun r h => cc_y10_gives l hlt hH σ d q a0 r h) (fun H hW ls => ?_) rfl hd (by omega) hw kx kk hz
      obtain ⟨mk, hsel⟩ := ySel_s (C := "LeftUndoes$Twin") (J := "LeftUndoes$Gives") (nm := "gives") (ds := "(ILLeftUndoes$Trace;)I") (y := ⟨"LeftUndoes$Twin", "gives", "(ILLeftUndoes$Trace;)I"⟩) (A := args) (by decide) (cS_decl hS (Or.inl q1368)) (hk.1.2.2.2.2 _ q1416) (hk.1.2.2.2.2 _ q1418) (cS_pub hS (Or.inl q1419)) (cS_unh hS (Or.inl q1417))
      exact ⟨mk, (by obtain ⟨_, _, _, _, _, _, _, _, _, _, h, _⟩ := hsel; exact h), yE_iface (J := "LeftUndoes$Gives") (xi := ⟨"LeftUndoes$Swears", "gives", "(ILLeftUndoes$Trace;)I"⟩) (As := [.int a0, .ref (ha G 6)]) hk.1.1 hk.1.2.1 hk.1.2.2.2.1 (cS_good hS (Or.inr (by decide +kernel)) rfl rfl) (cS_face hS (Or.inr (by decide +kernel))) (cS_decl hS (Or.inl q1368)) (cS_pub hS (Or.inl q1367)) hsel (cS_cast hS (Or.inl q1415)) (by decide) (cRv_D (q := (RX10, TX10, 2)) hH hK (ci := 9) rfl he H hW) pd2 hd⟩
    by_cases h10 : ci = 10
    · subst h10
      rw [show yGives σ d q a0 = y21_gives σ d q a0 by unfold yGives; rw [hc]; rfl] at hz
      refine jyh_E (y := ⟨"LeftUndoes$Gives", "gives", "(ILLeftUndoes$Trace;)I"⟩) (frc := 10) (loc := 10420) (F := y21_gives σ d q a0) [.int a0, .ref (ha G 6)] hk hH hK q1381 q2236 (fun r h => cc_y21_gives l hlt hH σ d q a0 r h) (fun H hW ls => ?_) rfl hd (by omega) hw kx kk hz
      obtain ⟨mk, hsel⟩ := ySel_d (C := "LeftUndoes$Slow") (J := "LeftUndoes$Gives") (nm := "gives") (ds := "(ILLeftUndoes$Trace;)I") (y := ⟨"LeftUndoes$Gives", "gives", "(ILLeftUndoes$Trace;)I"⟩) (A := args) (by decide) (cS_decl hS (Or.inl q1368)) (cS_lands hS (Or.inr (by decide +kernel))) (hk.1.2.2.2.2 _ q1380) (cS_pub hS (Or.inl q1367))
      exact ⟨mk, (by obtain ⟨_, _, _, _, _, _, _, _, _, _, h, _⟩ := hsel; exact h), yE_iface (J := "LeftUndoes$Gives") (xi := ⟨"LeftUndoes$Swears", "gives", "(ILLeftUndoes$Trace;)I"⟩) (As := [.int a0, .ref (ha G 6)]) hk.1.1 hk.1.2.1 hk.1.2.2.2.1 (cS_good hS (Or.inr (by decide +kernel)) rfl rfl) (cS_face hS (Or.inr (by decide +kernel))) (cS_decl hS (Or.inl q1368)) (cS_pub hS (Or.inl q1367)) hsel (cS_cast hS (Or.inl q1413)) (by decide) (cRv_D (q := (RX11, TX11, 2)) hH hK (ci := 10) rfl he H hW) pd2 hd⟩
    by_cases h11 : ci = 11
    · subst h11
      rw [show yGives σ d q a0 = y21_gives σ d q a0 by unfold yGives; rw [hc]; rfl] at hz
      refine jyh_E (y := ⟨"LeftUndoes$Gives", "gives", "(ILLeftUndoes$Trace;)I"⟩) (frc := 10) (loc := 10420) (F := y21_gives σ d q a0) [.int a0, .ref (ha G 6)] hk hH hK q1381 q2236 (fun r h => cc_y21_gives l hlt hH σ d q a0 r h) (fun H hW ls => ?_) rfl hd (by omega) hw kx kk hz
      obtain ⟨mk, hsel⟩ := ySel_d (C := "LeftUndoes$Heir") (J := "LeftUndoes$Gives") (nm := "gives") (ds := "(ILLeftUndoes$Trace;)I") (y := ⟨"LeftUndoes$Gives", "gives", "(ILLeftUndoes$Trace;)I"⟩) (A := args) (by decide) (cS_decl hS (Or.inl q1368)) (cS_lands hS (Or.inr (by decide +kernel))) (hk.1.2.2.2.2 _ q1380) (cS_pub hS (Or.inl q1367))
      exact ⟨mk, (by obtain ⟨_, _, _, _, _, _, _, _, _, _, h, _⟩ := hsel; exact h), yE_iface (J := "LeftUndoes$Gives") (xi := ⟨"LeftUndoes$Swears", "gives", "(ILLeftUndoes$Trace;)I"⟩) (As := [.int a0, .ref (ha G 6)]) hk.1.1 hk.1.2.1 hk.1.2.2.2.1 (cS_good hS (Or.inr (by decide +kernel)) rfl rfl) (cS_face hS (Or.inr (by decide +kernel))) (cS_decl hS (Or.inl q1368)) (cS_pub hS (Or.inl q1367)) hsel (cS_cast hS (Or.inl q1411)) (by decide) (cRv_D (q := (RX12, TX12, 2)) hH hK (ci := 11) rfl he H hW) pd2 hd⟩
    rw [show yGives σ d q a0 = none by unfold yGives; rw [hc]; simp only [Option.bind_some]; rw [if_neg h7, if_neg h8, if_neg h9, if_neg h10, if_neg h11]] at hz; cases hz
end
section
variable {p : Program} {l : Launch} {e : Env} {R : Room} {s : State} {m : MethodId} {args : Array Value} {below : List Frame} {meth : Method} {c : Code}
variable {G : cG} {d : DS} {KK : State → Prop}
variable {NX : Nat} {nL : Nat} {cc : ByteArray} {fr lo frc loc : Nat} {ret : Option FieldType}
variable {pc : Nat} {σ : SS} {lv : List (Nat × Value)} {st : List Value} {τ : Type} {nf : τ → Nat} {Ψ : τ → Outcome → SS × DS → Prop} {res : XR τ}
set_option maxHeartbeats 2000000 in
theorem kz_LeftUndoes_590 {res : Int32 × SS × DS} (hk : jk p R s m args meth c (res.2.2.2 + 25) cc nL RX0 fr lo ret) (hH : cH G KK) (hK : KK s) (hlt : l.stackTraces = false) {o : Option Nat} {a0 : Int32} {K : (Int32 × SS × DS) → Option (Int32 × SS × DS)} {Hh : Nat × SS × DS → Option (Int32 × SS)} (hd : decode cc pc = .ok (.invokeinterface 590 3, 5)) (hr : 13 + 1 ≤ fr ∧ 8 + (3 + 11) + 10486 ≤ lo) (hw : (st.map fun v => v.category).sum ≤ 8) (kx : ∀ (y : Nat × SS × DS) (r' : Int32 × SS), Hh y = some r' → ∃ h, jCatch s c RX0 (yE y.1) args pc h ∧ ∀ (R : Room) (s : State) (q : Nat) (d' : DS), (y.1 ≤ 2 → q = ha G y.1) → jk p R s m args meth c d'.2 cc nL RX0 fr lo ret → KK s → jj p l e R s m args below meth c (hA G) d'.2 (jZ below args s (hA G) d'.2 (jU r') (cWo G d') (cnx d')) (cWo G d') (cnx d') nL y.2.1 h lv [.ref q] (Hh y = some r')) (kk : ∀ r : Int32 × SS × DS, jj p l e R s m args below meth c (hA G) (res.2.2.2 + 25) (jZ below args s (hA G) (res.2.2.2 + 25) (jUs res) (aWo G) anx) (cWo G r.2.2) (cnx r.2.2) nL r.2.1 (pc + 5) lv (.int r.1 :: st) (K r = some res)) : jj p l e R s m args below meth c (hA G) (res.2.2.2 + 25) (jZ below args s (hA G) (res.2.2.2 + 25) (jUs res) (aWo G) anx) (cWo G d) (cnx d) nL σ pc lv (.ref (ha G 6) :: .int a0 :: va_rf o :: st) (yh xnA d (o.bind fun q => yTakes σ d q a0) Hh K = some res) := by
  cases o with
  | none => intro hz; cases hz
  | some q =>
  intro hz
  have hS : cS0 s := (hH.2.2.2.2.2 s hK).2.2.2.2
  have hz : yh xnA d (yTakes σ d q a0) Hh K = some res := hz
  cases hc : dci d q with
  | none => rw [show yTakes σ d q a0 = none by unfold yTakes; rw [hc]; rfl] at hz; cases hz
  | some ci =>
    obtain ⟨fs, he⟩ := dci_spec hc
    by_cases h7 : ci = 7
    · subst h7
      rw [show yTakes σ d q a0 = y22_takes σ d q a0 by unfold yTakes; rw [hc]; rfl] at hz
      refine jyh_E (y := ⟨"LeftUndoes$Takes", "takes", "(ILLeftUndoes$Trace;)I"⟩) (frc := 12) (loc := 10464) (F := y22_takes σ d q a0) [.int a0, .ref (ha G 6)] hk hH hK q1427 q2237 (fun r h => cc_y22_takes l hlt hH σ d q a0 r h) (fun H hW ls => ?_) rfl hd (by omega) hw kx kk hz
      obtain ⟨mk, hsel⟩ := ySel_d (C := "LeftUndoes$Clasped") (J := "LeftUndoes$Takes") (nm := "takes") (ds := "(ILLeftUndoes$Trace;)I") (y := ⟨"LeftUndoes$Takes", "takes", "(ILLeftUndoes$Trace;)I"⟩) (A := args) (by decide) (cS_decl hS (Or.inl q1424)) (cS_lands hS (Or.inr (by decide +kernel))) (hk.1.2.2.2.2 _ q1426) (cS_pub hS (Or.inl q1423))
      exact ⟨mk, (by obtain ⟨_, _, _, _, _, _, _, _, _, _, h, _⟩ := hsel; exact h), yE_iface (J := "LeftUndoes$Takes") (xi := ⟨"LeftUndoes$Swears", "takes", "(ILLeftUndoes$Trace;)I"⟩) (As := [.int a0, .ref (ha G 6)]) hk.1.1 hk.1.2.1 hk.1.2.2.2.1 (cS_good hS (Or.inr (by decide +kernel)) rfl rfl) (cS_face hS (Or.inr (by decide +kernel))) (cS_decl hS (Or.inl q1424)) (cS_pub hS (Or.inl q1423)) hsel (cS_cast hS (Or.inl q1369)) (by decide) (cRv_D (q := (RX8, TX8, 2)) hH hK (ci := 7) rfl he H hW) pd2 hd⟩
    by_cases h8 : ci = 8
    · subst h8
      rw [show yTakes σ d q a0 = y9_takes σ d q a0 by unfold yTakes; rw [hc]; rfl] at hz
      refine jyh_E (y := ⟨"LeftUndoes$Forger", "takes", "(ILLeftUndoes$Trace;)I"⟩) (frc := 13) (loc := 10486) (F := y9_takes σ d q a0) [.int a0, .ref (ha G 6)] hk hH hK q1439 q130 (fun r h => cc_y9_takes l hlt hH σ d q a0 r h) (fun H hW ls => ?_) rfl hd (by omega) hw kx kk hz
      obtain ⟨mk, hsel⟩ := ySel_s (C := "LeftUndoes$Forger") (J := "LeftUndoes$Takes") (nm := "takes") (ds := "(ILLeftUndoes$Trace;)I") (y := ⟨"LeftUndoes$Forger", "takes", "(ILLeftUndoes$Trace;)I"⟩) (A := args) (by decide) (cS_decl hS (Or.inl q1424)) (hk.1.2.2.2.2 _ q1435) (hk.1.2.2.2.2 _ q1437) (cS_pub hS (Or.inl q1438)) (cS_unh hS (Or.inl q1436))
      exact ⟨mk, (by obtain ⟨_, _, _, _, _, _, _, _, _, _, h, _⟩ := hsel; exact h), yE_iface (J := "LeftUndoes$Takes") (xi := ⟨"LeftUndoes$Swears", "takes", "(ILLeftUndoes$Trace;)I"⟩) (As := [.int a0, .ref (ha G 6)]) hk.1.1 hk.1.2.1 hk.1.2.2.2.1 (cS_good hS (Or.inr (by decide +kernel)) rfl rfl) (cS_face hS (Or.inr (by decide +kernel))) (cS_decl hS (Or.inl q1424)) (cS_pub hS (Or.inl q1423)) hsel (cS_cast hS (Or.inl q1409)) (by decide) (cRv_D (q := (RX9, TX9, 2)) hH hK (ci := 8) rfl he H hW) pd2 hd⟩
    by_cases h9 : ci = 9
    · subst h9
      rw [show yTakes σ d q a0 = y9_takes σ d q a0 by unfold yTakes; rw [hc]; rfl] at hz
      refine jyh_E (y := ⟨"LeftUndoes$Forger", "takes", "(ILLeftUndoes$Trace;)I"⟩) (frc := 13) (loc := 10486) (F := y9_takes σ d q a0) [.int a0, .ref (ha G 6)] hk hH hK q1439 q130 (fun r h => cc_y9_takes l hlt hH σ d q a0 r h) (fun H hW ls => ?_) rfl hd (by omega) hw kx kk hz
      obtain ⟨mk, hsel⟩ := ySel_s (C := "LeftUndoes$Twin") (J := "LeftUndoes$Takes") (nm := "takes") (ds := "(ILLeftUndoes$Trace;)I") (y := ⟨"LeftUndoes$Forger", "takes", "(ILLeftUndoes$Trace;)I"⟩) (A := args) (by decide) (cS_decl hS (Or.inl q1424)) (hk.1.2.2.2.2 _ q1452) (hk.1.2.2.2.2 _ q1437) (cS_pub hS (Or.inl q1438)) (cS_unh hS (Or.inl q1453))
      exact ⟨mk, (by obtain ⟨_, _, _, _, _, _, _, _, _, _, h, _⟩ := hsel; exact h), yE_iface (J := "LeftUndoes$Takes") (xi := ⟨"LeftUndoes$Swears", "takes", "(ILLeftUndoes$Trace;)I"⟩) (As := [.int a0, .ref (ha G 6)]) hk.1.1 hk.1.2.1 hk.1.2.2.2.1 (cS_good hS (Or.inr (by decide +kernel)) rfl rfl) (cS_face hS (Or.inr (by decide +kernel))) (cS_decl hS (Or.inl q1424)) (cS_pub hS (Or.inl q1423)) hsel (cS_cast hS (Or.inl q1415)) (by decide) (cRv_D (q := (RX10, TX10, 2)) hH hK (ci := 9) rfl he H hW) pd2 hd⟩
    by_cases h10 : ci = 10
    · subst h10
      rw [show yTakes σ d q a0 = y22_takes σ d q a0 by unfold yTakes; rw [hc]; rfl] at hz
      refine jyh_E (y := ⟨"LeftUndoes$Takes", "takes", "(ILLeftUndoes$Trace;)I"⟩) (frc := 12) (loc := 10464) (F := y22_takes σ d q a0) [.int a0, .ref (ha G 6)] hk hH hK q1427 q2237 (fun r h => cc_y22_takes l hlt hH σ d q a0 r h) (fun H hW ls => ?_) rfl hd (by omega) hw kx kk hz
      obtain ⟨mk, hsel⟩ := ySel_d (C := "LeftUndoes$Slow") (J := "LeftUndoes$Takes") (nm := "takes") (ds := "(ILLeftUndoes$Trace;)I") (y := ⟨"LeftUndoes$Takes", "takes", "(ILLeftUndoes$Trace;)I"⟩) (A := args) (by decide) (cS_decl hS (Or.inl q1424)) (cS_lands hS (Or.inr (by decide +kernel))) (hk.1.2.2.2.2 _ q1426) (cS_pub hS (Or.inl q1423))
      exact ⟨mk, (by obtain ⟨_, _, _, _, _, _, _, _, _, _, h, _⟩ := hsel; exact h), yE_iface (J := "LeftUndoes$Takes") (xi := ⟨"LeftUndoes$Swears", "takes", "(ILLeftUndoes$Trace;)I"⟩) (As := [.int a0, .ref (ha G 6)]) hk.1.1 hk.1.2.1 hk.1.2.2.2.1 (cS_good hS (Or.inr (by decide +kernel)) rfl rfl) (cS_face hS (Or.inr (by decide +kernel))) (cS_decl hS (Or.inl q1424)) (cS_pub hS (Or.inl q1423)) hsel (cS_cast hS (Or.inl q1413)) (by decide) (cRv_D (q := (RX11, TX11, 2)) hH hK (ci := 10) rfl he H hW) pd2 hd⟩
    by_cases h11 : ci = 11
    · subst h11
      rw [show yTakes σ d q a0 = y12_takes σ d q a0 by unfold yTakes; rw [hc]; rfl] at hz
      refine jyh_E (y := ⟨"LeftUndoes$Heir", "takes", "(ILLeftUndoes$Trace;)I"⟩) (frc := 13) (loc := 10486) (F := y12_takes σ d q a0) [.int a0, .ref (ha G 6)] hk hH hK q1445 q133 (fun r h => cc_y12_takes l hlt hH σ d q a0 r h) (fun H hW ls => ?_) rfl hd (by omega) hw kx kk hz
      obtain ⟨mk, hsel⟩ := ySel_s (C := "LeftUndoes$Heir") (J := "LeftUndoes$Takes") (nm := "takes") (ds := "(ILLeftUndoes$Trace;)I") (y := ⟨"LeftUndoes$Heir", "takes", "(ILLeftUndoes$Trace;)I"⟩) (A := args) (by decide) (cS_decl hS (Or.inl q1424)) (hk.1.2.2.2.2 _ q1441) (hk.1.2.2.2.2 _ q1443) (cS_pub hS (Or.inl q1444)) (cS_unh hS (Or.inl q1442))
      exact ⟨mk, (by obtain ⟨_, _, _, _, _, _, _, _, _, _, h, _⟩ := hsel; exact h), yE_iface (J := "LeftUndoes$Takes") (xi := ⟨"LeftUndoes$Swears", "takes", "(ILLeftUndoes$Trace;)I"⟩) (As := [.int a0, .ref (ha G 6)]) hk.1.1 hk.1.2.1 hk.1.2.2.2.1 (cS_good hS (Or.inr (by decide +kernel)) rfl rfl) (cS_face hS (Or.inr (by decide +kernel))) (cS_decl hS (Or.inl q1424)) (cS_pub hS (Or.inl q1423)) hsel (cS_cast hS (Or.inl q1411)) (by decide) (cRv_D (q := (RX12, TX12, 2)) hH hK (ci := 11) rfl he H hW) pd2 hd⟩
    rw [show yTakes σ d q a0 = none by unfold yTakes; rw [hc]; simp only [Option.bind_some]; rw [if_neg h7, if_neg h8, if_neg h9, if_neg h10, if_neg h11]] at hz; cases hz
end
section
variable {p : Program} {l : Launch} {e : Env} {R : Room} {s : State} {m : MethodId} {args : Array Value} {below : List Frame} {meth : Method} {c : Code}
variable {G : cG} {d : DS} {KK : State → Prop}
variable {NX : Nat} {nL : Nat} {cc : ByteArray} {fr lo frc loc : Nat} {ret : Option FieldType}
variable {pc : Nat} {σ : SS} {lv : List (Nat × Value)} {st : List Value} {τ : Type} {nf : τ → Nat} {Ψ : τ → Outcome → SS × DS → Prop} {res : XR τ}
set_option maxHeartbeats 2000000 in
theorem kz_LeftUndoes_593 {res : Int32 × SS × DS} (hk : jk p R s m args meth c (res.2.2.2 + 25) cc nL RX0 fr lo ret) (hH : cH G KK) (hK : KK s) (hlt : l.stackTraces = false) {o : Option Nat} {a0 : Int32} {K : (Int32 × SS × DS) → Option (Int32 × SS × DS)} {Hh : Nat × SS × DS → Option (Int32 × SS)} (hd : decode cc pc = .ok (.invokeinterface 593 3, 5)) (hr : 12 + 1 ≤ fr ∧ 8 + (4 + 11) + 10464 ≤ lo) (hw : (st.map fun v => v.category).sum ≤ 8) (kx : ∀ (y : Nat × SS × DS) (r' : Int32 × SS), Hh y = some r' → ∃ h, jCatch s c RX0 (yE y.1) args pc h ∧ ∀ (R : Room) (s : State) (q : Nat) (d' : DS), (y.1 ≤ 2 → q = ha G y.1) → jk p R s m args meth c d'.2 cc nL RX0 fr lo ret → KK s → jj p l e R s m args below meth c (hA G) d'.2 (jZ below args s (hA G) d'.2 (jU r') (cWo G d') (cnx d')) (cWo G d') (cnx d') nL y.2.1 h lv [.ref q] (Hh y = some r')) (kk : ∀ r : Int32 × SS × DS, jj p l e R s m args below meth c (hA G) (res.2.2.2 + 25) (jZ below args s (hA G) (res.2.2.2 + 25) (jUs res) (aWo G) anx) (cWo G r.2.2) (cnx r.2.2) nL r.2.1 (pc + 5) lv (.int r.1 :: st) (K r = some res)) : jj p l e R s m args below meth c (hA G) (res.2.2.2 + 25) (jZ below args s (hA G) (res.2.2.2 + 25) (jUs res) (aWo G) anx) (cWo G d) (cnx d) nL σ pc lv (.ref (ha G 6) :: .int a0 :: va_rf o :: st) (yh xnA d (o.bind fun q => ySplits σ d q a0) Hh K = some res) := by
  cases o with
  | none => intro hz; cases hz
  | some q =>
  intro hz
  have hS : cS0 s := (hH.2.2.2.2.2 s hK).2.2.2.2
  have hz : yh xnA d (ySplits σ d q a0) Hh K = some res := hz
  cases hc : dci d q with
  | none => rw [show ySplits σ d q a0 = none by unfold ySplits; rw [hc]; rfl] at hz; cases hz
  | some ci =>
    obtain ⟨fs, he⟩ := dci_spec hc
    by_cases h7 : ci = 7
    · subst h7
      rw [show ySplits σ d q a0 = y23_splits σ d q a0 by unfold ySplits; rw [hc]; rfl] at hz
      refine jyh_E (y := ⟨"LeftUndoes$Splits", "splits", "(ILLeftUndoes$Trace;)I"⟩) (frc := 10) (loc := 10420) (F := y23_splits σ d q a0) [.int a0, .ref (ha G 6)] hk hH hK q1459 q2238 (fun r h => cc_y23_splits l hlt hH σ d q a0 r h) (fun H hW ls => ?_) rfl hd (by omega) hw kx kk hz
      obtain ⟨mk, hsel⟩ := ySel_d (C := "LeftUndoes$Clasped") (J := "LeftUndoes$Splits") (nm := "splits") (ds := "(ILLeftUndoes$Trace;)I") (y := ⟨"LeftUndoes$Splits", "splits", "(ILLeftUndoes$Trace;)I"⟩) (A := args) (by decide) (cS_decl hS (Or.inl q1456)) (cS_lands hS (Or.inr (by decide +kernel))) (hk.1.2.2.2.2 _ q1458) (cS_pub hS (Or.inl q1455))
      exact ⟨mk, (by obtain ⟨_, _, _, _, _, _, _, _, _, _, h, _⟩ := hsel; exact h), yE_iface (J := "LeftUndoes$Splits") (xi := ⟨"LeftUndoes$Swears", "splits", "(ILLeftUndoes$Trace;)I"⟩) (As := [.int a0, .ref (ha G 6)]) hk.1.1 hk.1.2.1 hk.1.2.2.2.1 (cS_good hS (Or.inr (by decide +kernel)) rfl rfl) (cS_face hS (Or.inr (by decide +kernel))) (cS_decl hS (Or.inl q1456)) (cS_pub hS (Or.inl q1455)) hsel (cS_cast hS (Or.inl q1369)) (by decide) (cRv_D (q := (RX8, TX8, 2)) hH hK (ci := 7) rfl he H hW) pd2 hd⟩
    by_cases h8 : ci = 8
    · subst h8
      rw [show ySplits σ d q a0 = y23_splits σ d q a0 by unfold ySplits; rw [hc]; rfl] at hz
      refine jyh_E (y := ⟨"LeftUndoes$Splits", "splits", "(ILLeftUndoes$Trace;)I"⟩) (frc := 10) (loc := 10420) (F := y23_splits σ d q a0) [.int a0, .ref (ha G 6)] hk hH hK q1459 q2238 (fun r h => cc_y23_splits l hlt hH σ d q a0 r h) (fun H hW ls => ?_) rfl hd (by omega) hw kx kk hz
      obtain ⟨mk, hsel⟩ := ySel_d (C := "LeftUndoes$Forger") (J := "LeftUndoes$Splits") (nm := "splits") (ds := "(ILLeftUndoes$Trace;)I") (y := ⟨"LeftUndoes$Splits", "splits", "(ILLeftUndoes$Trace;)I"⟩) (A := args) (by decide) (cS_decl hS (Or.inl q1456)) (cS_lands hS (Or.inr (by decide +kernel))) (hk.1.2.2.2.2 _ q1458) (cS_pub hS (Or.inl q1455))
      exact ⟨mk, (by obtain ⟨_, _, _, _, _, _, _, _, _, _, h, _⟩ := hsel; exact h), yE_iface (J := "LeftUndoes$Splits") (xi := ⟨"LeftUndoes$Swears", "splits", "(ILLeftUndoes$Trace;)I"⟩) (As := [.int a0, .ref (ha G 6)]) hk.1.1 hk.1.2.1 hk.1.2.2.2.1 (cS_good hS (Or.inr (by decide +kernel)) rfl rfl) (cS_face hS (Or.inr (by decide +kernel))) (cS_decl hS (Or.inl q1456)) (cS_pub hS (Or.inl q1455)) hsel (cS_cast hS (Or.inl q1409)) (by decide) (cRv_D (q := (RX9, TX9, 2)) hH hK (ci := 8) rfl he H hW) pd2 hd⟩
    by_cases h9 : ci = 9
    · subst h9
      rw [show ySplits σ d q a0 = y23_splits σ d q a0 by unfold ySplits; rw [hc]; rfl] at hz
      refine jyh_E (y := ⟨"LeftUndoes$Splits", "splits", "(ILLeftUndoes$Trace;)I"⟩) (frc := 10) (loc := 10420) (F := y23_splits σ d q a0) [.int a0, .ref (ha G 6)] hk hH hK q1459 q2238 (fun r h => cc_y23_splits l hlt hH σ d q a0 r h) (fun H hW ls => ?_) rfl hd (by omega) hw kx kk hz
      obtain ⟨mk, hsel⟩ := ySel_d (C := "LeftUndoes$Twin") (J := "LeftUndoes$Splits") (nm := "splits") (ds := "(ILLeftUndoes$Trace;)I") (y := ⟨"LeftUndoes$Splits", "splits", "(ILLeftUndoes$Trace;)I"⟩) (A := args) (by decide) (cS_decl hS (Or.inl q1456)) (cS_lands hS (Or.inr (by decide +kernel))) (hk.1.2.2.2.2 _ q1458) (cS_pub hS (Or.inl q1455))
      exact ⟨mk, (by obtain ⟨_, _, _, _, _, _, _, _, _, _, h, _⟩ := hsel; exact h), yE_iface (J := "LeftUndoes$Splits") (xi := ⟨"LeftUndoes$Swears", "splits", "(ILLeftUndoes$Trace;)I"⟩) (As := [.int a0, .ref (ha G 6)]) hk.1.1 hk.1.2.1 hk.1.2.2.2.1 (cS_good hS (Or.inr (by decide +kernel)) rfl rfl) (cS_face hS (Or.inr (by decide +kernel))) (cS_decl hS (Or.inl q1456)) (cS_pub hS (Or.inl q1455)) hsel (cS_cast hS (Or.inl q1415)) (by decide) (cRv_D (q := (RX10, TX10, 2)) hH hK (ci := 9) rfl he H hW) pd2 hd⟩
    by_cases h10 : ci = 10
    · subst h10
      rw [show ySplits σ d q a0 = y11_splits σ d q a0 by unfold ySplits; rw [hc]; rfl] at hz
      refine jyh_E (y := ⟨"LeftUndoes$Slow", "splits", "(ILLeftUndoes$Trace;)I"⟩) (frc := 11) (loc := 10442) (F := y11_splits σ d q a0) [.int a0, .ref (ha G 6)] hk hH hK q1490 q132 (fun r h => cc_y11_splits l hlt hH σ d q a0 r h) (fun H hW ls => ?_) rfl hd (by omega) hw kx kk hz
      obtain ⟨mk, hsel⟩ := ySel_s (C := "LeftUndoes$Slow") (J := "LeftUndoes$Splits") (nm := "splits") (ds := "(ILLeftUndoes$Trace;)I") (y := ⟨"LeftUndoes$Slow", "splits", "(ILLeftUndoes$Trace;)I"⟩) (A := args) (by decide) (cS_decl hS (Or.inl q1456)) (hk.1.2.2.2.2 _ q1495) (hk.1.2.2.2.2 _ q1489) (cS_pub hS (Or.inl q1497)) (cS_unh hS (Or.inl q1496))
      exact ⟨mk, (by obtain ⟨_, _, _, _, _, _, _, _, _, _, h, _⟩ := hsel; exact h), yE_iface (J := "LeftUndoes$Splits") (xi := ⟨"LeftUndoes$Swears", "splits", "(ILLeftUndoes$Trace;)I"⟩) (As := [.int a0, .ref (ha G 6)]) hk.1.1 hk.1.2.1 hk.1.2.2.2.1 (cS_good hS (Or.inr (by decide +kernel)) rfl rfl) (cS_face hS (Or.inr (by decide +kernel))) (cS_decl hS (Or.inl q1456)) (cS_pub hS (Or.inl q1455)) hsel (cS_cast hS (Or.inl q1413)) (by decide) (cRv_D (q := (RX11, TX11, 2)) hH hK (ci := 10) rfl he H hW) pd2 hd⟩
    by_cases h11 : ci = 11
    · subst h11
      rw [show ySplits σ d q a0 = y12_splits σ d q a0 by unfold ySplits; rw [hc]; rfl] at hz
      refine jyh_E (y := ⟨"LeftUndoes$Heir", "splits", "(ILLeftUndoes$Trace;)I"⟩) (frc := 12) (loc := 10464) (F := y12_splits σ d q a0) [.int a0, .ref (ha G 6)] hk hH hK q1487 q133 (fun r h => cc_y12_splits l hlt hH σ d q a0 r h) (fun H hW ls => ?_) rfl hd (by omega) hw kx kk hz
      obtain ⟨mk, hsel⟩ := ySel_s (C := "LeftUndoes$Heir") (J := "LeftUndoes$Splits") (nm := "splits") (ds := "(ILLeftUndoes$Trace;)I") (y := ⟨"LeftUndoes$Heir", "splits", "(ILLeftUndoes$Trace;)I"⟩) (A := args) (by decide) (cS_decl hS (Or.inl q1456)) (hk.1.2.2.2.2 _ q1483) (hk.1.2.2.2.2 _ q1485) (cS_pub hS (Or.inl q1486)) (cS_unh hS (Or.inl q1484))
      exact ⟨mk, (by obtain ⟨_, _, _, _, _, _, _, _, _, _, h, _⟩ := hsel; exact h), yE_iface (J := "LeftUndoes$Splits") (xi := ⟨"LeftUndoes$Swears", "splits", "(ILLeftUndoes$Trace;)I"⟩) (As := [.int a0, .ref (ha G 6)]) hk.1.1 hk.1.2.1 hk.1.2.2.2.1 (cS_good hS (Or.inr (by decide +kernel)) rfl rfl) (cS_face hS (Or.inr (by decide +kernel))) (cS_decl hS (Or.inl q1456)) (cS_pub hS (Or.inl q1455)) hsel (cS_cast hS (Or.inl q1411)) (by decide) (cRv_D (q := (RX12, TX12, 2)) hH hK (ci := 11) rfl he H hW) pd2 hd⟩
    rw [show ySplits σ d q a0 = none by unfold ySplits; rw [hc]; simp only [Option.bind_some]; rw [if_neg h7, if_neg h8, if_neg h9, if_neg h10, if_neg h11]] at hz; cases hz
end
section
variable {p : Program} {l : Launch} {e : Env} {R : Room} {s : State} {m : MethodId} {args : Array Value} {below : List Frame} {meth : Method} {c : Code}
variable {G : cG} {d : DS} {KK : State → Prop}
variable {NX : Nat} {nL : Nat} {cc : ByteArray} {fr lo frc loc : Nat} {ret : Option FieldType}
variable {pc : Nat} {σ : SS} {lv : List (Nat × Value)} {st : List Value} {τ : Type} {nf : τ → Nat} {Ψ : τ → Outcome → SS × DS → Prop} {res : XR τ}
set_option maxHeartbeats 2000000 in
theorem kz_LeftUndoes_596 {res : Int32 × SS × DS} (hk : jk p R s m args meth c (res.2.2.2 + 25) cc nL RX0 fr lo ret) (hH : cH G KK) (hK : KK s) (hlt : l.stackTraces = false) {o : Option Nat} {a0 : Int32} {K : (Int32 × SS × DS) → Option (Int32 × SS × DS)} {Hh : Nat × SS × DS → Option (Int32 × SS)} (hd : decode cc pc = .ok (.invokeinterface 596 3, 5)) (hr : 15 + 1 ≤ fr ∧ 8 + (4 + 11) + 10530 ≤ lo) (hw : (st.map fun v => v.category).sum ≤ 8) (kx : ∀ (y : Nat × SS × DS) (r' : Int32 × SS), Hh y = some r' → ∃ h, jCatch s c RX0 (yE y.1) args pc h ∧ ∀ (R : Room) (s : State) (q : Nat) (d' : DS), (y.1 ≤ 2 → q = ha G y.1) → jk p R s m args meth c d'.2 cc nL RX0 fr lo ret → KK s → jj p l e R s m args below meth c (hA G) d'.2 (jZ below args s (hA G) d'.2 (jU r') (cWo G d') (cnx d')) (cWo G d') (cnx d') nL y.2.1 h lv [.ref q] (Hh y = some r')) (kk : ∀ r : Int32 × SS × DS, jj p l e R s m args below meth c (hA G) (res.2.2.2 + 25) (jZ below args s (hA G) (res.2.2.2 + 25) (jUs res) (aWo G) anx) (cWo G r.2.2) (cnx r.2.2) nL r.2.1 (pc + 5) lv (.int r.1 :: st) (K r = some res)) : jj p l e R s m args below meth c (hA G) (res.2.2.2 + 25) (jZ below args s (hA G) (res.2.2.2 + 25) (jUs res) (aWo G) anx) (cWo G d) (cnx d) nL σ pc lv (.ref (ha G 6) :: .int a0 :: va_rf o :: st) (yh xnA d (o.bind fun q => ySwears σ d q a0) Hh K = some res) := by
  cases o with
  | none => intro hz; cases hz
  | some q =>
  intro hz
  have hS : cS0 s := (hH.2.2.2.2.2 s hK).2.2.2.2
  have hz : yh xnA d (ySwears σ d q a0) Hh K = some res := hz
  cases hc : dci d q with
  | none => rw [show ySwears σ d q a0 = none by unfold ySwears; rw [hc]; rfl] at hz; cases hz
  | some ci =>
    obtain ⟨fs, he⟩ := dci_spec hc
    by_cases h7 : ci = 7
    · subst h7
      rw [show ySwears σ d q a0 = y24_swears σ d q a0 by unfold ySwears; rw [hc]; rfl] at hz
      refine jyh_E (y := ⟨"LeftUndoes$Swears", "swears", "(ILLeftUndoes$Trace;)I"⟩) (frc := 14) (loc := 10508) (F := y24_swears σ d q a0) [.int a0, .ref (ha G 6)] hk hH hK q1506 q2239 (fun r h => cc_y24_swears l hlt hH σ d q a0 r h) (fun H hW ls => ?_) rfl hd (by omega) hw kx kk hz
      obtain ⟨mk, hsel⟩ := ySel_d (C := "LeftUndoes$Clasped") (J := "LeftUndoes$Swears") (nm := "swears") (ds := "(ILLeftUndoes$Trace;)I") (y := ⟨"LeftUndoes$Swears", "swears", "(ILLeftUndoes$Trace;)I"⟩) (A := args) (by decide) (cS_decl hS (Or.inl q1502)) (cS_lands hS (Or.inr (by decide +kernel))) (hk.1.2.2.2.2 _ q1504) (cS_pub hS (Or.inl q1505))
      exact ⟨mk, (by obtain ⟨_, _, _, _, _, _, _, _, _, _, h, _⟩ := hsel; exact h), yE_iface (J := "LeftUndoes$Swears") (xi := ⟨"LeftUndoes$Swears", "swears", "(ILLeftUndoes$Trace;)I"⟩) (As := [.int a0, .ref (ha G 6)]) hk.1.1 hk.1.2.1 hk.1.2.2.2.1 (hk.1.2.2.2.2 _ q1500) (cS_face hS (Or.inl q1501)) (cS_decl hS (Or.inl q1502)) (cS_pub hS (Or.inl q1505)) hsel (cS_cast hS (Or.inl q1369)) (by decide) (cRv_D (q := (RX8, TX8, 2)) hH hK (ci := 7) rfl he H hW) pd2 hd⟩
    by_cases h8 : ci = 8
    · subst h8
      rw [show ySwears σ d q a0 = y24_swears σ d q a0 by unfold ySwears; rw [hc]; rfl] at hz
      refine jyh_E (y := ⟨"LeftUndoes$Swears", "swears", "(ILLeftUndoes$Trace;)I"⟩) (frc := 14) (loc := 10508) (F := y24_swears σ d q a0) [.int a0, .ref (ha G 6)] hk hH hK q1506 q2239 (fun r h => cc_y24_swears l hlt hH σ d q a0 r h) (fun H hW ls => ?_) rfl hd (by omega) hw kx kk hz
      obtain ⟨mk, hsel⟩ := ySel_d (C := "LeftUndoes$Forger") (J := "LeftUndoes$Swears") (nm := "swears") (ds := "(ILLeftUndoes$Trace;)I") (y := ⟨"LeftUndoes$Swears", "swears", "(ILLeftUndoes$Trace;)I"⟩) (A := args) (by decide) (cS_decl hS (Or.inl q1502)) (cS_lands hS (Or.inr (by decide +kernel))) (hk.1.2.2.2.2 _ q1504) (cS_pub hS (Or.inl q1505))
      exact ⟨mk, (by obtain ⟨_, _, _, _, _, _, _, _, _, _, h, _⟩ := hsel; exact h), yE_iface (J := "LeftUndoes$Swears") (xi := ⟨"LeftUndoes$Swears", "swears", "(ILLeftUndoes$Trace;)I"⟩) (As := [.int a0, .ref (ha G 6)]) hk.1.1 hk.1.2.1 hk.1.2.2.2.1 (hk.1.2.2.2.2 _ q1500) (cS_face hS (Or.inl q1501)) (cS_decl hS (Or.inl q1502)) (cS_pub hS (Or.inl q1505)) hsel (cS_cast hS (Or.inl q1409)) (by decide) (cRv_D (q := (RX9, TX9, 2)) hH hK (ci := 8) rfl he H hW) pd2 hd⟩
    by_cases h9 : ci = 9
    · subst h9
      rw [show ySwears σ d q a0 = y10_swears σ d q a0 by unfold ySwears; rw [hc]; rfl] at hz
      refine jyh_E (y := ⟨"LeftUndoes$Twin", "swears", "(ILLeftUndoes$Trace;)I"⟩) (frc := 15) (loc := 10530) (F := y10_swears σ d q a0) [.int a0, .ref (ha G 6)] hk hH hK q1517 q131 (fun r h => cc_y10_swears l hlt hH σ d q a0 r h) (fun H hW ls => ?_) rfl hd (by omega) hw kx kk hz
      obtain ⟨mk, hsel⟩ := ySel_s (C := "LeftUndoes$Twin") (J := "LeftUndoes$Swears") (nm := "swears") (ds := "(ILLeftUndoes$Trace;)I") (y := ⟨"LeftUndoes$Twin", "swears", "(ILLeftUndoes$Trace;)I"⟩) (A := args) (by decide) (cS_decl hS (Or.inl q1502)) (hk.1.2.2.2.2 _ q1513) (hk.1.2.2.2.2 _ q1515) (cS_pub hS (Or.inl q1516)) (cS_unh hS (Or.inl q1514))
      exact ⟨mk, (by obtain ⟨_, _, _, _, _, _, _, _, _, _, h, _⟩ := hsel; exact h), yE_iface (J := "LeftUndoes$Swears") (xi := ⟨"LeftUndoes$Swears", "swears", "(ILLeftUndoes$Trace;)I"⟩) (As := [.int a0, .ref (ha G 6)]) hk.1.1 hk.1.2.1 hk.1.2.2.2.1 (hk.1.2.2.2.2 _ q1500) (cS_face hS (Or.inl q1501)) (cS_decl hS (Or.inl q1502)) (cS_pub hS (Or.inl q1505)) hsel (cS_cast hS (Or.inl q1415)) (by decide) (cRv_D (q := (RX10, TX10, 2)) hH hK (ci := 9) rfl he H hW) pd2 hd⟩
    by_cases h10 : ci = 10
    · subst h10
      rw [show ySwears σ d q a0 = y24_swears σ d q a0 by unfold ySwears; rw [hc]; rfl] at hz
      refine jyh_E (y := ⟨"LeftUndoes$Swears", "swears", "(ILLeftUndoes$Trace;)I"⟩) (frc := 14) (loc := 10508) (F := y24_swears σ d q a0) [.int a0, .ref (ha G 6)] hk hH hK q1506 q2239 (fun r h => cc_y24_swears l hlt hH σ d q a0 r h) (fun H hW ls => ?_) rfl hd (by omega) hw kx kk hz
      obtain ⟨mk, hsel⟩ := ySel_d (C := "LeftUndoes$Slow") (J := "LeftUndoes$Swears") (nm := "swears") (ds := "(ILLeftUndoes$Trace;)I") (y := ⟨"LeftUndoes$Swears", "swears", "(ILLeftUndoes$Trace;)I"⟩) (A := args) (by decide) (cS_decl hS (Or.inl q1502)) (cS_lands hS (Or.inr (by decide +kernel))) (hk.1.2.2.2.2 _ q1504) (cS_pub hS (Or.inl q1505))
      exact ⟨mk, (by obtain ⟨_, _, _, _, _, _, _, _, _, _, h, _⟩ := hsel; exact h), yE_iface (J := "LeftUndoes$Swears") (xi := ⟨"LeftUndoes$Swears", "swears", "(ILLeftUndoes$Trace;)I"⟩) (As := [.int a0, .ref (ha G 6)]) hk.1.1 hk.1.2.1 hk.1.2.2.2.1 (hk.1.2.2.2.2 _ q1500) (cS_face hS (Or.inl q1501)) (cS_decl hS (Or.inl q1502)) (cS_pub hS (Or.inl q1505)) hsel (cS_cast hS (Or.inl q1413)) (by decide) (cRv_D (q := (RX11, TX11, 2)) hH hK (ci := 10) rfl he H hW) pd2 hd⟩
    by_cases h11 : ci = 11
    · subst h11
      rw [show ySwears σ d q a0 = y24_swears σ d q a0 by unfold ySwears; rw [hc]; rfl] at hz
      refine jyh_E (y := ⟨"LeftUndoes$Swears", "swears", "(ILLeftUndoes$Trace;)I"⟩) (frc := 14) (loc := 10508) (F := y24_swears σ d q a0) [.int a0, .ref (ha G 6)] hk hH hK q1506 q2239 (fun r h => cc_y24_swears l hlt hH σ d q a0 r h) (fun H hW ls => ?_) rfl hd (by omega) hw kx kk hz
      obtain ⟨mk, hsel⟩ := ySel_d (C := "LeftUndoes$Heir") (J := "LeftUndoes$Swears") (nm := "swears") (ds := "(ILLeftUndoes$Trace;)I") (y := ⟨"LeftUndoes$Swears", "swears", "(ILLeftUndoes$Trace;)I"⟩) (A := args) (by decide) (cS_decl hS (Or.inl q1502)) (cS_lands hS (Or.inr (by decide +kernel))) (hk.1.2.2.2.2 _ q1504) (cS_pub hS (Or.inl q1505))
      exact ⟨mk, (by obtain ⟨_, _, _, _, _, _, _, _, _, _, h, _⟩ := hsel; exact h), yE_iface (J := "LeftUndoes$Swears") (xi := ⟨"LeftUndoes$Swears", "swears", "(ILLeftUndoes$Trace;)I"⟩) (As := [.int a0, .ref (ha G 6)]) hk.1.1 hk.1.2.1 hk.1.2.2.2.1 (hk.1.2.2.2.2 _ q1500) (cS_face hS (Or.inl q1501)) (cS_decl hS (Or.inl q1502)) (cS_pub hS (Or.inl q1505)) hsel (cS_cast hS (Or.inl q1411)) (by decide) (cRv_D (q := (RX12, TX12, 2)) hH hK (ci := 11) rfl he H hW) pd2 hd⟩
    rw [show ySwears σ d q a0 = none by unfold ySwears; rw [hc]; simp only [Option.bind_some]; rw [if_neg h7, if_neg h8, if_neg h9, if_neg h10, if_neg h11]] at hz; cases hz
end
section
variable {p : Program} {l : Launch} {e : Env} {R : Room} {s : State} {m : MethodId} {args : Array Value} {below : List Frame} {meth : Method} {c : Code}
variable {G : cG} {KK : State → Prop}
set_option maxHeartbeats 4000000 in
theorem wb_f0_act_B33 {res : (Int32 × SS × DS)} (hk : jk p R s m args meth c (res.2.2.2 + 25) cX0_act 7 RX0 16 10570 (some .int)) (hH : cH G KK) (hK : KK s) (htb : c.exceptionTable.toList = tableOf eX0_act) (hlt : l.stackTraces = false)  (σ : SS) (d : DS) (x2 : Int32) (x3 : Int32) (y0 : Option Nat) : jj p l e R s m args below meth c (hA G) (res.2.2.2 + 25) (jZ below args s (hA G) (res.2.2.2 + 25) (jUs res) (aWo G) anx) (cWo G d) (cnx d) 7 σ 33 [(0, .ref (ha G 0)), (2, .int x2), (3, .int x3)] [va_rf y0] (f0_act_B33 σ d x2 x3 y0 = some res) := by
  unfold f0_act_B33
  refine jj_astoreo hk (pc := 33) (x := y0) [(4, va_rf y0), (0, .ref (ha G 0)), (2, .int x2), (3, .int x3)] dX0_act_33 (Nat.le_of_ble_eq_true rfl) rfl ?_
  refine jj_aloado hk (pc := 35) (x := y0) dX0_act_35 0 rfl ?_
  refine jy_inst (pc := 37) (o := y0) hk hH hK q1365 dX0_act_37 (fun b1 => ?_)
  refine jj_if_ne_b hk (pc := 40) 45 dX0_act_40 (by decide) ?_ ?_
  · refine jj_aloado hk (pc := 45) (x := y0) dX0_act_45 0 rfl ?_
    refine jy_castK (pc := 47) (o := y0) hk hH hK q1365 dX0_act_47 ?_
    refine jj_astoreo hk (pc := 50) (x := y0) [(5, va_rf y0), (4, va_rf y0), (0, .ref (ha G 0)), (2, .int x2), (3, .int x3)] dX0_act_50 (Nat.le_of_ble_eq_true rfl) (by cases y0 <;> rfl) ?_
    refine jj_iload_n hk (pc := 52) dX0_act_52 3 rfl rfl ?_
    refine jj_ite (fun c_53_0 => ?_) (fun c_53_0 => ?_)
    · refine jj_tIn hk (pc := 53) (k := (0 : Int32)) (t := 0) 80 c_53_0 dX0_act_53 (by decide) rfl rfl (by decide) ?_
      refine jj_aloado hk (pc := 80) (x := y0) dX0_act_80 0 rfl ?_
      refine jj_iload_n hk (pc := 82) dX0_act_82 4 rfl rfl ?_
      refine jj_aload_n hk (pc := 83) dX0_act_83 2 rfl rfl ?_
      refine jc_g_trace hk hH hK (pc := 84) dX0_act_84 ?_
      refine kz_LeftUndoes_586 hk hH hK hlt (pc := 87) (o := y0) (a0 := x3) (Hh := fun y => (if y.1 = 6 then some ((-15 : Int32), y.2.1) else none)) dX0_act_87 ⟨Nat.le_of_ble_eq_true rfl, Nat.le_of_ble_eq_true rfl⟩ (Nat.le_of_ble_eq_true rfl) (fun y r' hz => ?_) (fun r2 => ?_)
      · skip
        by_cases c6 : y.1 = 6
        · have h9 : (some ((-15 : Int32), y.2.1)) = some r' := (if_pos c6).symm.trans (hz)
          refine ⟨132, by rw [c6]; exact ⟨[], (⟨52, 92, 132, 599⟩ : ExceptionTableEntry), [⟨93, 105, 132, 599⟩, ⟨106, 118, 132, 599⟩, ⟨119, 131, 132, 599⟩], "java/lang/ArithmeticException", by rw [htb]; rfl, (fun z hz => nomatch hz), by decide, by decide, q1351, (List.mem_of_getElem? (i := 29) rfl), rfl⟩, fun R s q d' hq hk hK => ?_⟩
          refine jj_eq (Z' := (some ((-15 : Int32), y.2.1)) = some r') (fun _ => h9) ?_
          refine jj_astore hk (pc := 132) [(6, .ref q), (5, va_rf y0), (4, va_rf y0), (0, .ref (ha G 0)), (2, .int x2), (3, .int x3)] dX0_act_132 (Nat.le_of_ble_eq_true rfl) (by cases y0 <;> rfl) ?_
          refine jj_bipush hk (pc := 134) (v := (-15 : Int32)) dX0_act_134 (by decide) ?_
          exact jc_retUi hk (pc := 136) dX0_act_136
        exact absurd (show (none : Option (Int32 × SS)) = some r' from (if_neg c6).symm.trans (hz)) (fun h => by cases h)
      exact jy_retUs hk (pc := 92) dX0_act_92
    refine jj_ite (fun c_53_1 => ?_) (fun c_53_1 => ?_)
    · refine jj_tIn hk (pc := 53) (k := (1 : Int32)) (t := 1) 93 c_53_1 dX0_act_53 (by decide) rfl rfl (by decide) ?_
      refine jj_aloado hk (pc := 93) (x := y0) dX0_act_93 0 rfl ?_
      refine jj_iload_n hk (pc := 95) dX0_act_95 4 rfl rfl ?_
      refine jj_aload_n hk (pc := 96) dX0_act_96 2 rfl rfl ?_
      refine jc_g_trace hk hH hK (pc := 97) dX0_act_97 ?_
      refine kz_LeftUndoes_590 hk hH hK hlt (pc := 100) (o := y0) (a0 := x3) (Hh := fun y => (if y.1 = 6 then some ((-15 : Int32), y.2.1) else none)) dX0_act_100 ⟨Nat.le_of_ble_eq_true rfl, Nat.le_of_ble_eq_true rfl⟩ (Nat.le_of_ble_eq_true rfl) (fun y r' hz => ?_) (fun r3 => ?_)
      · skip
        by_cases c6 : y.1 = 6
        · have h9 : (some ((-15 : Int32), y.2.1)) = some r' := (if_pos c6).symm.trans (hz)
          refine ⟨132, by rw [c6]; exact ⟨[⟨52, 92, 132, 599⟩], (⟨93, 105, 132, 599⟩ : ExceptionTableEntry), [⟨106, 118, 132, 599⟩, ⟨119, 131, 132, 599⟩], "java/lang/ArithmeticException", by rw [htb]; rfl, (fun z hz => by rw [List.mem_singleton.mp hz]; exact Or.inl (by decide)), by decide, by decide, q1351, (List.mem_of_getElem? (i := 29) rfl), rfl⟩, fun R s q d' hq hk hK => ?_⟩
          refine jj_eq (Z' := (some ((-15 : Int32), y.2.1)) = some r') (fun _ => h9) ?_
          refine jj_astore hk (pc := 132) [(6, .ref q), (5, va_rf y0), (4, va_rf y0), (0, .ref (ha G 0)), (2, .int x2), (3, .int x3)] dX0_act_132 (Nat.le_of_ble_eq_true rfl) (by cases y0 <;> rfl) ?_
          refine jj_bipush hk (pc := 134) (v := (-15 : Int32)) dX0_act_134 (by decide) ?_
          exact jc_retUi hk (pc := 136) dX0_act_136
        exact absurd (show (none : Option (Int32 × SS)) = some r' from (if_neg c6).symm.trans (hz)) (fun h => by cases h)
      exact jy_retUs hk (pc := 105) dX0_act_105
    refine jj_ite (fun c_53_2 => ?_) (fun c_53_2 => ?_)
    · refine jj_tIn hk (pc := 53) (k := (2 : Int32)) (t := 2) 106 c_53_2 dX0_act_53 (by decide) rfl rfl (by decide) ?_
      refine jj_aloado hk (pc := 106) (x := y0) dX0_act_106 0 rfl ?_
      refine jj_iload_n hk (pc := 108) dX0_act_108 4 rfl rfl ?_
      refine jj_aload_n hk (pc := 109) dX0_act_109 2 rfl rfl ?_
      refine jc_g_trace hk hH hK (pc := 110) dX0_act_110 ?_
      refine kz_LeftUndoes_593 hk hH hK hlt (pc := 113) (o := y0) (a0 := x3) (Hh := fun y => (if y.1 = 6 then some ((-15 : Int32), y.2.1) else none)) dX0_act_113 ⟨Nat.le_of_ble_eq_true rfl, Nat.le_of_ble_eq_true rfl⟩ (Nat.le_of_ble_eq_true rfl) (fun y r' hz => ?_) (fun r4 => ?_)
      · skip
        by_cases c6 : y.1 = 6
        · have h9 : (some ((-15 : Int32), y.2.1)) = some r' := (if_pos c6).symm.trans (hz)
          refine ⟨132, by rw [c6]; exact ⟨[⟨52, 92, 132, 599⟩, ⟨93, 105, 132, 599⟩], (⟨106, 118, 132, 599⟩ : ExceptionTableEntry), [⟨119, 131, 132, 599⟩], "java/lang/ArithmeticException", by rw [htb]; rfl, (fun z hz => Or.inl (by revert hz; revert z; decide)), by decide, by decide, q1351, (List.mem_of_getElem? (i := 29) rfl), rfl⟩, fun R s q d' hq hk hK => ?_⟩
          refine jj_eq (Z' := (some ((-15 : Int32), y.2.1)) = some r') (fun _ => h9) ?_
          refine jj_astore hk (pc := 132) [(6, .ref q), (5, va_rf y0), (4, va_rf y0), (0, .ref (ha G 0)), (2, .int x2), (3, .int x3)] dX0_act_132 (Nat.le_of_ble_eq_true rfl) (by cases y0 <;> rfl) ?_
          refine jj_bipush hk (pc := 134) (v := (-15 : Int32)) dX0_act_134 (by decide) ?_
          exact jc_retUi hk (pc := 136) dX0_act_136
        exact absurd (show (none : Option (Int32 × SS)) = some r' from (if_neg c6).symm.trans (hz)) (fun h => by cases h)
      exact jy_retUs hk (pc := 118) dX0_act_118
    refine jj_tOut hk (pc := 53) 119 dX0_act_53 ?_ (by decide) ?_
    · have q0 := lv_neT (a := 0) c_53_0 (by decide); have q1 := lv_neT (a := 1) c_53_1 (by decide); have q2 := lv_neT (a := 2) c_53_2 (by decide); omega
    refine jj_aloado hk (pc := 119) (x := y0) dX0_act_119 0 rfl ?_
    refine jj_iload_n hk (pc := 121) dX0_act_121 4 rfl rfl ?_
    refine jj_aload_n hk (pc := 122) dX0_act_122 2 rfl rfl ?_
    refine jc_g_trace hk hH hK (pc := 123) dX0_act_123 ?_
    refine kz_LeftUndoes_596 hk hH hK hlt (pc := 126) (o := y0) (a0 := x3) (Hh := fun y => (if y.1 = 6 then some ((-15 : Int32), y.2.1) else none)) dX0_act_126 ⟨Nat.le_of_ble_eq_true rfl, Nat.le_of_ble_eq_true rfl⟩ (Nat.le_of_ble_eq_true rfl) (fun y r' hz => ?_) (fun r5 => ?_)
    · skip
      by_cases c6 : y.1 = 6
      · have h9 : (some ((-15 : Int32), y.2.1)) = some r' := (if_pos c6).symm.trans (hz)
        refine ⟨132, by rw [c6]; exact ⟨[⟨52, 92, 132, 599⟩, ⟨93, 105, 132, 599⟩, ⟨106, 118, 132, 599⟩], (⟨119, 131, 132, 599⟩ : ExceptionTableEntry), [], "java/lang/ArithmeticException", by rw [htb]; rfl, (fun z hz => Or.inl (by revert hz; revert z; decide)), by decide, by decide, q1351, (List.mem_of_getElem? (i := 29) rfl), rfl⟩, fun R s q d' hq hk hK => ?_⟩
        refine jj_eq (Z' := (some ((-15 : Int32), y.2.1)) = some r') (fun _ => h9) ?_
        refine jj_astore hk (pc := 132) [(6, .ref q), (5, va_rf y0), (4, va_rf y0), (0, .ref (ha G 0)), (2, .int x2), (3, .int x3)] dX0_act_132 (Nat.le_of_ble_eq_true rfl) (by cases y0 <;> rfl) ?_
        refine jj_bipush hk (pc := 134) (v := (-15 : Int32)) dX0_act_134 (by decide) ?_
        exact jc_retUi hk (pc := 136) dX0_act_136
      exact absurd (show (none : Option (Int32 × SS)) = some r' from (if_neg c6).symm.trans (hz)) (fun h => by cases h)
    exact jy_retUs hk (pc := 131) dX0_act_131
  · refine jj_iconst hk (pc := 43) (v := (0 : Int32)) dX0_act_43 (by decide) ?_
    exact jy_retUs hk (pc := 44) dX0_act_44
set_option maxHeartbeats 4000000 in
theorem cc_f0_act (l : Launch) (hlt : l.stackTraces = false) {G : cG} {KK : State → Prop} (hH : cH G KK)  (σ : SS) (d : DS) (a0 : Int32) (a1 : Int32) (a2 : Int32) (res : (Int32 × SS × DS)) (hf : f0_act σ d a0 a1 a2 = some res) : jM l yX0_act (wsW_ yX0_act cX0_act 7 (some .int) eX0_act) 16 10570 [.ref (ha G 0), .int a0, .int a1, .int a2] (aWo G) anx KK (σ, d) (jUs res) (hA G) (res.2.2.2 + 25) := by
  refine jj_startH [(0, .ref (ha G 0)), (1, .int a0), (2, .int a1), (3, .int a2)] (by decide) (Nat.le_of_ble_eq_true rfl) rfl (fun p e R s m args below meth c hk hK htb => ?_) hf
  have hk : jk p R s m args meth c (res.2.2.2 + 25) cX0_act 7 RX0 16 10570 (some .int) := hk
  refine ja_in ?_
  unfold f0_act
  refine jj_aload_n hk (pc := 0) dX0_act_0 0 rfl rfl ?_
  refine jc_g_trace hk hH hK (pc := 1) dX0_act_1 ?_
  refine jj_iconst hk (pc := 4) (v := (0 : Int32)) dX0_act_4 (by decide) ?_
  refine jc_np_many hk hH hK (pc := 5) dX0_act_5 (fun σ1 => ?_)
  refine jj_iload_n hk (pc := 8) dX0_act_8 1 rfl rfl ?_
  refine kc_X0_0_isShelf hk hH hK (pc := 9) (a0 := a0) (fun r h => cc_f0_isShelf l hH d σ1 a0 r h) dX0_act_9 ⟨Nat.le_of_ble_eq_true rfl, Nat.le_of_ble_eq_true rfl⟩ (Nat.le_of_ble_eq_true rfl) (fun r2 => ?_)
  refine jj_if_eq_b hk (pc := 12) 32 dX0_act_12 (by decide) ?_ ?_
  · refine jj_null hk (pc := 32) dX0_act_32 ?_
    refine jj_loc [(0, .ref (ha G 0)), (2, .int a1), (3, .int a2)] [0, 2, 3] rfl ?_
    exact wb_f0_act_B33 hk hH hK htb hlt σ1 d a1 a2 none
  · refine jj_iload_n hk (pc := 15) dX0_act_15 2 rfl rfl ?_
    refine jj_iconst hk (pc := 16) (v := (0 : Int32)) dX0_act_16 (by decide) ?_
    refine jj_iconst hk (pc := 17) (v := (3 : Int32)) dX0_act_17 (by decide) ?_
    refine kc_X0_0_isIn hk hH hK (pc := 18) (a0 := a1) (a1 := (0 : Int32)) (a2 := (3 : Int32)) (fun r h => cc_f0_isIn l hH d σ1 a1 (0 : Int32) (3 : Int32) r h) dX0_act_18 ⟨Nat.le_of_ble_eq_true rfl, Nat.le_of_ble_eq_true rfl⟩ (Nat.le_of_ble_eq_true rfl) (fun r3 => ?_)
    refine jj_if_eq_b hk (pc := 21) 32 dX0_act_21 (by decide) ?_ ?_
    · refine jj_null hk (pc := 32) dX0_act_32 ?_
      refine jj_loc [(0, .ref (ha G 0)), (2, .int a1), (3, .int a2)] [0, 2, 3] rfl ?_
      exact wb_f0_act_B33 hk hH hK htb hlt σ1 d a1 a2 none
    · refine jj_aload_n hk (pc := 24) dX0_act_24 0 rfl rfl ?_
      refine jj_iload_n hk (pc := 25) dX0_act_25 1 rfl rfl ?_
      refine kyh_X0_0_held hk hH hK (pc := 26) (a0 := a0) (Hh := fun y => none) (fun r h => cc_f0_held l hlt hH σ1 d a0 r h) dX0_act_26 ⟨Nat.le_of_ble_eq_true rfl, Nat.le_of_ble_eq_true rfl⟩ (Nat.le_of_ble_eq_true rfl) (fun y r' hz => ?_) (fun r4 => ?_)
      · skip
        exact absurd (show (none : Option (Int32 × SS)) = some r' from hz) (fun h => by cases h)
      refine jj_goto hk (pc := 29) 33 dX0_act_29 (by decide) ?_
      refine jj_loc [(0, .ref (ha G 0)), (2, .int a1), (3, .int a2)] [0, 2, 3] rfl ?_
      exact wb_f0_act_B33 hk hH hK htb hlt r4.2.1 r4.2.2 a1 a2 r4.1
end
