/-! WORDS OF THE START, SEEN FROM A STATE OF THE RUN; calls by their entries -/
set_option maxRecDepth 100000
theorem cS_src {s : State} (h : cS0 s) {w : Cond} (hm : w ∈ lw_tbl ∨ w ∈ flatC (Jvm.Cond.and given_1 narrow_1)) : ∃ (u : State) (A0 : Array Value), u.WarmedH s.vm ∧ w.before A0 u = true := by
  obtain ⟨u, A0, hW, h1, h2, -⟩ := h
  rcases hm with hm | hm
  · exact ⟨u, A0, hW, h1 w hm⟩
  · exact ⟨u, A0, hW, flat_of_before _ h2 w hm⟩
theorem cS_tr {u s : State} {c : Cond} {A A' : Array Value} (hc : c.onTables = true) (h : c.before A (u.setVm s.vm) = true) : c.before A' s = true := by
  have e := Cond.onTables_vm (A := A) (A' := A') (U := u) (U' := s) s.vm c hc
  have hU : s.setVm s.vm = s := rfl
  rw [hU] at e
  rw [← e]
  exact h
theorem cS_good {s : State} (h : cS0 s) {w : Cond} {A : Array Value} (hm : w ∈ lw_tbl ∨ w ∈ flatC (Jvm.Cond.and given_1 narrow_1)) (hc : w.onTables = true) (hk : w.keeps = true) : w.before A s = true := by
  obtain ⟨u, A0, hW, hb⟩ := cS_src h hm
  exact Cond.onTables_warm (T := s) hW hc hk hb
theorem cS_decl {s : State} (h : cS0 s) {x : MethodName} {A : Array Value} (hm : Cond.declares x ∈ lw_tbl ∨ Cond.declares x ∈ flatC (Jvm.Cond.and given_1 narrow_1)) : (Cond.declares x).before A s = true := by
  obtain ⟨u, A0, hW, hb⟩ := cS_src h hm
  exact cS_tr rfl (by rw [Cond.declares_setVm hW.alike]; exact hb)
theorem cS_pub {s : State} (h : cS0 s) {x : MethodName} {A : Array Value} (hm : Cond.publicMethod x ∈ lw_tbl ∨ Cond.publicMethod x ∈ flatC (Jvm.Cond.and given_1 narrow_1)) : (Cond.publicMethod x).before A s = true := by
  obtain ⟨u, A0, hW, hb⟩ := cS_src h hm
  exact cS_tr rfl (by rw [Cond.publicMethod_setVm hW.alike]; exact hb)
theorem cS_unh {s : State} (h : cS0 s) {C n ds : String} {A : Array Value} (hm : Cond.unhidden C n ds ∈ lw_tbl ∨ Cond.unhidden C n ds ∈ flatC (Jvm.Cond.and given_1 narrow_1)) : (Cond.unhidden C n ds).before A s = true := by
  obtain ⟨u, A0, hW, hb⟩ := cS_src h hm
  exact cS_tr rfl (by rw [Cond.unhidden_setVm hW.alike]; exact hb)
theorem cS_cast {s : State} (h : cS0 s) {C T : String} {A : Array Value} (hm : Cond.castable C T ∈ lw_tbl ∨ Cond.castable C T ∈ flatC (Jvm.Cond.and given_1 narrow_1)) : (Cond.castable C T).before A s = true := by
  obtain ⟨u, A0, hW, hb⟩ := cS_src h hm
  exact cS_tr rfl (by rw [Cond.castable_setVm hW.alike]; exact hb)
theorem cS_face {s : State} (h : cS0 s) {r J n ds : String} {A : Array Value} (hm : Cond.interfaceMethod r J n ds ∈ lw_tbl ∨ Cond.interfaceMethod r J n ds ∈ flatC (Jvm.Cond.and given_1 narrow_1)) : (Cond.interfaceMethod r J n ds).before A s = true := by
  obtain ⟨u, A0, hW, hb⟩ := cS_src h hm
  have e : (Cond.interfaceMethod r J n ds).before A0 (u.setVm s.vm) = (Cond.interfaceMethod r J n ds).before A0 u := by
    simp only [Cond.before, Cond.holds, Cond.value, State.vm_setVm, hW.alike.findClass, State.methodFound?_setVm hW.alike, State.methodNamed?_setVm hW.alike, arm_isInterface_setVm hW.alike]
  exact cS_tr rfl (by rw [e]; exact hb)
theorem cS_lands {s : State} (h : cS0 s) {C : String} {x y : MethodName} {A : Array Value} (hm : Cond.landsInDefault C x y ∈ lw_tbl ∨ Cond.landsInDefault C x y ∈ flatC (Jvm.Cond.and given_1 narrow_1)) : (Cond.landsInDefault C x y).before A s = true := by
  obtain ⟨u, A0, hW, hb⟩ := cS_src h hm
  have h1 : (Cond.landsInDefault C x y).before A0 (u.setVm s.vm) = true := (Cond.landsInDefault_setVm hW.alike (State.methodFound?_setVm hW.alike _ _ _)).trans hb
  exact h1
section
variable {p : Program} {l : Launch} {e : Env} {R : Room} {s : State} {m : MethodId} {args : Array Value} {below : List Frame} {meth : Method} {c : Code}
variable {nL : Nat} {cc : ByteArray} {fr lo frc loc : Nat} {ret : Option FieldType} {own : String}
variable {pc : Nat} {σ : SS} {lv : List (Nat × Value)} {st : List Value} {G : cG} {d : DS} {KK : State → Prop} {τ : Type} {nf : τ → Nat} {Ψ : τ → Outcome → SS × DS → Prop} {res : XR τ}
/-- invokevirtual of a superclass's method -/
theorem yE_virtU {H : Heap} {C : String} {index : Nat} {x y : MethodName} {b : Addr} {As rest : List Value} {ls : Array Slot} (hexec : p.tables.exec = Jvm.exec) (hb : c.code = cc) (hown : s.vm.findClass own = some m.cls) (hlink : (Cond.methodLink own index x).before args s = true) (hsame : (Cond.sameMethod x.cls y.cls x.name x.desc).before args s = true) (hyx : y = ⟨y.cls, x.name, x.desc⟩) (hdecl : (Cond.declares y).before args s = true) (howner : y.cls ≠ "java/lang/invoke/MethodHandle" ∧ y.cls ≠ "java/lang/invoke/VarHandle")
    (hsel : (Cond.selects C x y).before args s = true) (hinst : (Cond.instanceMethod y).before args s = true) (hrv : ∃ cell : Cell, H[b]? = some cell ∧ cell.vm.isStatics = false ∧ s.vm.findClass C = some cell.cls) (hlen : (parseMethodDescriptor x.desc).map (fun d => d.parameters.length) = some As.length) (hdg : decode cc pc = .ok (.invokevirtual index, 3)) :
    ∃ mk, s.methodNamed? y = some mk ∧ yEnt p l e R s m args below meth c H (F0 m pc ls (As.reverse ++ .ref b :: rest)) rest mk (Value.ref b :: As).toArray := by
  obtain ⟨r0, r, hn, hrm, hstR, hsigR⟩ := Cond.declares_spec hdecl
  obtain ⟨cn, ck, r1, hcn, hck, hni, hf, hn1⟩ := Cond.sameMethod_found hsame
  rw [← hyx] at hn1
  cases hn.symm.trans hn1
  obtain ⟨mk, methM, hnamed, hmethM, -, habM⟩ := Cond.instanceMethod_spec hinst
  cases hn.symm.trans hnamed
  obtain ⟨c2, r2, m2, q1, q2, q3, q4, kP, hkP, hkPi⟩ := Cond.selects_spec hsel
  cases hf.symm.trans q2
  cases hn.symm.trans q3
  refine ⟨r0, hn, fun T locs cells slots hT X => ?_⟩
  obtain ⟨cell, g1, g2, g3⟩ := hrv
  cases g3.symm.trans q1
  have hselP : selectMethod e.platform s.vm cell.cls r0 = .method r0 := by rw [Launch.admits_selectMethod X.admits]; exact q4
  have hlen' : As.length = r.sig.parameters.length := by have h := hsigR; rw [show parseMethodDescriptor x.desc = some r.sig by rw [hyx] at h; exact h] at hlen; exact (Option.some.inj hlen).symm
  exact X.invokevirtualUp hexec hown hlink hsame howner (by rw [← hyx]; exact hn) hrm hstR (a := b) (cell := cell) (by rw [hT]; exact g1) (fun z h => by rw [h] at g2; cases g2) hselP hmethM habM hkP hkPi (g := F0 m pc ls (As.reverse ++ .ref b :: rest)) rfl (argsL := As) (rest := rest) hlen' rfl (by rw [hb]; exact hdg)
/-- invokespecial of the superclass's own method -/
theorem yE_specU {H : Heap} {C : String} {index : Nat} {x : MethodName} {b : Addr} {As rest : List Value} {ls : Array Slot} (hexec : p.tables.exec = Jvm.exec) (hb : c.code = cc) (hown : s.vm.findClass own = some m.cls) (hlink : (Cond.methodLink own index x).before args s = true) (hsame : (Cond.sameMethod x.cls x.cls x.name x.desc).before args s = true) (hsup : (Cond.superclass own x.cls).before args s = true) (hinst : (Cond.instanceMethod x).before args s = true) (hno : x.name ≠ "<init>") {bytes : ByteArray} {maxL : Nat} {rt : Option FieldType} (hcode : (Cond.code x bytes maxL rt).before args s = true)
    (hrv : ∃ cell : Cell, H[b]? = some cell ∧ cell.vm.isStatics = false ∧ s.vm.findClass C = some cell.cls) (hlen : (parseMethodDescriptor x.desc).map (fun d => d.parameters.length) = some As.length) (hdg : decode cc pc = .ok (.invokespecial index, 3)) :
    ∃ mk, s.methodNamed? x = some mk ∧ yEnt p l e R s m args below meth c H (F0 m pc ls (As.reverse ++ .ref b :: rest)) rest mk (Value.ref b :: As).toArray := by
  obtain ⟨mk, methM, hnamed, hmethM, hstM, habM⟩ := Cond.instanceMethod_spec hinst
  obtain ⟨methM', cM, hmethM', -, -, -, -, -, -, hsigM⟩ := Cond.code_spec hnamed hcode
  cases hmethM.symm.trans hmethM'
  obtain ⟨ps, dk, kp, hps, hdk, hkp, hsuper, -, -, hnid⟩ := Cond.superclass_spec hown hsup
  have hcls : mk.cls = ps := Option.some.inj ((findClass_of_methodNamed hnamed).symm.trans hps)
  refine ⟨mk, hnamed, fun T locs cells slots hT X => ?_⟩
  obtain ⟨cell, g1, g2, g3⟩ := hrv
  obtain ⟨kB, hkB, -⟩ := Vm.findClass_spec g3
  have hlen' : As.length = methM.sig.parameters.length := by have h := hsigM; rw [show parseMethodDescriptor x.desc = some methM.sig from h] at hlen; exact (Option.some.inj hlen).symm
  obtain ⟨vm', X', st⟩ := X.invokespecialUp hexec hown hlink hsame hnamed hmethM hstM habM hno hdk hnid hps hsuper (by rw [hcls]; simp [Vm.isSubclass, Vm.isSubclassAux]) (a := b) (cell := cell) (by rw [hT]; exact g1) (fun z h => by rw [h] at g2; cases g2) hkB (g := F0 m pc ls (As.reverse ++ .ref b :: rest)) rfl (argsL := As) (rest := rest) hlen' rfl (by rw [hb]; exact hdg)
  exact ⟨vm', X', fun target h => st target (h [])⟩
theorem jy_E {len : Nat} {ig : Instr} {y : MethodName} {bytes : ByteArray} {nLc q : Nat} {F : Option (XR (Int32 × SS × DS))} {K : (Int32 × SS × DS) → Option (XR τ)} (As : List Value) {st0 : List Value} (hk : jk p R s m args meth c (ynx nf res) cc nL own fr lo ret) (hH : cH G KK) (hK : KK s) (ht : ∀ x ∈ c.exceptionTable.toList, False) (hcode : Cond.code y bytes nLc (some .int) ∈ lw_all) (hini : Cond.initialized y.cls ∈ lw_all) (hM : ∀ r, F = some r → jMY l y (ws_ y bytes nLc (some .int)) frc loc (.ref q :: As) G KK (σ, d) xnA (jUa (fun x : Int32 => .int x)) r)
    (hent : ∀ (H : Heap), cWo G d σ H → ∀ ls : Array Slot, ∃ mk, s.methodNamed? y = some mk ∧ yEnt p l e R s m args below meth c H (F0 m pc ls (As.reverse ++ .ref q :: st)) st mk (Value.ref q :: As).toArray) (hst : st0 = (As.reverse ++ .ref q :: st)) (hd : decode cc pc = .ok (ig, len)) (hr : frc + 1 ≤ fr ∧ 8 + (nLc + 11) + loc ≤ lo) (hw : (st.map fun v => v.category).sum ≤ 8)
    (kk : ∀ r : Int32 × SS × DS, jj p l e R s m args below meth c (hA G) (ynx nf res) (jZY below args s G nf Ψ res) (cWo G r.2.2) (cnx r.2.2) nL r.2.1 (pc + len) lv (.int r.1 :: st) (K r = some res)) : jj p l e R s m args below meth c (hA G) (ynx nf res) (jZY below args s G nf Ψ res) (cWo G d) (cnx d) nL σ pc lv st0 (yb xnA d F K = some res) := by
  subst hst
  intro hz
  unfold yb at hz
  cases hF : F with
  | none => rw [hF] at hz; cases hz
  | some r1 =>
    rw [hF] at hz
    simp only [Option.bind_some] at hz
    split at hz
    · rename_i hmo
      refine jy_run (len := len) (Ψ1 := (jUa (fun x : Int32 => .int x))) (v := fun r => some (.int r.1)) (sg := fun r => r.2.1) (dd := fun r => r.2.2) (a1 := (Value.ref q :: As).toArray) hk hH ht hmo (fun r o z h => ⟨by have h1 := h.1; cases h1; rfl, h.2⟩) (fun r => rfl) (fun H locs ls hW hn hS hlv hle => ?_) kk hz
      obtain ⟨mk, hnamed, he⟩ := hent H hW ls
      exact yRun_of hk.1 (hM r1 hF) (ablind hH.1) rfl rfl (by rw [hk.2.1]; exact hr.1) (by rw [hk.2.1]; exact hr.2) hcode hini hnamed he (fun U hU hWm => ⟨rfl, by rw [hU]; exact hW, by rw [hU]; exact hn, hH.1 _ _ hWm hK⟩) rfl hlv.1 (lv_room hw) hd (by rw [hk.2.1]; have h9 : d.2 ≤ ynx xnA r1 := hmo; have h8 : ynx xnA r1 ≤ _ := hle; have hs0 : s.heap.size ≤ d.2 := (by have h := hS.1; rw [hn] at h; exact h); constructor <;> (show _ ≤ _; dsimp only [anx]; omega))
    · cases hz
theorem jyh_E {res : Int32 × SS × DS} {len : Nat} {ig : Instr} {y : MethodName} {bytes : ByteArray} {nLc q : Nat} {F : Option (XR (Int32 × SS × DS))} {K : (Int32 × SS × DS) → Option (Int32 × SS × DS)} {Hh : Nat × SS × DS → Option (Int32 × SS)} (As : List Value) {st0 : List Value} (hk : jk p R s m args meth c (res.2.2.2 + 25) cc nL own fr lo ret) (hH : cH G KK) (hK : KK s) (hcode : Cond.code y bytes nLc (some .int) ∈ lw_all) (hini : Cond.initialized y.cls ∈ lw_all) (hM : ∀ r, F = some r → jMY l y (ws_ y bytes nLc (some .int)) frc loc (.ref q :: As) G KK (σ, d) xnA (jUa (fun x : Int32 => .int x)) r)
    (hent : ∀ (H : Heap), cWo G d σ H → ∀ ls : Array Slot, ∃ mk, s.methodNamed? y = some mk ∧ yEnt p l e R s m args below meth c H (F0 m pc ls (As.reverse ++ .ref q :: st)) st mk (Value.ref q :: As).toArray) (hst : st0 = (As.reverse ++ .ref q :: st)) (hd : decode cc pc = .ok (ig, len)) (hr : frc + 1 ≤ fr ∧ 8 + (nLc + 11) + loc ≤ lo) (hw : (st.map fun v => v.category).sum ≤ 8)
    (kx : ∀ (y : Nat × SS × DS) (r' : Int32 × SS), Hh y = some r' → ∃ h, jCatch s c own (yE y.1) args pc h ∧ ∀ (R : Room) (s : State) (q : Nat) (d' : DS), (y.1 ≤ 2 → q = ha G y.1) → jk p R s m args meth c d'.2 cc nL own fr lo ret → KK s → jj p l e R s m args below meth c (hA G) d'.2 (jZ below args s (hA G) d'.2 (jU r') (cWo G d') (cnx d')) (cWo G d') (cnx d') nL y.2.1 h lv [.ref q] (Hh y = some r'))
    (kk : ∀ r : Int32 × SS × DS, jj p l e R s m args below meth c (hA G) (res.2.2.2 + 25) (jZ below args s (hA G) (res.2.2.2 + 25) (jUs res) (aWo G) anx) (cWo G r.2.2) (cnx r.2.2) nL r.2.1 (pc + len) lv (.int r.1 :: st) (K r = some res)) : jj p l e R s m args below meth c (hA G) (res.2.2.2 + 25) (jZ below args s (hA G) (res.2.2.2 + 25) (jUs res) (aWo G) anx) (cWo G d) (cnx d) nL σ pc lv st0 (yh xnA d F Hh K = some res) := by
  subst hst
  intro hz
  unfold yh at hz
  cases hF : F with
  | none => rw [hF] at hz; cases hz
  | some r1 =>
    rw [hF] at hz
    simp only [Option.bind_some] at hz
    split at hz
    · rename_i hmo
      refine jy_runH (len := len) (Ψ1 := (jUa (fun x : Int32 => .int x))) (v := fun r => some (.int r.1)) (sg := fun r => r.2.1) (dd := fun r => r.2.2) (a1 := (Value.ref q :: As).toArray) hk hH hK hmo (fun r o z h => ⟨by have h1 := h.1; cases h1; rfl, h.2⟩) (fun r => rfl) (fun H locs ls hW hn hS hlv hle => ?_) kx kk hz
      obtain ⟨mk, hnamed, he⟩ := hent H hW ls
      exact yRun_of hk.1 (hM r1 hF) (ablind hH.1) rfl rfl (by rw [hk.2.1]; exact hr.1) (by rw [hk.2.1]; exact hr.2) hcode hini hnamed he (fun U hU hWm => ⟨rfl, by rw [hU]; exact hW, by rw [hU]; exact hn, hH.1 _ _ hWm hK⟩) rfl hlv.1 (lv_room hw) hd (by rw [hk.2.1]; have h9 : d.2 ≤ ynx xnA r1 := hmo; have h8 : ynx xnA r1 ≤ _ := hle; have hs0 : s.heap.size ≤ d.2 := (by have h := hS.1; rw [hn] at h; exact h); constructor <;> (show _ ≤ _; dsimp only [anx]; omega))
    · cases hz
end
def dHd (d : DS) (q : Nat) : Option Nat := (dci d q).bind fun ci => if 7 ≤ ci ∧ ci ≤ 11 then some ci else none
theorem dHd_rv {G : cG} {KK : State → Prop} {d : DS} {σ : SS} {s : State} (hH : cH G KK) (hK : KK s) {q ci : Nat} (h : dHd d q = some ci) : ∃ C, cRv G d σ s q C := by
  unfold dHd at h
  cases hc : dci d q with
  | none => rw [hc] at h; cases h
  | some c0 =>
    rw [hc] at h
    simp only [Option.bind_some] at h
    obtain ⟨fs, he⟩ := dci_spec hc
    by_cases hb : 7 ≤ c0 ∧ c0 ≤ 11
    · rcases (show c0 = 7 ∨ c0 = 8 ∨ c0 = 9 ∨ c0 = 10 ∨ c0 = 11 by omega) with rfl | rfl | rfl | rfl | rfl
      · exact ⟨_, cRv_D (q := (RX8, TX8, 2)) hH hK (ci := 7) rfl he⟩
      · exact ⟨_, cRv_D (q := (RX9, TX9, 2)) hH hK (ci := 8) rfl he⟩
      · exact ⟨_, cRv_D (q := (RX10, TX10, 2)) hH hK (ci := 9) rfl he⟩
      · exact ⟨_, cRv_D (q := (RX11, TX11, 2)) hH hK (ci := 10) rfl he⟩
      · exact ⟨_, cRv_D (q := (RX12, TX12, 2)) hH hK (ci := 11) rfl he⟩
    · rw [if_neg hb] at h; cases h
