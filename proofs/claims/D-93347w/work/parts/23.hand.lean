/-! METHODS WITH HANDLERS -/
set_option maxRecDepth 100000
abbrev eX0_rules : List (Nat × Nat × Nat × Nat) := [(0, 20, 27, 37), (0, 20, 43, 0), (27, 36, 43, 0)]
abbrev eX0_graceFor : List (Nat × Nat × Nat × Nat) := [(25, 89, 107, 0), (107, 109, 107, 0)]
abbrev eX0_strengthFor : List (Nat × Nat × Nat × Nat) := [(20, 65, 108, 0), (77, 96, 108, 0), (108, 110, 108, 0)]
abbrev eX0_often : List (Nat × Nat × Nat × Nat) := [(45, 110, 124, 0), (124, 126, 124, 0)]
abbrev eX0_judge : List (Nat × Nat × Nat × Nat) := [(13, 112, 125, 0), (125, 127, 125, 0)]
abbrev eX0_sheet : List (Nat × Nat × Nat × Nat) := [(28, 51, 52, 529)]
abbrev eX0_write : List (Nat × Nat × Nat × Nat) := [(9, 62, 63, 8)]
abbrev eX0_item : List (Nat × Nat × Nat × Nat) := [(18, 33, 34, 559), (18, 33, 39, 561), (18, 33, 44, 8)]
abbrev eX0_goAll : List (Nat × Nat × Nat × Nat) := [(19, 132, 133, 559), (19, 132, 138, 561), (19, 132, 143, 8)]
abbrev eX0_wouldBe : List (Nat × Nat × Nat × Nat) := [(30, 153, 167, 559), (30, 153, 187, 561), (30, 153, 207, 8), (30, 153, 230, 0), (167, 173, 230, 0), (187, 193, 230, 0), (207, 216, 230, 0), (230, 232, 230, 0)]
abbrev eX0_taken : List (Nat × Nat × Nat × Nat) := [(29, 38, 39, 559), (29, 38, 43, 561)]
abbrev eX0_act : List (Nat × Nat × Nat × Nat) := [(52, 92, 132, 599), (93, 105, 132, 599), (106, 118, 132, 599), (119, 131, 132, 599)]
theorem metWH {l : Launch} {y : MethodName} {ws ws' : List Cond} {rm : Room} {Pc : Array Value → State → Prop} {Qc : Array Value → State → Outcome → State → Prop} {mc ms : Nat} {free : Addr → Prop} {cc : ByteArray} {maxL : Nat} {ret : Option FieldType} {hh : List (Nat × Nat × Nat × Nat)}
    (hy : plainName y.cls = true) (hw : ws = Cond.codeWith y cc maxL ret hh :: ws')
    (body : ∀ p e s m args below meth c s₁, BodyLoose p l y (headSpec ws rm) cc maxL ret e s m args below meth c s₁ → c.maxLocals = maxL → Pc args s →
      W p l e (headSpec ws rm).room s m args below meth c s.heap [] 0 0 (MQ below Qc args s mc ms free) (entryFrame m args maxL)) : Met l y ws rm Pc Qc mc ms free := by
  refine MetFree.of_bodyS (code := cc) (maxLocals := maxL) (ret := ret) hy ?_ ?_
  · intro args s m h hn
    obtain ⟨m9, meth, c, hn9, h1, h2, h3, h4, -, h5, h6, -⟩ := Cond.codeWith_spec (atoms_spec (ws := ws) h _ (by rw [hw]; exact List.mem_cons_self))
    cases hn.symm.trans hn9
    exact ⟨meth, c, h1, h2, h3, h4, h5, h6⟩
  · intro p e s m args below meth c s₁ B hml hP _
    have hh0 : s₁.heap = s.heap := by rw [B.state]; rfl
    obtain ⟨t, a1, o, b1, b2, b3, b4⟩ := body p e s m args below meth c s₁ B hml hP s₁ hh0 (Stand.of_body B)
    exact ⟨t, o, a1, b1, b2, b3, b4⟩
/-- a contract out of the walk of a body that has handlers -/
theorem jj_startH {l : Launch} {y : MethodName} {cc : ByteArray} {nL : Nat} {ret : Option FieldType} {hh : List (Nat × Nat × Nat × Nat)} {fr lo : Nat} {av : List Value} {S : Type} {Wo : S → Heap → Prop} {nx : S → Nat} {KK : State → Prop} {σ : S} {Ψ : Outcome → S → Prop} {A : Nat → Prop} {NX : Nat} {Z : Prop} (lv0 : List (Nat × Value)) (hpl : plainName y.cls = true) (hl0 : (lg_sl av).length ≤ nL) (hlv : lv_args 0 av = lv0)
    (body : ∀ (p : Program) (e : Env) (R : Room) (s : State) (m : MethodId) (args : Array Value) (below : List Frame) (meth : Method) (c : Code), jk p R s m args meth c NX cc nL y.cls fr lo ret → KK s → c.exceptionTable.toList = tableOf hh → jj p l e R s m args below meth c A NX (jZ below args s A NX Ψ Wo nx) Wo nx nL σ 0 lv0 [] Z) (hZ : Z) : jM l y (wsW_ y cc nL ret hh) fr lo av Wo nx KK σ Ψ A NX := by
  refine metWH (cc := cc) (maxL := nL) (ret := ret) (hh := hh) hpl rfl ?_
  intro p e s m args below meth c s₁ B hml hv
  obtain ⟨rfl, hWo, hsz, hK⟩ := hv
  have hts0 := atoms_spec (ws := wsW_ y cc nL ret hh) B.pre
  have htb : c.exceptionTable.toList = tableOf hh := vx_table (x := y) (y := y) B (hts0 _ List.mem_cons_self)
  have hts : ∀ w ∈ lw_all, w.before _ s = true := fun w h => hts0 w (List.mem_cons_of_mem _ h)
  have hown : s.vm.findClass y.cls = some m.cls := findClass_of_methodNamed B.named
  have hl := lv_entry av (n := nL) hl0
  rw [lg_entry_eq]
  generalize (lg_sl av ++ List.replicate (nL - (lg_sl av).length) Slot.unset).toArray = ls at hl ⊢
  rw [hlv] at hl
  have hJ := (body p e ({ frames := fr, cells := NX - s.heap.size, slots := 41 * (NX - s.heap.size), locals := lo } : Room) s m av.toArray below meth c ⟨⟨B.exec, B.bytes, hml, hown, hts⟩, rfl, B.returns, B.notSynchronized⟩ hK htb hZ).2 s.heap [] ls hWo hsz va_S.rf hl
  unfold jZ at hJ
  rw [← hsz] at hJ ⊢
  rw [Nat.sub_self, Nat.mul_zero] at hJ
  exact hJ
section
variable {p : Program} {l : Launch} {e : Env} {R : Room} {s : State} {m : MethodId} {args : Array Value} {below : List Frame} {meth : Method} {c : Code}
variable {NX : Nat} {Q : State → Prop} {nL : Nat} {cc : ByteArray} {fr lo : Nat} {ret : Option FieldType} {own : String}
variable {pc : Nat} {σ : SS} {lv : List (Nat × Value)} {st : List Value} {G : cG} {d : DS} {KK : State → Prop} {τ1 : Type} {nf1 : τ1 → Nat} {Ψ1 : τ1 → Outcome → SS × DS → Prop} {Z : Prop}
/-- behind a callee that may throw a kept exception, a row of this method's table catching it -/
theorem jx_runH {st0 : List Value} {r1 : XR τ1} {v : τ1 → Option Value} {sg : τ1 → SS} {dd : τ1 → DS} {a1 : Array Value} {name : String} (hk : jk p R s m args meth c NX cc nL own fr lo ret) (hH : cH G KK) (hK : KK s) (hmono : d.2 ≤ xnx nf1 r1) (hv : ∀ (r : τ1) (o : Option Value) (z : SS × DS), Ψ1 r (.returned o) z → o = v r ∧ z = (sg r, dd r)) (hnf : ∀ r, nf1 r = (dd r).2)
    (hrun : ∀ (H : Heap) (locs : List Loc) (ls : Array Slot), cWo G d σ H → H.size = d.2 → va_S (hA G) s.heap H locs → lv_has ls nL lv → xnx nf1 r1 ≤ NX → vx_Run p l e R s m args below meth c H locs (d.2 - s.heap.size) (41 * (d.2 - s.heap.size)) (xnx nf1 r1 - d.2) (41 * (xnx nf1 r1 - d.2)) (F0 m pc ls st0) st (jj_Q (xP Ψ1 r1) (aWo G) anx (hA G) a1) (xC G r1) (hA G))
    (i : Nat) (pre : List ExceptionTableEntry) (x : ExceptionTableEntry) (suf : List ExceptionTableEntry) (hsplit : c.exceptionTable.toList = pre ++ x :: suf)
    (hpass : ∀ z ∈ pre, covers z pc = false ∨ (z.catchType ≠ 0 ∧ ∃ nm : String, (Cond.classLink own z.catchType nm).before args s = true ∧ va_Nc (xE i) nm s)) (hx : covers x pc = true) (h0 : x.catchType ≠ 0) (hlink : Cond.classLink own x.catchType name ∈ lw_all) (hcast : Cond.castable (xE i) name ∈ cNw)
    (kx : ∀ y : Nat × SS × DS, r1 = .inl y → Z → y.1 = i ∧ jj p l e R s m args below meth c (hA G) NX Q (cWo G y.2.2) (cnx y.2.2) nL y.2.1 x.handlerPc lv [.ref (ha G i)] Z)
    (kk : ∀ r, r1 = .inr r → jj p l e R s m args below meth c (hA G) NX Q (cWo G (dd r)) (cnx (dd r)) nL (sg r) (pc + 3) lv ((v r).toList ++ st) Z) : jj p l e R s m args below meth c (hA G) NX Q (cWo G d) (cnx d) nL σ pc lv st0 Z := by
  intro hz
  cases r1 with
  | inl y =>
    obtain ⟨hyi, hj⟩ := kx y rfl hz
    obtain ⟨hle, hw⟩ := hj hz
    have hle' : y.2.2.2 ≤ NX := hle
    have hm2 : d.2 ≤ y.2.2.2 := hmono
    refine ⟨Nat.le_trans hm2 hle', fun H locs ls hW hn hS hl => ?_⟩
    intro T hT X
    have hs0 : s.heap.size ≤ d.2 := by have h := hS.1; rw [hn] at h; exact h
    rcases hrun H locs ls hW hn hS hl hle' T hT X with ⟨v', st₀, t, T', L, h0', X', hL, e1, e2, ⟨⟨z, ⟨r, hr, -⟩, -⟩, -⟩, -⟩ | ⟨q, st₀, t, T', L, E, ce, h0', X', hL, e1, e2, ⟨x', hx', hi, hq, hE, hw1, hn1, hF⟩, hce, hcv, hcl, st'⟩
    · cases hr
    · cases hx'
      subst hyi
      subst hE
      subst hq
      obtain ⟨k1, k2, k3⟩ := vx_keep h0' e1 hS (fun _ _ h => h) (fun _ h => h) hL hF
      have ec : d.2 - s.heap.size + (xnx nf1 (Sum.inl y) - d.2) = y.2.2.2 - s.heap.size := by show d.2 - s.heap.size + (y.2.2.2 - d.2) = _; omega
      have es : 41 * (d.2 - s.heap.size) + 41 * (xnx nf1 (Sum.inl y) - d.2) = 41 * (y.2.2.2 - s.heap.size) := by show 41 * (d.2 - s.heap.size) + 41 * (y.2.2.2 - d.2) = _; omega
      rw [ec, es] at X'
      obtain ⟨t2, a2, b2⟩ := vx_catch (ls := ls) (rest := st) (pc := pc) (m := m) (H := T'.heap) (locs := locs ++ L) hk.1.2.2.2.1 pre x suf hsplit hpass hx h0 (hk.1.2.2.2.2 _ hlink) (va_Nw.use rfl ((hH.2.1 s hK).2.1 _ hcast)) (by rw [e1]; exact hce) hcv hcl (hw T'.heap (locs ++ L) ls (by rw [e1]; exact hw1) (by rw [e1]; exact hn1) k3 hl) T' rfl X'
      exact ⟨t2, st'.trans a2, b2⟩
  | inr r =>
    obtain ⟨hle, hw⟩ := kk r rfl hz
    have hle' : (dd r).2 ≤ NX := hle
    have hm2 : d.2 ≤ (dd r).2 := by rw [← hnf r]; exact hmono
    refine ⟨Nat.le_trans hm2 hle', fun H locs ls hW hn hS hl => ?_⟩
    intro T hT X
    have hs0 : s.heap.size ≤ d.2 := by have h := hS.1; rw [hn] at h; exact h
    rcases hrun H locs ls hW hn hS hl (by show nf1 r ≤ _; rw [hnf]; exact hle') T hT X with ⟨v', st₀, t, T', L, h0', X', hL, e1, e2, ⟨⟨z, ⟨r', hr, hp⟩, hw1, hn1⟩, hzz, hkk⟩, st'⟩ | ⟨q, st₀, t, T', L, E, ce, h0', X', hL, e1, e2, ⟨x', hx', -⟩, -⟩
    · cases hr
      obtain ⟨rfl, rfl⟩ := hv r v' z hp
      rw [h0'] at hzz hkk
      have hx9 : xnx nf1 (Sum.inr r : XR τ1) = (dd r).2 := hnf r
      rw [hx9] at X'
      have ec : d.2 - s.heap.size + ((dd r).2 - d.2) = (dd r).2 - s.heap.size := by omega
      have es : 41 * (d.2 - s.heap.size) + 41 * ((dd r).2 - d.2) = 41 * ((dd r).2 - s.heap.size) := by omega
      rw [ec, es] at X'
      obtain ⟨t2, a2, b2⟩ := hw T'.heap (locs ++ L) ls (by rw [e1]; exact hw1) (by rw [e1]; exact hn1) ⟨Nat.le_trans hS.1 (by rw [e1]; exact hzz), fun q h1 h2 => by rw [e1, hkk q (Nat.lt_of_lt_of_le h1 hS.1) h2]; exact hS.2.1 q h1 h2, fun q hq => by
          rcases List.mem_append.mp hq with h | h
          · exact hS.2.2 q h
          · exact hL q h⟩ hl T' rfl X'
      exact ⟨t2, st' t2 a2, b2⟩
    · cases hx'
theorem jc_tp_rules (hk : jk p R s m args meth c NX cc nL RX0 fr lo ret) (hH : cH G KK) (hK : KK s) {q : Nat} {ρ : Type} {res : ρ} {K : SS → Option ρ} (hd : decode cc pc = .ok (.putfield 347, 3)) (kk : ∀ σ', jj p l e R s m args below meth c (hA G) NX Q (cWo G d) (cnx d) nL σ' (pc + 3) lv st (K σ' = some res)) : jj p l e R s m args below meth c (hA G) NX Q (cWo G d) (cnx d) nL σ pc lv (.ref q :: .ref (ha G 3) :: st) ((some (sF σ 0 (some q))).bind K = some res) :=
  cg_put (σ' := sF σ 0 (some q)) (q0 := 3) (ci := 2) (k := 20) hk hH hK in_X3 tyX3 tyX3_ok nmX3 (ccs_O G d σ (by decide)) rfl (by decide) q315 rfl rfl rfl rfl rfl (Nat.le_of_ble_eq_true rfl) hd (ccs_setO G d σ _ (by decide) _ rfl rfl rfl) (kk _)
theorem jc_fanswer (hk : jk p R s m args meth c NX cc nL RX0 fr lo ret) (hH : cH G KK) (hK : KK s) (hd : decode cc pc = .ok (.getfield 351, 3)) (kk : jj p l e R s m args below meth c (hA G) NX Q (cWo G d) (cnx d) nL σ (pc + 3) lv (.int (σ.1 72) :: st) Z) : jj p l e R s m args below meth c (hA G) NX Q (cWo G d) (cnx d) nL σ pc lv (.ref (ha G 2) :: st) Z :=
  cg_getS (q0 := 2) (ci := 6) (k := 6) (C := RX2) (T := TX2) (N := 7) hk hH hK in_X2 (ccs_O G d σ (by decide)) rfl (by decide) q231 q232 rfl hd kk
end
def f0_rules (N : Nat) (σ : SS) (d : DS) : Option (Int32 × SS × DS) := (f0_allRules N σ d).bind fun r1 => if d.2 ≤ xnx xnA r1 then (match r1 with
  | .inl y => if y.1 = 2 then some ((-100 : Int32) - y.2.1.1 72, sI y.2.1 41 0, y.2.2) else none
  | .inr r => (dlnR r.2.2 r.1).bind fun v => some (v, sI (sF r.2.1 0 (some r.1)) 41 0, r.2.2)) else none
theorem cc_f0_rules (l : Launch) {G : cG} {KK : State → Prop} (hH : cH G KK) (N : Nat) (σ : SS) (d : DS) (res : Int32 × SS × DS) (hf : f0_rules N σ d = some res) : jM l yX0_rules (wsW_ yX0_rules cX0_rules 4 (some .int) eX0_rules) 660 20309 [.ref (ha G 0)] (aWo G) anx KK (σ, d) (jUa (fun x : Int32 => .int x) res) (hA G) res.2.2.2 := by
  unfold f0_rules at hf
  cases hF : f0_allRules N σ d with
  | none => rw [hF] at hf; cases hf
  | some r1 =>
  rw [hF] at hf
  simp only [Option.bind_some] at hf
  by_cases hmo : d.2 ≤ xnx xnA r1
  · rw [if_pos hmo] at hf
    refine jj_startH [(0, .ref (ha G 0))] (by decide) (Nat.le_of_ble_eq_true rfl) rfl (fun p e R s m args below meth c hk hK htb => ?_) hf
    have hk : jk p R s m args meth c res.2.2.2 cX0_rules 4 RX0 660 20309 (some .int) := hk
    refine ja_in ?_
    refine jj_aload_n hk dX0_rules_0 0 rfl rfl ?_
    refine jc_g_now hk hH hK dX0_rules_1 ?_
    refine jj_aload_n hk dX0_rules_4 0 rfl rfl ?_
    refine jx_runH (st := [.ref (ha G 3)]) (Ψ1 := (jUa (fun x : Nat => .ref x))) (v := fun r => some (.ref r.1)) (sg := fun r => r.2.1) (dd := fun r => r.2.2) (a1 := (Value.ref (ha G 0) :: []).toArray) (name := "LeftUndoes$Fault") hk hH hK hmo (fun r o z h => ⟨by have h1 := h.1; cases h1; rfl, h.2⟩) (fun r => rfl) (fun H locs ls hW hn hS hlv hle => ?_) 2 [] (⟨0, 20, 27, 37⟩ : ExceptionTableEntry) [⟨0, 20, 43, 0⟩, ⟨27, 36, 43, 0⟩] (by rw [htb]; rfl) (fun z hz => nomatch hz) (by decide) (by decide) q249 (List.mem_of_getElem? (i := 8) rfl) (fun y hy hz => ?_) (fun r hr => ?_)
    · exact vx_runV (As := []) hk.1 (cc_f0_allRules l hH N σ d r1 hF) (cwV 0 hk.1.2.2.2.2 (lw_V q719 q721 qs9 q118 q722) rfl rfl rfl (by decide +kernel) (by rw [hk.2.1]; exact ⟨Nat.le_of_ble_eq_true rfl, Nat.le_of_ble_eq_true rfl⟩)) ⟨ablind hH.1, (cRv_at (q := (RX0, TX0, 32)) (ci := 1) (q0 := 0) hH hK rfl rfl) H hW, fun U hU hWm => ⟨rfl, by rw [hU]; exact hW, by rw [hU]; exact hn, hH.1 _ _ hWm hK⟩⟩ rfl rfl hlv.1 rfl (lv_room (Nat.le_of_ble_eq_true rfl)) dX0_rules_5 (by rw [hk.2.1]; have h9 : d.2 ≤ xnx xnA r1 := hmo; have h8 : xnx xnA r1 ≤ res.2.2.2 := hle; have hs0 : s.heap.size ≤ d.2 := (by have h := hS.1; rw [hn] at h; exact h); constructor <;> (show _ ≤ _; dsimp only [anx]; omega))
    · subst hy
      simp only at hz
      by_cases h2 : y.1 = 2
      · refine ⟨h2, ?_⟩
        refine jj_eq (Z' := (some (sI y.2.1 41 0)).bind (fun s1 => some ((-100 : Int32) - y.2.1.1 72, s1, y.2.2)) = some res) (fun h => by simp only [h2] at h; exact h) ?_
        refine jj_astore_n hk [(1, .ref (ha G 2)), (0, .ref (ha G 0))] dX0_rules_27 rfl (Nat.le_of_ble_eq_true rfl) rfl ?_
        refine jj_bipush hk (v := (-100 : Int32)) dX0_rules_28 (by decide) ?_
        refine jj_aload_n hk dX0_rules_30 0 rfl rfl ?_
        refine jc_fanswer hk hH hK dX0_rules_31 ?_
        refine jj_isub hk dX0_rules_34 ?_
        refine jj_istore_n hk [(2, .int ((-100 : Int32) - y.2.1.1 72)), (1, .ref (ha G 2)), (0, .ref (ha G 0))] dX0_rules_35 rfl (Nat.le_of_ble_eq_true rfl) rfl ?_
        refine jj_aload_n hk dX0_rules_36 2 rfl rfl ?_
        refine jj_iconst hk (v := (0 : Int32)) dX0_rules_37 (by decide) ?_
        refine jc_p_tapeMany hk hH hK dX0_rules_38 (fun s1 => ?_)
        refine jj_iload_n hk dX0_rules_41 0 rfl rfl ?_
        exact ja_retUi hk dX0_rules_42
      · rw [if_neg h2] at hz; cases hz
    · subst hr
      refine jj_eq (Z' := (some (sF r.2.1 0 (some r.1))).bind (fun s1 => (s1.2.2.1 0).bind fun q => (dlnR r.2.2 q).bind fun v => (some (sI s1 41 0)).bind fun s2 => some (v, s2, r.2.2)) = some res) (fun h => h) ?_
      refine jc_tp_rules hk hH hK dX0_rules_8 (fun s1 => ?_)
      refine jj_aload_n hk dX0_rules_11 0 rfl rfl ?_
      refine jc_g_now hk hH hK dX0_rules_12 ?_
      refine jc_t_rules hk hH hK dX0_rules_15 (fun q => ?_)
      refine jc_dlnR hk hH hK dX0_rules_18 (fun v => ?_)
      refine jj_istore_n hk [(1, .int v), (0, .ref (ha G 0))] dX0_rules_19 rfl (Nat.le_of_ble_eq_true rfl) rfl ?_
      refine jj_aload_n hk dX0_rules_20 1 rfl rfl ?_
      refine jj_iconst hk (v := (0 : Int32)) dX0_rules_21 (by decide) ?_
      refine jc_p_tapeMany hk hH hK dX0_rules_22 (fun s2 => ?_)
      refine jj_iload_n hk dX0_rules_25 0 rfl rfl ?_
      exact ja_retUi hk dX0_rules_26
  · rw [if_neg hmo] at hf; cases hf
