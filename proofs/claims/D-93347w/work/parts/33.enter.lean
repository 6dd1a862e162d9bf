/-! HOW CALLS ENTER THEIR METHODS: through interfaces, into defaults, up to superclasses -/
set_option maxRecDepth 100000
/-- at most n numbers are below n -/
theorem nd_len : ∀ (n : Nat) (l : List Nat), l.Nodup → (∀ b ∈ l, b < n) → l.length ≤ n := by
  intro n
  induction n with
  | zero =>
    intro l _ h
    cases l with
    | nil => exact Nat.le_refl _
    | cons a t => exact absurd (h a List.mem_cons_self) (Nat.not_lt_zero _)
  | succ n ih =>
    intro l hnd h
    by_cases hm : n ∈ l
    · have h1 : (l.erase n).length ≤ n := ih _ (hnd.erase n) (fun b hb => by
        have h2 := (hnd.mem_erase_iff).mp hb
        have h3 := h b h2.2
        have h4 : b ≠ n := h2.1
        omega)
      have h2 := List.length_erase_of_mem hm
      omega
    · have h1 : l.length ≤ n := ih l hnd (fun b hb => by
        have h3 := h b hb
        have h4 : b ≠ n := fun e => hm (e ▸ hb)
        omega)
      omega
theorem nd_pig (n : Nat) (f : Nat → Nat) (h : ∀ i, i ≤ n → f i < n) : ∃ i j, i < j ∧ j ≤ n ∧ f i = f j := by
  apply Classical.byContradiction
  intro hno
  have hnd : ((List.range (n + 1)).map f).Nodup := by
    rw [List.nodup_iff_pairwise_ne, List.pairwise_map]
    refine List.Pairwise.imp_of_mem (R := fun a b => a < b) (fun {a b} ha hb hab e => hno ⟨a, b, hab, ?_, e⟩) List.pairwise_lt_range
    have := List.mem_range.mp hb
    omega
  have hl := nd_len n _ hnd (fun b hb => by
    obtain ⟨i, hi, rfl⟩ := List.mem_map.mp hb
    exact h i (by have := List.mem_range.mp hi; omega))
  rw [List.length_map, List.length_range] at hl
  omega
/-- the n-th superclass -/
def sup_it (vm : Vm) : Nat → ClassId → Option ClassId
  | 0, c => some c
  | n + 1, c => (sup_it vm n c).bind fun q => vm.classes[q]?.bind (·.super)
theorem sup_add (vm : Vm) (c : ClassId) : ∀ (k n : Nat), sup_it vm (n + k) c = (sup_it vm n c).bind (sup_it vm k) := by
  intro k
  induction k with
  | zero => intro n; cases h : sup_it vm n c <;> simp [sup_it, h]
  | succ k ih =>
    intro n
    show (sup_it vm (n + k) c).bind _ = _
    rw [ih n]
    cases h : sup_it vm n c with
    | none => rfl
    | some q => rfl
theorem sup_aux (vm : Vm) : ∀ (n : Nat) (c x : ClassId), x ∈ vm.superclassesAux n c → ∃ i, 1 ≤ i ∧ i ≤ n ∧ sup_it vm i c = some x := by
  intro n
  induction n with
  | zero => intro c x h; cases h
  | succ n ih =>
    intro c x h
    unfold Vm.superclassesAux at h
    cases hs : vm.classes[c]?.bind (·.super) with
    | none => rw [hs] at h; cases h
    | some p =>
      rw [hs] at h
      have h1 : sup_it vm 1 c = some p := by show (some c).bind _ = _; exact hs
      rcases List.mem_cons.mp h with rfl | h
      · exact ⟨1, Nat.le_refl _, by omega, h1⟩
      · obtain ⟨i, i1, i2, i3⟩ := ih p x h
        refine ⟨1 + i, by omega, by omega, ?_⟩
        rw [sup_add, h1]
        exact i3
theorem sup_none (vm : Vm) (name desc : String) : ∀ (n : Nat) (c : ClassId), lookupInSuperclasses vm name desc n c = none → ∀ i, i < n → ∀ x, sup_it vm i c = some x → vm.classes[x]?.bind (·.findMethod name desc) = none := by
  intro n
  induction n with
  | zero => intro c _ i hi; omega
  | succ n ih =>
    intro c h i hi x hx
    unfold lookupInSuperclasses at h
    cases hk : vm.classes[c]? with
    | none =>
      cases i with
      | zero => cases hx; rw [hk]; rfl
      | succ i =>
        rw [show i + 1 = 1 + i by omega, sup_add] at hx
        have h1 : sup_it vm 1 c = none := by show (some c).bind _ = _; simp [hk]
        rw [h1] at hx
        cases hx
    | some k =>
      simp only [hk, Option.bind_eq_bind, Option.bind_some] at h
      cases hf : k.findMethod name desc with
      | some j => simp only [hf] at h; cases h
      | none =>
        simp only [hf] at h
        cases i with
        | zero => cases hx; rw [hk]; exact hf
        | succ i =>
          rw [show i + 1 = 1 + i by omega, sup_add] at hx
          have h1 : sup_it vm 1 c = k.super := by show (some c).bind _ = _; simp [hk]
          rw [h1] at hx
          cases hs : k.super with
          | none => rw [hs] at hx; cases hx
          | some p =>
            rw [hs] at h hx
            exact ih p h i (by omega) x hx
/-- nothing found upward: nothing is declared upward -/
theorem sup_all (vm : Vm) (name desc : String) (c : ClassId) (h : lookupInSuperclasses vm name desc (vm.classes.size + 1) c = none) : ∀ i x, sup_it vm i c = some x → vm.classes[x]?.bind (·.findMethod name desc) = none := by
  have small : ∀ i, i < vm.classes.size + 1 → ∀ x, sup_it vm i c = some x → vm.classes[x]?.bind (·.findMethod name desc) = none := sup_none vm name desc _ c h
  intro i
  induction i using Nat.strongRecOn with
  | ind i ih =>
    intro x hx
    by_cases hi : i < vm.classes.size + 1
    · exact small i hi x hx
    · -- all before are there, and below the size
      have hdef : ∀ j, j < i → ∃ y, sup_it vm j c = some y ∧ y < vm.classes.size := by
        intro j hj
        have e : sup_it vm i c = (sup_it vm j c).bind (sup_it vm (i - j)) := by rw [← sup_add]; congr 1; omega
        cases hy : sup_it vm j c with
        | none => rw [e, hy] at hx; cases hx
        | some y =>
          refine ⟨y, rfl, ?_⟩
          rw [e, hy] at hx
          have h1 : sup_it vm (i - j) y = some x := hx
          rw [show i - j = 1 + (i - j - 1) by omega, sup_add] at h1
          cases hs : vm.classes[y]? with
          | none =>
            have h2 : sup_it vm 1 y = none := by show (some y).bind _ = _; simp [hs]
            rw [h2] at h1; cases h1
          | some k => exact (Array.getElem?_eq_some_iff.mp hs).1
      obtain ⟨a, b, hab, hb, hfe⟩ := nd_pig vm.classes.size (fun j => (sup_it vm j c).getD 0) (fun j hj => by
        obtain ⟨y, h1, h2⟩ := hdef j (by omega)
        show (sup_it vm j c).getD 0 < _
        rw [h1]; exact h2)
      obtain ⟨ya, ha1, -⟩ := hdef a (by omega)
      obtain ⟨yb, hb1, -⟩ := hdef b (by omega)
      have hy : ya = yb := by
        have h1 : (sup_it vm a c).getD 0 = (sup_it vm b c).getD 0 := hfe
        rw [ha1, hb1] at h1
        exact h1
      subst hy
      have e1 : sup_it vm i c = sup_it vm (i - (b - a)) c := by
        have q1 : sup_it vm i c = (sup_it vm b c).bind (sup_it vm (i - b)) := by rw [← sup_add]; congr 1; omega
        have q2 : sup_it vm (i - (b - a)) c = (sup_it vm a c).bind (sup_it vm (i - b)) := by rw [← sup_add]; congr 1; omega
        rw [q1, q2, ha1, hb1]
      exact ih (i - (b - a)) (by omega) x (by rw [← e1]; exact hx)
theorem sel_none (vm : Vm) (mR : MethodId) (name desc : String) : ∀ (n : Nat) (c : ClassId), (∀ i x, sup_it vm i c = some x → vm.classes[x]?.bind (·.findMethod name desc) = none) → selectInSuperclasses vm mR name desc n c = none := by
  intro n
  induction n with
  | zero => intro c _; rfl
  | succ n ih =>
    intro c h
    unfold selectInSuperclasses
    cases hk : vm.classes[c]? with
    | none => rfl
    | some k =>
      have h0 := h 0 c rfl
      rw [hk] at h0
      have h0' : k.findMethod name desc = none := h0
      simp only [Option.bind_eq_bind, Option.bind_some, h0', Option.bind_none]
      cases hs : k.super with
      | none => rfl
      | some p =>
        have h1 : sup_it vm 1 c = some p := by show (some c).bind _ = _; simp [hk, hs]
        have := ih p (fun i x hx => h (1 + i) x (by rw [sup_add, h1]; exact hx))
        simp [this]
/-- what resolution finds in the superinterfaces isn't private -/
theorem sif_np {vm : Vm} {c : ClassId} {name desc : String} {m : MethodId} {meth : Method} (h : lookupInSuperinterfaces vm c name desc = some m) (hm : vm.method? m = some meth) : meth.isPrivate = false := by
  have hmem : m ∈ superinterfaceMethods vm c name desc := by
    unfold lookupInSuperinterfaces at h
    split at h
    · rename_i m' hl
      cases h
      have h1 : m ∈ (maximallySpecific vm c name desc).filter fun m => (vm.method? m).any (!·.isAbstract) := by rw [hl]; exact List.mem_cons_self
      have h2 := (List.mem_filter.mp h1).1
      unfold maximallySpecific at h2
      exact (List.mem_filter.mp h2).1
    · obtain ⟨i, -, hi⟩ := List.exists_of_findSome?_eq_some h
      exact List.mem_of_find?_eq_some hi
  unfold superinterfaceMethods at hmem
  obtain ⟨i, -, hi⟩ := List.mem_filterMap.mp hmem
  simp only [Option.bind_eq_bind, Option.bind_eq_some_iff] at hi
  obtain ⟨k, -, idx, -, mm, hmm, hif⟩ := hi
  split at hif
  · cases hif
  · rename_i hp
    cases hif
    cases hm.symm.trans hmm
    simp only [Bool.or_eq_true, not_or, Bool.not_eq_true] at hp
    exact hp.1
/-- invokespecial finds the default that selection finds -/
theorem special_default {pl : Platform} {vm : Vm} {c : ClassId} {k : Class} {name desc : String} {m : MethodId} {meth : Method} (hk : vm.classes[c]? = some k) (hni : k.isInterface = false) (hl : vm.lookupUp c name desc = some m) (hm : vm.method? m = some meth) (hst : meth.isStatic = false) (hn : meth.name = name) (hd : meth.desc = desc) (hsel : selectMethod pl vm c m = .method m) : lookupSpecial vm c name desc = .method m := by
  cases hx : lookupInSuperclasses vm name desc (vm.classes.size + 1) c with
  | some x =>
    have e : x = m := by simpa [Vm.lookupUp, hx] using hl
    subst e
    exact lookupSpecial_of_superclasses hk hni hx hm hst
  | none =>
    have hall := sup_all vm name desc c hx
    have hnp : meth.isPrivate = false := sif_np (by simpa [Vm.lookupUp, hx] using hl) hm
    have hown : vm.classes[c]?.bind (·.findMethod name desc) = none := hall 0 c rfl
    have habove : superclassMethods vm c name desc = [] := by
      unfold superclassMethods
      rw [List.filterMap_eq_nil_iff]
      intro x hxm
      obtain ⟨i, -, -, hi⟩ := sup_aux vm _ c x hxm
      rw [hall i x hi]
      rfl
    have hsn := sel_none vm m name desc (vm.classes.size + 1) c hall
    have hrf : refusedOverriding pl vm c name desc = false := by
      unfold refusedOverriding
      simp only [hown, habove, Option.map_none, Option.toList_none, List.append_nil, List.filter_nil, List.tail_nil, List.zip_nil_right, List.any_nil]
    unfold selectMethod at hsel
    simp only [hm, hnp, hn, hd, hrf, Bool.false_and, Bool.false_eq_true, if_false, hsn] at hsel
    unfold lookupSpecial
    simp only [hown, habove, Option.map_none, Option.toList_none, List.filter_nil, List.append_nil, List.find?_nil]
    exact hsel
/-- how a call comes to the entry of the method mk -/
def yEnt (p : Program) (l : Launch) (e : Env) (R : Room) (s : State) (m : MethodId) (args : Array Value) (below : List Frame) (meth : Method) (c : Code) (H : Heap) (g : JFrame) (rest : List Value) (mk : MethodId) (as : Array Value) : Prop :=
  ∀ (T : State) (locs : List Loc) (cells slots : Nat), T.heap = H → Stand p l e R s m args below meth c T locs cells slots → ∃ vm₁, Stand p l e R s m args below meth c (T.setVm vm₁) locs cells slots ∧ ∀ target, (∀ acts, Steps p.tables e below (doInvoke e ((T.setVm vm₁).setTop { g with stack := rest }) acts mk as).1 target) → Steps p.tables e below (T.setTop g) target
section
variable {p : Program} {l : Launch} {e : Env} {R : Room} {s : State} {m : MethodId} {args : Array Value} {below : List Frame} {meth : Method} {c : Code} {H : Heap} {locs : List Loc} {cells slots : Nat}
theorem yRun_of {len : Nat} {y : MethodName} {bytes cc : ByteArray} {maxL nL mc ms : Nat} {ret : Option FieldType} {rm : Room} {Pc : Array Value → State → Prop} {Qc : Array Value → State → Outcome → State → Prop} {XC : Nat → String → State → State → Prop} {free : Addr → Prop} {own : String} {rest : List Value} {g : JFrame} {as : Array Value} {mk : MethodId} {ig : Instr}
    (S : CallFix p m c cc nL s args lw_all own) (hM : vx_Met l y (ws_ y bytes maxL ret) rm Pc Qc XC mc ms free) (hbl : FrameBlind Pc) (hrc : rm.cells = mc) (hrs : rm.slots = ms) (hfr : rm.frames + 1 ≤ R.frames) (hlo : 8 + (maxL + 11) + rm.locals ≤ R.locals) (hcode : Cond.code y bytes maxL ret ∈ lw_all) (hini : Cond.initialized y.cls ∈ lw_all) (hnamed : s.methodNamed? y = some mk)
    (hent : yEnt p l e R s m args below meth c H g rest mk as) (hPc : ∀ U : State, U.heap = H → s.WarmedH U.vm → Pc as U) (hg : g.method = m) (hsize : g.locals.size = nL) (hW : 2 * g.monitorRoom + (rest.map fun v => v.category).sum ≤ 8) (hdg : decode cc g.pc = .ok (ig, len)) (hf : cells + mc ≤ R.cells ∧ slots + ms ≤ R.slots) :
    yRun len p l e R s m args below meth c H locs cells slots mc ms g rest (Qc as) XC free := by
  have hK : vx_Back l R p e below s args y len 8 (PreOf R mc ms Pc) (PostOf Qc mc ms free) (vx_Post XC mc ms free) := vx_back (bytes := bytes) (maxL := maxL) (ret := ret) hM hbl hrc hrs hfr hlo (pay_in S.2.2.2.2 (lw_meth hcode)) List.mem_cons_self (fun a' U hW => word_at hW (Or.inl (by first | rfl | simp [Cond.onTables, Cond.keeps, Cond.steady])) (S.2.2.2.2 _ hini))
  obtain ⟨hx, hb, hml, ho, -⟩ := S
  intro T hT X
  obtain ⟨vm₁, X₁, hstep₁⟩ := hent T locs cells slots hT X
  rcases hK m meth c ⟨T.setVm vm₁, locs, cells, slots⟩ { g with stack := rest } ig mk as X₁ hg (hsize.trans hml.symm) (by rw [hb]; exact hdg) hW (X₁.named hnamed) ⟨hf.1, hf.2, hPc (T.setVm vm₁) hT X₁.warmed⟩ with ⟨v, ⟨U', l2, c2, s2⟩, X', ⟨g', mk', t, L, e1, e2, hq, h1, hL, h2, h3⟩, hsteps⟩ | ⟨q, ⟨U', l2, c2, s2⟩, X', ⟨g', mk', t, L, E, ce, e1, e2, hq, hce, hcv, hcl, h1, hL, h2, h3⟩, hsteps⟩
  · dsimp only [Pt.U, Pt.locs, Pt.cells, Pt.slots] at X' e1 e2 h1 h2 h3 hsteps
    subst h1; subst h2; subst h3
    exact Or.inl ⟨v, (T.setVm vm₁).calling g' mk' as, t, U', L, hT, X', hL, e1, e2, hq, fun target h => hstep₁ _ fun acts => by rw [doInvoke_state]; exact hsteps.trans h⟩
  · dsimp only [Pt.U, Pt.locs, Pt.cells, Pt.slots] at X' e1 e2 h1 h2 h3 hsteps hcl
    subst h1; subst h2; subst h3
    exact Or.inr ⟨q, (T.setVm vm₁).calling g' mk' as, t, U', L, E, ce, hT, X', hL, e1, e2, hq, hce, hcv, vx_cls X₁.warmed hcl, hstep₁ _ fun acts => by rw [doInvoke_state]; exact hsteps⟩
/-- an object of the class C selects y for the interface method ⟨J, nm, ds⟩ -/
def ySel (s : State) (C J nm ds : String) (y : MethodName) (mk : MethodId) : Prop := ∃ (cB : ClassId) (r0 : MethodId) (r methM : Method), s.vm.findClass C = some cB ∧ s.methodNamed? ⟨J, nm, ds⟩ = some r0 ∧ s.vm.method? r0 = some r ∧ r.isStatic = false ∧ parseMethodDescriptor ds = some r.sig ∧ selectMethod {} s.vm cB r0 = .method mk ∧ s.methodNamed? y = some mk ∧ s.vm.method? mk = some methM ∧ ((cB :: s.vm.superclasses cB).any fun k => (declaredIn s.vm r.name r.desc k).any fun (_, z) => z.isPrivate || z.isStatic) = false ∧ hasFlag methM.accessFlags Acc.public_ = true ∧ methM.isAbstract = false
theorem ySel_s {C J nm ds : String} {y : MethodName} {A : Array Value} (hJ : J ≠ "java/lang/invoke/MethodHandle" ∧ J ≠ "java/lang/invoke/VarHandle") (hdecl : (Cond.declares ⟨J, nm, ds⟩).before A s = true) (hsel : (Cond.selects C ⟨J, nm, ds⟩ y).before A s = true) (hinst : (Cond.instanceMethod y).before A s = true) (hpub : (Cond.publicMethod y).before A s = true) (hunh : (Cond.unhidden C nm ds).before A s = true) : ∃ mk, ySel s C J nm ds y mk := by
  obtain ⟨r0, r, hn, hrm, hstR, hsigR⟩ := Cond.declares_spec hdecl
  obtain ⟨hnameR, hdescR⟩ := name_of_methodNamed hn hrm
  obtain ⟨mk, methM, hnamed, hmethM, -, habM⟩ := Cond.instanceMethod_spec hinst
  obtain ⟨c2, r2, m2, q1, q2, q3, q4, -⟩ := Cond.selects_spec hsel
  cases (State.methodFound?_of_named hn hJ).symm.trans q2
  cases hnamed.symm.trans q3
  exact ⟨mk, c2, r0, r, methM, q1, hn, hrm, hstR, hsigR, q4, hnamed, hmethM, by rw [hnameR, hdescR]; exact Cond.unhidden_spec q1 hunh, Cond.publicMethod_spec hnamed hmethM hpub, habM⟩
theorem ySel_d {C J nm ds : String} {y : MethodName} {A : Array Value} (hJ : J ≠ "java/lang/invoke/MethodHandle" ∧ J ≠ "java/lang/invoke/VarHandle") (hdecl : (Cond.declares ⟨J, nm, ds⟩).before A s = true) (hsel : (Cond.landsInDefault C ⟨J, nm, ds⟩ y).before A s = true) (hinst : (Cond.instanceMethod y).before A s = true) (hpub : (Cond.publicMethod y).before A s = true) : ∃ mk, ySel s C J nm ds y mk := by
  obtain ⟨r0, r, hn, hrm, hstR, hsigR⟩ := Cond.declares_spec hdecl
  obtain ⟨mk, methM, hnamed, hmethM, -, habM⟩ := Cond.instanceMethod_spec hinst
  obtain ⟨c2, r2, m2, rm, q1, q2, q3, q5, q4, -, q6, -⟩ := Cond.landsInDefault_spec hsel
  cases (State.methodFound?_of_named hn hJ).symm.trans q2
  cases hnamed.symm.trans q3
  cases hrm.symm.trans q5
  exact ⟨mk, c2, r0, r, methM, q1, hn, hrm, hstR, hsigR, q4, hnamed, hmethM, q6, Cond.publicMethod_spec hnamed hmethM hpub, habM⟩
/-- through an interface -/
theorem yE_iface {cc : ByteArray} {own C J : String} {index count pc : Nat} {xi y : MethodName} {mk : MethodId} {b : Addr} {As rest : List Value} {ls : Array Slot} (hexec : p.tables.exec = Jvm.exec) (hb : c.code = cc) (hown : s.vm.findClass own = some m.cls) (hlink : (Cond.methodLink own index xi).before args s = true) (hface : (Cond.interfaceMethod xi.cls J xi.name xi.desc).before args s = true) (hdecl : (Cond.declares ⟨J, xi.name, xi.desc⟩).before args s = true) (hpubJ : (Cond.publicMethod ⟨J, xi.name, xi.desc⟩).before args s = true) (hsel : ySel s C J xi.name xi.desc y mk) (hcast : (Cond.castable C xi.cls).before args s = true)
    (hx : xi.cls ≠ "java/lang/invoke/MethodHandle" ∧ xi.cls ≠ "java/lang/invoke/VarHandle") (hrv : ∃ cell : Cell, H[b]? = some cell ∧ cell.vm.isStatics = false ∧ s.vm.findClass C = some cell.cls) (hlen : (parseMethodDescriptor xi.desc).map (fun d => d.parameters.length) = some As.length) (hdg : decode cc pc = .ok (.invokeinterface index count, 5)) :
    yEnt p l e R s m args below meth c H (F0 m pc ls (As.reverse ++ .ref b :: rest)) rest mk (Value.ref b :: As).toArray := by
  intro T locs cells slots hT X
  obtain ⟨cB, r0, r, methM, f1, hn, hrm, hstR, hsigR, hselP, hnamed, hmethM, hway, hpubM, habM⟩ := hsel
  obtain ⟨cell, g1, g2, g3⟩ := hrv
  cases g3.symm.trans f1
  obtain ⟨cL, kL, r1, hcL, hkL, hiL, hfoundL, hn1⟩ := Cond.interfaceMethod_spec hface
  cases hn.symm.trans hn1
  obtain ⟨c3, t3, w1, w2, w3⟩ := Cond.castable_spec hcast
  cases g3.symm.trans w1
  cases hcL.symm.trans w2
  obtain ⟨kB, hkB, -⟩ := Vm.findClass_spec g3
  have hselE : selectMethod e.platform s.vm cell.cls r0 = .method mk := by rw [Launch.admits_selectMethod X.admits]; exact hselP
  have hlen' : As.length = r.sig.parameters.length := by rw [hsigR] at hlen; exact (Option.some.inj hlen).symm
  by_cases hxo : xi.cls = J
  · have hn' : s.methodNamed? xi = some r0 := by rw [← hn, ← hxo]
    have hr0cls : r0.cls = cL := Option.some.inj ((findClass_of_methodNamed hn').symm.trans hcL)
    exact X.invokeinterface hexec hown hlink hn' hrm hstR (by rw [hr0cls]; exact hkL) hiL hx (a := b) (cell := cell) (kcell := kB) (by rw [hT]; exact g1) (fun z h => by rw [h] at g2; cases g2) hkB (by rw [hr0cls]; exact w3) hselE hmethM hway hpubM habM (g := F0 m pc ls (As.reverse ++ .ref b :: rest)) rfl (argsL := As) (rest := rest) hlen' rfl (by rw [hb]; exact hdg)
  · exact X.invokeinterfaceUp hexec (J := J) hown hlink hface hdecl hpubJ hxo hx (a := b) (cell := cell) (kcell := kB) hcL (by rw [hT]; exact g1) (fun z h => by rw [h] at g2; cases g2) hkB w3 hn hrm hselE hmethM hway hpubM habM (g := F0 m pc ls (As.reverse ++ .ref b :: rest)) rfl (argsL := As) (rest := rest) hlen' rfl (by rw [hb]; exact hdg)
/-- invokevirtual, into an interface's default -/
theorem yE_virtD {cc : ByteArray} {own C owner : String} {index pc : Nat} {x y : MethodName} {b : Addr} {As rest : List Value} {ls : Array Slot} (hexec : p.tables.exec = Jvm.exec) (hb : c.code = cc) (hown : s.vm.findClass own = some m.cls) (hlink : (Cond.methodLink own index x).before args s = true) (hsame : (Cond.sameMethod x.cls owner x.name x.desc).before args s = true) (hdecl : (Cond.declares ⟨owner, x.name, x.desc⟩).before args s = true) (howner : owner ≠ "java/lang/invoke/MethodHandle" ∧ owner ≠ "java/lang/invoke/VarHandle")
    (hsel : (Cond.landsInDefault C x y).before args s = true) (hinst : (Cond.instanceMethod y).before args s = true) (hrv : ∃ cell : Cell, H[b]? = some cell ∧ cell.vm.isStatics = false ∧ s.vm.findClass C = some cell.cls) (hlen : (parseMethodDescriptor x.desc).map (fun d => d.parameters.length) = some As.length) (hdg : decode cc pc = .ok (.invokevirtual index, 3)) :
    ∃ mk, s.methodNamed? y = some mk ∧ yEnt p l e R s m args below meth c H (F0 m pc ls (As.reverse ++ .ref b :: rest)) rest mk (Value.ref b :: As).toArray := by
  obtain ⟨r0, r, hn, hrm, hstR, hsigR⟩ := Cond.declares_spec hdecl
  obtain ⟨cn, ck, r1, hcn, hck, hni, hf, hn1⟩ := Cond.sameMethod_found hsame
  cases hn.symm.trans hn1
  obtain ⟨mk, methM, hnamed, hmethM, -, habM⟩ := Cond.instanceMethod_spec hinst
  obtain ⟨c2, r2, m2, rm, q1, q2, q3, q5, q4, ⟨kP, hkP, hkPi⟩, -, q7⟩ := Cond.landsInDefault_spec hsel
  cases hf.symm.trans q2
  cases hnamed.symm.trans q3
  cases hrm.symm.trans q5
  refine ⟨mk, hnamed, fun T locs cells slots hT X => ?_⟩
  obtain ⟨cell, g1, g2, g3⟩ := hrv
  cases g3.symm.trans q1
  have hselP : selectMethod e.platform s.vm cell.cls r0 = .method mk := by rw [Launch.admits_selectMethod X.admits]; exact q4
  have hlen' : As.length = r.sig.parameters.length := by have h := hsigR; rw [show parseMethodDescriptor x.desc = some r.sig from h] at hlen; exact (Option.some.inj hlen).symm
  exact X.invokevirtualUpD hexec hown hlink hsame howner hn hrm hstR (a := b) (cell := cell) (by rw [hT]; exact g1) (fun z h => by rw [h] at g2; cases g2) hselP hmethM habM hkP hkPi q7 (g := F0 m pc ls (As.reverse ++ .ref b :: rest)) rfl (argsL := As) (rest := rest) hlen' rfl (by rw [hb]; exact hdg)
/-- invokespecial of a superclass's method, into an interface's default -/
theorem yE_specD {cc : ByteArray} {own owner : String} {index pc : Nat} {x : MethodName} {b : Addr} {As rest : List Value} {ls : Array Slot} {C : String} (hexec : p.tables.exec = Jvm.exec) (hb : c.code = cc) (hown : s.vm.findClass own = some m.cls) (hlink : (Cond.methodLink own index x).before args s = true) (hsame : (Cond.sameMethod x.cls owner x.name x.desc).before args s = true) (hsup : (Cond.superclass own x.cls).before args s = true) (hsel : (Cond.landsInDefault x.cls x ⟨owner, x.name, x.desc⟩).before args s = true) (hinst : (Cond.instanceMethod ⟨owner, x.name, x.desc⟩).before args s = true) (hpub : (Cond.publicMethod ⟨owner, x.name, x.desc⟩).before args s = true) (hno : x.name ≠ "<init>")
    (hdecl : (Cond.declares ⟨owner, x.name, x.desc⟩).before args s = true) (hrv : ∃ cell : Cell, H[b]? = some cell ∧ cell.vm.isStatics = false ∧ s.vm.findClass C = some cell.cls) (hlen : (parseMethodDescriptor x.desc).map (fun d => d.parameters.length) = some As.length) (hdg : decode cc pc = .ok (.invokespecial index, 3)) :
    ∃ mk, s.methodNamed? ⟨owner, x.name, x.desc⟩ = some mk ∧ yEnt p l e R s m args below meth c H (F0 m pc ls (As.reverse ++ .ref b :: rest)) rest mk (Value.ref b :: As).toArray := by
  obtain ⟨r0, r, hn, hrm, hstR, hsigR⟩ := Cond.declares_spec hdecl
  obtain ⟨cn, ck, r1, hcn, hck, hni, hf, hn1⟩ := Cond.sameMethod_found hsame
  cases hn.symm.trans hn1
  obtain ⟨mk, methM, hnamed, hmethM, -, habM⟩ := Cond.instanceMethod_spec hinst
  cases hn.symm.trans hnamed
  cases hrm.symm.trans hmethM
  obtain ⟨hrn, hrd⟩ := name_of_methodNamed hn hrm
  obtain ⟨c2, r2, m2, rm, q1, q2, q3, q5, q4, -, q6, -⟩ := Cond.landsInDefault_spec hsel
  cases hcn.symm.trans q1
  cases hf.symm.trans q2
  cases hn.symm.trans q3
  obtain ⟨ps, dk, kp, hps, hdk, hkp, hsuper, -, -, hnid⟩ := Cond.superclass_spec hown hsup
  cases hcn.symm.trans hps
  refine ⟨r0, hn, fun T locs cells slots hT X => ?_⟩
  obtain ⟨cell, g1, g2, g3⟩ := hrv
  obtain ⟨kB, hkB, -⟩ := Vm.findClass_spec g3
  have hpl : e.platform.magicAccessors = ({} : Platform).magicAccessors := by rw [X.admits.platform]
  obtain ⟨ci, hl, hright⟩ := Cond.methodLink_specUp hown hcn hck hni hf hlink e.platform hpl (by rw [X.admits.platform])
  obtain ⟨kr, hkr, -⟩ := className_of_methodNamed hn
  obtain ⟨dk₀, cfile, nt, _, _, ck₀, _, _, hd₀, hcf, hcp, -, -, -, hc₀, -, hpoly, -⟩ := hl.here
  cases hdk.symm.trans hd₀
  cases hck.symm.trans hc₀
  have hup : s.vm.lookupUp cn x.name x.desc = some r0 := ((State.methodFound?_class hcn hck hni hpoly r0).mp hf).1
  have hfound0 : lookupSpecial s.vm cn x.name x.desc = .method r0 := special_default hck hni hup hrm hstR hrn hrd q4
  have hlen' : As.length = r.sig.parameters.length := by have h := hsigR; rw [show parseMethodDescriptor x.desc = some r.sig from h] at hlen; exact (Option.some.inj hlen).symm
  obtain ⟨vm', hW', st⟩ := Steps.invokeSuperColdArgs (tb := p.tables) (e := e) (s₀ := s) (U := T) (f := F0 m pc ls (As.reverse ++ .ref b :: rest)) (args := As) (rest := rest) (a := b) (cell := cell) (m := r0) X.here hexec (by rw [hb]; exact hdg) X.warmed hl hright hdk hcf hcp hrm hck
    (by rw [hrn]; simp [hno]) hstR (by rw [hrn, hrd, hsuper]; simpa using hfound0) hnid hkr habM hlen' rfl (by rw [hT]; exact g1) (fun z h => by rw [h] at g2; cases g2) hkB
  exact ⟨vm', X.noted hW', fun target h => st target (h [])⟩
end
