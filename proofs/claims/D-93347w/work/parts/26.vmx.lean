/-! THE MACHINE's OWN EXCEPTIONS -/
set_option maxRecDepth 100000
section
variable {p : Program} {l : Launch} {e : Env} {R : Room} {s : State} {m : MethodId} {args : Array Value} {below : List Frame} {meth : Method} {c : Code} {T : State} {locs : List Loc} {cells slots : Nat}
/-- a checkcast that fails: the machine notes a ClassCastException (follows the library's instanceofNo) -/
theorem vm_castNo (X : Stand p l e R s m args below meth c T locs cells slots) (hexec : p.tables.exec = Jvm.exec)
    {own name : String} {index : Nat} (hown : s.vm.findClass own = some m.cls) (hlink : (Cond.classLink own index name).before args s = true)
    {a : Addr} {cell : Cell} {cT : ClassId} {ks : Class} (hcell : T.heap[a]? = some cell) (hobj : cell.vm.isStatics = false) (hks : s.vm.classes[cell.cls]? = some ks)
    (hcT : s.vm.findClass name = some cT) (hasg : s.vm.assignable cell.cls cT = false)
    {g : JFrame} (hg : g.method = m) {rest : List Value} (hstack : g.stack = .ref a :: rest) (hdg : decode c.code g.pc = .ok (.checkcast index, 3)) :
    ∃ (vm' : Vm) (ks' kt' : Class), Stand p l e R s m args below meth c (T.setVm vm') locs cells slots ∧ s.WarmedH vm' ∧ vm'.classes[cell.cls]? = some ks' ∧ vm'.classes[cT]? = some kt' ∧
      ∀ target, Steps p.tables e below (((T.setVm vm').setTop g).pushFrame (.throwNew "java/lang/ClassCastException" (some (Op.checkcast.message vm' ks' kt')) none)) target → Steps p.tables e below (T.setTop g) target := by
  have hpl : e.platform.magicAccessors = ({} : Platform).magicAccessors := by rw [X.admits.platform]
  obtain ⟨cc, hcc, hcl⟩ := Cond.classLink_spec hown hlink e.platform hpl
  cases hcT.symm.trans hcc
  obtain ⟨dk, _, _, kt, hd, _, _, _, _, hkt, _, hopen⟩ := hcl.here
  have hcl₀ := X.warmed.classLinks hcl
  have hW' : s.WarmedH (T.vm.noted m.cls index (.cls cT)) := X.warmed.noted hd hopen (State.rightAt_cls hcl)
  obtain ⟨ks', hks', -⟩ := hW'.alike.2.2 _ _ hks
  obtain ⟨kt', hkt', -⟩ := hW'.alike.2.2 _ _ hkt
  refine ⟨_, ks', kt', X.noted hW', hW', hks', hkt', fun target hrest => ?_⟩
  subst hg
  jvm_step X.here [hexec, hdg, checkcast.wp_cold (e := e) (s := T) (f := g) X.here.top hstack (resolveClass_links e.toSetting hcl₀) hcl₀.ready,
    checkcast.wp_ready (e := e) (s := T.setVm (T.vm.noted g.method.cls index (.cls cT))) (f := g) X.here.top hcl₀.ready hstack]
  refine ⟨cell, hcell, VmData.noStatics_of hobj, ks', hks', kt', hkt', ?_⟩
  rw [if_neg (by rw [hW'.alike.assignable, hasg]; decide)]
  exact hrest
end
/-- what findClass says of the class it finds -/
theorem vm_found {vm : Vm} {name : String} {c : ClassId} {k : Class} (h : vm.findClass name = some c) (hk : vm.classes[c]? = some k) : k.name = name ∧ k.hidden = none ∧ k.loader = none := by
  obtain ⟨hlt, hp, -⟩ := Array.findIdx?_eq_some_iff_getElem.mp h
  have hk2 : vm.classes[c]? = some vm.classes[c] := by simp [hlt]
  have e : k = vm.classes[c] := Option.some.inj (hk.symm.trans hk2)
  subst e
  simp only [Bool.and_eq_true, beq_iff_eq, Option.isNone_iff_eq_none] at hp
  exact ⟨hp.1.1.1, hp.1.1.2, hp.2⟩
theorem vm_home {vm : Vm} {k : Class} (hl : k.loader = none) (hp : castPackages_1.contains (packageOf k.name) = true) (hm : (vm.modules.all fun m => m.loader.isSome || m.name == "java.base" || !(castPackages_1.any fun p => m.packages.contains p)) = true) : (vm.home k).toList.length ≤ 38 := by
  have key : ∀ m : ModuleInfo, vm.moduleOf k = some m → m.name = "java.base" := by
    intro m h
    unfold Vm.moduleOf at h
    split at h
    · have h1 := List.find?_some h
      simpa using h1
    · have h1 := List.find?_some h
      have h2 := List.mem_of_find?_eq_some h
      have h3 := List.all_eq_true.mp hm m h2
      rw [hl] at h1
      simp only [Bool.and_eq_true, beq_iff_eq] at h1
      rw [h1.1] at h3
      simp only [Option.isSome_none, Bool.false_or, Bool.or_eq_true, beq_iff_eq, Bool.not_eq_true'] at h3
      rcases h3 with h3 | h3
      · exact h3
      · rw [List.any_eq_false] at h3
        exact absurd h1.2 (h3 _ (by simpa using hp))
  unfold Vm.home
  rw [hl]
  cases h : vm.moduleOf k with
  | none => simp only [Vm.loaderName]; decide +kernel
  | some m => simp only [Vm.loaderName]; rw [key m h]; decide +kernel
theorem vm_text {vm : Vm} {ks kt : Class} (hs : ks.hidden = none ∧ ks.loader = none) (ht : kt.hidden = none ∧ kt.loader = none) (ps : castPackages_1.contains (packageOf ks.name) = true) (pt : castPackages_1.contains (packageOf kt.name) = true) (ls : (dotted ks.name).toList.length ≤ 19) (lt : (dotted kt.name).toList.length ≤ 19) (hm : (vm.modules.all fun m => m.loader.isSome || m.name == "java.base" || !(castPackages_1.any fun p => m.packages.contains p)) = true) :
    (stringBytes (stringToUtf16 (Op.checkcast.message vm ks kt))).size ≤ 1000 ∧ (Op.checkcast.message vm ks kt == notModelled) = false := by
  have h1 := vm_home hs.2 ps hm
  have h2 := vm_home ht.2 pt hm
  have e1 : ks.shown = dotted ks.name := by unfold Class.shown; rw [hs.1]
  have e2 : kt.shown = dotted kt.name := by unfold Class.shown; rw [ht.1]
  have hl : (Op.checkcast.message vm ks kt).toList.length ≤ 250 := by
    unfold Op.checkcast.message Vm.homes
    rw [e1, e2]
    split
    · simp only [toString, String.toList_append, List.length_append]
      have a1 : "class ".toList.length = 6 := by decide
      have a2 : " cannot be cast to class ".toList.length = 25 := by decide
      have a3 : " (".toList.length = 2 := by decide
      have a4 : ")".toList.length = 1 := by decide
      have a5 : " and ".toList.length = 5 := by decide
      have a6 : " are in ".toList.length = 8 := by decide
      omega
    · simp only [toString, String.toList_append, List.length_append]
      have a1 : "class ".toList.length = 6 := by decide
      have a2 : " cannot be cast to class ".toList.length = 25 := by decide
      have a3 : " (".toList.length = 2 := by decide
      have a4 : ")".toList.length = 1 := by decide
      have a5 : " is in ".toList.length = 7 := by decide
      have a6 : "; ".toList.length = 2 := by decide
      omega
  refine ⟨?_, ?_⟩
  · have q1 := stringBytes_size_le (stringToUtf16 (Op.checkcast.message vm ks kt))
    have q2 := utf16_size_le (Op.checkcast.message vm ks kt)
    omega
  · rw [beq_eq_false_iff_ne]
    intro h
    have h3 := congrArg (fun z => z.toList.head?) h
    unfold Op.checkcast.message at h3
    simp [notModelled, toString, String.toList_append] at h3
