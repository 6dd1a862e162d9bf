/-! ROWS OF WHAT THE MACHINE THROWS -/
set_option maxRecDepth 100000
theorem vw_ok : (∀ w ∈ vx_atM "java/lang/ClassCastException" vN, vx_ot w = true) ∧ (∀ w ∈ vx_atM "java/lang/NegativeArraySizeException" vN, vx_ot w = true) ∧ (∀ w ∈ vx_atM "java/lang/ArithmeticException" vN, vx_ot w = true) ∧ (∀ w ∈ vx_atN 8, vx_ot w = true) := by
  have h := vw_good
  rw [Bool.and_eq_true, Bool.and_eq_true, Bool.and_eq_true] at h
  exact ⟨fun w hw => List.all_eq_true.mp h.1.1.1 w hw, fun w hw => List.all_eq_true.mp h.1.1.2 w hw, fun w hw => List.all_eq_true.mp h.1.2 w hw, fun w hw => List.all_eq_true.mp h.2 w hw⟩
theorem vw_in : (∀ w ∈ vx_atM "java/lang/ClassCastException" vN, w ∈ cVM) ∧ (∀ w ∈ vx_atM "java/lang/NegativeArraySizeException" vN, w ∈ cVM) ∧ (∀ w ∈ vx_atM "java/lang/ArithmeticException" vN, w ∈ cVM) ∧ (∀ w ∈ vx_atN 8, w ∈ cVM) := by
  refine ⟨fun w hw => ?_, fun w hw => ?_, fun w hw => ?_, fun w hw => ?_⟩
  · exact List.mem_append_left _ (List.mem_append_left _ (List.mem_append_left _ hw))
  · exact List.mem_append_left _ (List.mem_append_left _ (List.mem_append_right _ hw))
  · exact List.mem_append_left _ (List.mem_append_right _ hw)
  · exact List.mem_append_right _ hw
theorem cWo_grow {G : cG} {KK : State → Prop} (hH : cH G KK) {σ : SS} {d : DS} {H H1 : Heap} (hW : cWo G d σ H) (h1 : H.size ≤ H1.size) (h2 : ∀ q : Nat, q < H.size → H1[q]? = H[q]?) (n : Nat) : cWo G (d.1, n) σ H1 :=
  ⟨hW.1.kept (fun k x hx => h2 x.1 (hW.1 k x hx).lt), hW.2.1, hH.2.2.1 H H1 h1 (fun q h _ => h2 q h) hW.2.2⟩
def dCk (d : DS) (T : String) (o : Option Nat) : Option Bool := match o with
  | none => some true
  | some q => dIs d T (some q)
theorem cYes_w : ∀ C ∈ cNoS, ∀ T ∈ cNoT, cYes C T = true → C = T ∨ Cond.castable C T ∈ cNw := by decide +kernel
section
variable {p : Program} {l : Launch} {e : Env} {R : Room} {s : State} {m : MethodId} {args : Array Value} {below : List Frame} {meth : Method} {c : Code}
variable {nL : Nat} {cc : ByteArray} {fr lo : Nat} {ret : Option FieldType} {own : String}
variable {pc : Nat} {σ : SS} {lv : List (Nat × Value)} {st : List Value} {G : cG} {d : DS} {KK : State → Prop} {τ : Type} {nf : τ → Nat} {Ψ : τ → Outcome → SS × DS → Prop}
/-- a machine's exception leaves the method -/
theorem jy_leave {i : Nat} {H H1 : Heap} {locs : List Loc} {ls : Array Slot} {rest : List Value} {q9 : Addr} {ce : Cell} {cells slots : Nat}
    (hH : cH G KK) (hW : cWo G d σ H) (hn : H.size = d.2) (hs0 : s.heap.size ≤ d.2) (h1 : H.size ≤ H1.size) (h2 : ∀ q : Nat, q < H.size → H1[q]? = H[q]?) (hS : va_S (hA G) s.heap H1 locs) (hce : H1[q9]? = some ce) (hv : ce.vm = .none) (hcl : s.vm.findClass (yE i) = some ce.cls) (hi : 3 ≤ i) (ht : ∀ x ∈ c.exceptionTable.toList, False) (hlocks : meth.locks = false) (hc : cells ≤ d.2 - s.heap.size + 3) (hsl : slots ≤ 41 * (d.2 - s.heap.size) + 1010) :
    vx_W p l e R s m args below meth c H1 locs cells slots (jZY below args s G nf Ψ (Sum.inl (i, σ, d) : XR τ)) (F0 m pc ls rest) q9 := by
  intro T hT X
  have hz := X.heapSize
  rw [hT] at hz
  exact vx_out (E := yE i) (fun x hx => absurd (ht x hx) id) hlocks hce hv hcl (fun t ht2 hal => ⟨(i, σ, d), rfl, rfl, fun h => absurd h (by show ¬ i ≤ 2; omega), ⟨H1.size, by show d.2 ≤ _; omega, by show _ ≤ d.2 + 3; omega, fun h => absurd h (by show ¬ i ≤ 2; omega), by rw [ht2]; exact cWo_grow hH hW h1 h2 _, by rw [ht2]⟩, hS.F ht2⟩) hS.2.2 (by show _ ≤ d.2 + 25 - s.heap.size; omega) (by show _ ≤ 41 * (d.2 + 25 - s.heap.size); omega) T hT X
theorem jy_note {i : Nat} {text : String} {H : Heap} {locs : List Loc} {ls : Array Slot} {rest : List Value} (hk : jk p R s m args meth c (ynx nf (Sum.inl (i, σ, d) : XR τ)) cc nL own fr lo ret) (hH : cH G KK) (hK : KK s) (ht : ∀ x ∈ c.exceptionTable.toList, False) (h0 : hX G s.heap) (hlt : l.stackTraces = false) (hi : i = 3 ∨ i = 4 ∨ i = 6) (hW : cWo G d σ H) (hn : H.size = d.2) (hS : va_S (hA G) s.heap H locs) (hsize : ls.size = nL) (htext : (text == notModelled) = false) (hnb : (stringBytes (stringToUtf16 text)).size ≤ 1000) (hr : 6 < fr ∧ (rest.map fun v => v.category).sum + 10240 ≤ lo) :
    vx_Note p l e R s m args below meth c H locs (d.2 - s.heap.size) (41 * (d.2 - s.heap.size)) (jZY below args s G nf Ψ (Sum.inl (i, σ, d) : XR τ)) (F0 m pc ls rest) (yE i) text := by
  have hs0 : s.heap.size ≤ d.2 := by have h := hS.1; rw [hn] at h; exact h
  have hz := hH.2.2.2.2.1 s s.heap hK h0
  have hw := (hH.2.2.2.2.2 s hK).2.2.2.1
  have hRf : vN.length + 4 < R.frames := by rw [hk.2.1]; exact hr.1
  have hRl : (rest.map fun v => v.category).sum + 10240 ≤ R.locals := by rw [hk.2.1]; exact hr.2
  have hRc : d.2 - s.heap.size + 3 ≤ R.cells := by rw [hk.2.1]; show _ ≤ d.2 + 25 - s.heap.size; omega
  have hRs : 41 * (d.2 - s.heap.size) + (1000 + 10) ≤ R.slots := by rw [hk.2.1]; show _ ≤ 41 * (d.2 + 25 - s.heap.size); omega
  have hml : ls.size = c.maxLocals := hsize.trans hk.1.2.2.1.symm
  rcases hi with rfl | rfl | rfl
  · exact vx_vm (cls := "java/lang/NegativeArraySizeException") (names := vN) (nb := 1000) (A := hA G) hk.1.1 hlt (by decide +kernel) (by decide +kernel) (by decide +kernel) (by decide +kernel) (fun w hw' => vx_ot_at (State.WarmedH.refl s) rfl (vw_ok.2.1 w hw') (hw w (vw_in.2.1 w hw'))) vw_ok.2.1 hz.2.2.2.1 hz.2.2.2.2 hS hml htext hnb (Nat.le_refl _) hRf hRl (by decide +kernel) hRc hRs hk.2.2.2 (fun H1 q9 ce g1 g2 g3 g4 g5 g6 => jy_leave (i := 3) hH hW hn hs0 g1 g2 g3 g4 g5 g6 (by omega) ht hk.2.2.2 (Nat.le_refl _) (Nat.le_refl _))
  · exact vx_vm (cls := "java/lang/ClassCastException") (names := vN) (nb := 1000) (A := hA G) hk.1.1 hlt (by decide +kernel) (by decide +kernel) (by decide +kernel) (by decide +kernel) (fun w hw' => vx_ot_at (State.WarmedH.refl s) rfl (vw_ok.1 w hw') (hw w (vw_in.1 w hw'))) vw_ok.1 hz.2.2.2.1 hz.2.2.2.2 hS hml htext hnb (Nat.le_refl _) hRf hRl (by decide +kernel) hRc hRs hk.2.2.2 (fun H1 q9 ce g1 g2 g3 g4 g5 g6 => jy_leave (i := 4) hH hW hn hs0 g1 g2 g3 g4 g5 g6 (by omega) ht hk.2.2.2 (Nat.le_refl _) (Nat.le_refl _))
  · exact vx_vm (cls := "java/lang/ArithmeticException") (names := vN) (nb := 1000) (A := hA G) hk.1.1 hlt (by decide +kernel) (by decide +kernel) (by decide +kernel) (by decide +kernel) (fun w hw' => vx_ot_at (State.WarmedH.refl s) rfl (vw_ok.2.2.1 w hw') (hw w (vw_in.2.2.1 w hw'))) vw_ok.2.2.1 hz.2.2.2.1 hz.2.2.2.2 hS hml htext hnb (Nat.le_refl _) hRf hRl (by decide +kernel) hRc hRs hk.2.2.2 (fun H1 q9 ce g1 g2 g3 g4 g5 g6 => jy_leave (i := 6) hH hW hn hs0 g1 g2 g3 g4 g5 g6 (by omega) ht hk.2.2.2 (Nat.le_refl _) (Nat.le_refl _))
theorem jy_noteN {H : Heap} {locs : List Loc} {ls : Array Slot} {rest : List Value} (hk : jk p R s m args meth c (ynx nf (Sum.inl (5, σ, d) : XR τ)) cc nL own fr lo ret) (hH : cH G KK) (hK : KK s) (ht : ∀ x ∈ c.exceptionTable.toList, False) (h0 : hX G s.heap) (hlt : l.stackTraces = false) (hW : cWo G d σ H) (hn : H.size = d.2) (hS : va_S (hA G) s.heap H locs) (hsize : ls.size = nL) (hr : 7 < fr ∧ (rest.map fun v => v.category).sum + 10240 ≤ lo) :
    vx_NoteN p l e R s m args below meth c H locs (d.2 - s.heap.size) (41 * (d.2 - s.heap.size)) (jZY below args s G nf Ψ (Sum.inl (5, σ, d) : XR τ)) (F0 m pc ls rest) := by
  have hs0 : s.heap.size ≤ d.2 := by have h := hS.1; rw [hn] at h; exact h
  have hz := hH.2.2.2.2.1 s s.heap hK h0
  have hw := (hH.2.2.2.2.2 s hK).2.2.2.1
  have hRf : 7 < R.frames := by rw [hk.2.1]; exact hr.1
  have hRl : (rest.map fun v => v.category).sum + 10240 ≤ R.locals := by rw [hk.2.1]; exact hr.2
  have hRc : d.2 - s.heap.size + 1 ≤ R.cells := by rw [hk.2.1]; show _ ≤ d.2 + 25 - s.heap.size; omega
  have hRs : 41 * (d.2 - s.heap.size) + 8 ≤ R.slots := by rw [hk.2.1]; show _ ≤ 41 * (d.2 + 25 - s.heap.size); omega
  exact vx_npe (nb := 8) (A := hA G) hk.1.1 hlt (fun w hw' => vx_ot_at (State.WarmedH.refl s) rfl (vw_ok.2.2.2 w hw') (hw w (vw_in.2.2.2 w hw'))) vw_ok.2.2.2 hz.2.2.2.1 hz.2.2.2.2 hS (hsize.trans hk.1.2.2.1.symm) hRf hRl hRc hRs hk.2.2.2 (fun H1 q9 ce g1 g2 g3 g4 g5 g6 => jy_leave (i := 5) hH hW hn hs0 g1 g2 g3 g4 g5 g6 (by omega) ht hk.2.2.2 (by omega) (by omega))
variable {F : Option (XR τ)} {res : XR τ}
/-- a checkcast -/
theorem jy_cast {T : String} {o : Option Nat} {ix : Nat} (hk : jk p R s m args meth c (ynx nf res) cc nL own fr lo ret) (hH : cH G KK) (hK : KK s) (ht : ∀ x ∈ c.exceptionTable.toList, False) (h0 : hX G s.heap) (hlt : l.stackTraces = false) (hlink : Cond.classLink own ix T ∈ lw_all) (hd : decode cc pc = .ok (.checkcast ix, 3)) (hr : 6 < fr ∧ 10250 ≤ lo) (hw : (st.map fun v => v.category).sum ≤ 8)
    (kk : jj p l e R s m args below meth c (hA G) (ynx nf res) (jZY below args s G nf Ψ res) (cWo G d) (cnx d) nL σ (pc + 3) lv (va_rf o :: st) (F = some res)) : jj p l e R s m args below meth c (hA G) (ynx nf res) (jZY below args s G nf Ψ res) (cWo G d) (cnx d) nL σ pc lv (va_rf o :: st) (((dCk d T o).bind fun b => if b = true then F else some (Sum.inl (4, σ, d))) = some res) := by
  cases o with
  | none => exact fun hz => ⟨(kk hz).1, fun H locs ls hW hn hS hl => lv_castN hk.1.1 hk.1.2.1 hd ((kk hz).2 H locs ls hW hn hS hl)⟩
  | some q =>
    intro hz
    simp only [dCk, dIs] at hz
    cases hC : dNm d q with
    | none => rw [hC] at hz; cases hz
    | some C =>
    rw [hC] at hz
    simp only [Option.bind_some] at hz
    by_cases hcc : (cNoS.contains C && cNoT.contains T) = true
    · rw [if_pos hcc] at hz
      simp only [Option.bind_some] at hz
      rw [Bool.and_eq_true, List.contains_iff_mem, List.contains_iff_mem] at hcc
      have hrv := dNm_rv (σ := σ) hH hK hC
      have hlk : (Cond.classLink own ix T).before args s = true := hk.1.2.2.2.2 _ hlink
      cases hy : cYes C T with
      | true =>
        rw [hy, if_pos rfl] at hz
        obtain ⟨hle, hw⟩ := kk hz
        refine ⟨hle, fun H locs ls hW hn hS hl => ?_⟩
        rcases cYes_w C hcc.1 T hcc.2 hy with rfl | hcn
        · exact va_castE hk.1.1 hk.1.2.1 hk.1.2.2.2.1 hlk (hrv H hW) hd (hw H locs ls hW hn hS hl)
        · exact va_castY hk.1.1 hk.1.2.1 hk.1.2.2.2.1 hlk ((hH.2.1 s hK).2.1 _ hcn) (hrv H hW) hd (hw H locs ls hW hn hS hl)
      | false =>
        rw [hy, if_neg (by decide)] at hz
        cases hz
        refine ⟨Nat.le_add_right _ _, fun H locs ls hW hn hS hl => ?_⟩
        obtain ⟨cell, g1, g2, g3⟩ := hrv H hW
        obtain ⟨cS, cT, f1, f2, f3⟩ := (hH.2.2.2.2.2 s hK).2.1 C hcc.1 T hcc.2 hy
        cases g3.symm.trans f1
        obtain ⟨ks, hks, -⟩ := Vm.findClass_spec g3
        intro T9 hT X
        obtain ⟨vm', ks', kt', X', hW', hks', hkt', st'⟩ := vm_castNo X hk.1.1 hk.1.2.2.2.1 hlk (by rw [hT]; exact g1) g2 hks f2 f3 (g := F0 m pc ls (.ref q :: st)) rfl rfl (by rw [hk.1.2.1]; exact hd)
        obtain ⟨u, A0, hu, -, -, hmod⟩ := (hH.2.2.2.2.2 s hK).2.2.2.2
        have hmods : (vm'.modules.all fun m => m.loader.isSome || m.name == "java.base" || !(castPackages_1.any fun p => m.packages.contains p)) = true := by
          have e1 : vm'.modules = s.vm.modules := by rw [hW'.1]
          have e2 : s.vm.modules = u.vm.modules := by rw [hu.1]
          rw [e1, e2]; exact hmod
        have q1 := vm_found (by rw [hW'.alike.findClass]; exact g3) hks'
        have q2 := vm_found (by rw [hW'.alike.findClass]; exact f2) hkt'
        have p1 := cNo_ok C (List.mem_append_left _ hcc.1)
        have p2 := cNo_ok T (List.mem_append_right _ hcc.2)
        obtain ⟨t1, t2⟩ := vm_text (vm := vm') q1.2 q2.2 (by rw [q1.1]; exact p1.1) (by rw [q2.1]; exact p2.1) (by rw [q1.1]; exact p1.2) (by rw [q2.1]; exact p2.2) hmods
        have hN := jy_note (i := 4) (pc := pc) (ls := ls) (rest := .ref q :: st) (nf := nf) (Ψ := Ψ) (e := e) (below := below) (c := c) (locs := locs) hk hH hK ht h0 hlt (Or.inr (Or.inl rfl)) hW hn hS hl.1 t2 t1 ⟨hr.1, by simp only [List.map_cons, List.sum_cons]; show 1 + _ + 10240 ≤ lo; omega⟩
        obtain ⟨t, a1, b1⟩ := hN (T9.setVm vm') hT X'
        exact ⟨t, st' t a1, b1⟩
    · rw [if_neg hcc] at hz; cases hz
/-- instanceof -/
theorem jy_inst {NX : Nat} {Q : State → Prop} {T : String} {o : Option Nat} {ix : Nat} {ρ : Type} {res : ρ} {K : Bool → Option ρ} (hk : jk p R s m args meth c NX cc nL own fr lo ret) (hH : cH G KK) (hK : KK s) (hlink : Cond.classLink own ix T ∈ lw_all) (hd : decode cc pc = .ok (.instanceof ix, 3))
    (kk : ∀ b, jj p l e R s m args below meth c (hA G) NX Q (cWo G d) (cnx d) nL σ (pc + 3) lv (.int (bI b) :: st) (K b = some res)) : jj p l e R s m args below meth c (hA G) NX Q (cWo G d) (cnx d) nL σ pc lv (va_rf o :: st) ((dIs d T o).bind K = some res) := by
  cases o with
  | none => exact fun hz => ⟨(kk false hz).1, fun H locs ls hW hn hS hl => lv_instN hk.1.1 hk.1.2.1 hd ((kk false hz).2 H locs ls hW hn hS hl)⟩
  | some q =>
    intro hz
    simp only [dIs] at hz
    cases hC : dNm d q with
    | none => rw [hC] at hz; cases hz
    | some C =>
    rw [hC] at hz
    simp only [Option.bind_some] at hz
    by_cases hcc : (cNoS.contains C && cNoT.contains T) = true
    · rw [if_pos hcc] at hz
      simp only [Option.bind_some] at hz
      rw [Bool.and_eq_true, List.contains_iff_mem, List.contains_iff_mem] at hcc
      have hrv := dNm_rv (σ := σ) hH hK hC
      have hlk : (Cond.classLink own ix T).before args s = true := hk.1.2.2.2.2 _ hlink
      cases hy : cYes C T with
      | true =>
        rw [hy] at hz
        obtain ⟨hle, hw⟩ := kk true hz
        refine ⟨hle, fun H locs ls hW hn hS hl => ?_⟩
        rcases cYes_w C hcc.1 T hcc.2 hy with rfl | hcn
        · exact va_instE hk.1.1 hk.1.2.1 hk.1.2.2.2.1 hlk (hrv H hW) hd (hw H locs ls hW hn hS hl)
        · exact va_instY hk.1.1 hk.1.2.1 hk.1.2.2.2.1 hlk ((hH.2.1 s hK).2.1 _ hcn) (hrv H hW) hd (hw H locs ls hW hn hS hl)
      | false =>
        rw [hy] at hz
        obtain ⟨hle, hw⟩ := kk false hz
        exact ⟨hle, fun H locs ls hW hn hS hl => va_instNo hk.1.1 hk.1.2.1 hk.1.2.2.2.1 hlk ((hH.2.2.2.2.2 s hK).2.1 C hcc.1 T hcc.2 hy) (hrv H hW) hd (hw H locs ls hW hn hS hl)⟩
    · rw [if_neg hcc] at hz; cases hz
/-- a checkcast where the cast is known to hold -/
theorem jy_castK {NX : Nat} {Q : State → Prop} {T : String} {o : Option Nat} {ix : Nat} {ρ : Type} {res : ρ} {F : Option ρ} (hk : jk p R s m args meth c NX cc nL own fr lo ret) (hH : cH G KK) (hK : KK s) (hlink : Cond.classLink own ix T ∈ lw_all) (hd : decode cc pc = .ok (.checkcast ix, 3))
    (kk : jj p l e R s m args below meth c (hA G) NX Q (cWo G d) (cnx d) nL σ (pc + 3) lv (va_rf o :: st) (F = some res)) : jj p l e R s m args below meth c (hA G) NX Q (cWo G d) (cnx d) nL σ pc lv (va_rf o :: st) (((dCk d T o).bind fun b => if b = true then F else none) = some res) := by
  cases o with
  | none => exact fun hz => ⟨(kk hz).1, fun H locs ls hW hn hS hl => lv_castN hk.1.1 hk.1.2.1 hd ((kk hz).2 H locs ls hW hn hS hl)⟩
  | some q =>
    intro hz
    simp only [dCk, dIs] at hz
    cases hC : dNm d q with
    | none => rw [hC] at hz; cases hz
    | some C =>
    rw [hC] at hz
    simp only [Option.bind_some] at hz
    by_cases hcc : (cNoS.contains C && cNoT.contains T) = true
    · rw [if_pos hcc] at hz
      simp only [Option.bind_some] at hz
      rw [Bool.and_eq_true, List.contains_iff_mem, List.contains_iff_mem] at hcc
      have hrv := dNm_rv (σ := σ) hH hK hC
      have hlk : (Cond.classLink own ix T).before args s = true := hk.1.2.2.2.2 _ hlink
      cases hy : cYes C T with
      | true =>
        rw [hy, if_pos rfl] at hz
        obtain ⟨hle, hw⟩ := kk hz
        refine ⟨hle, fun H locs ls hW hn hS hl => ?_⟩
        rcases cYes_w C hcc.1 T hcc.2 hy with rfl | hcn
        · exact va_castE hk.1.1 hk.1.2.1 hk.1.2.2.2.1 hlk (hrv H hW) hd (hw H locs ls hW hn hS hl)
        · exact va_castY hk.1.1 hk.1.2.1 hk.1.2.2.2.1 hlk ((hH.2.1 s hK).2.1 _ hcn) (hrv H hW) hd (hw H locs ls hW hn hS hl)
      | false => rw [hy, if_neg (by decide)] at hz; cases hz
    · rw [if_neg hcc] at hz; cases hz
/-- the length of what may be null -/
theorem jy_lenN {o : Option Nat} {L : Nat → Option Int32} {K : Int32 → Option (XR τ)} (hk : jk p R s m args meth c (ynx nf res) cc nL own fr lo ret) (hH : cH G KK) (hK : KK s) (ht : ∀ x ∈ c.exceptionTable.toList, False) (h0 : hX G s.heap) (hlt : l.stackTraces = false) (hd : decode cc pc = .ok (.arraylength, 1)) (hr : 7 < fr ∧ 10250 ≤ lo) (hw : (st.map fun v => v.category).sum ≤ 8)
    (kk : ∀ q, jj p l e R s m args below meth c (hA G) (ynx nf res) (jZY below args s G nf Ψ res) (cWo G d) (cnx d) nL σ pc lv (.ref q :: st) ((L q).bind K = some res)) : jj p l e R s m args below meth c (hA G) (ynx nf res) (jZY below args s G nf Ψ res) (cWo G d) (cnx d) nL σ pc lv (va_rf o :: st) ((if o.isNone = true then some (Sum.inl (5, σ, d)) else (o.bind L).bind K) = some res) := by
  cases o with
  | none =>
    intro hz
    rw [if_pos (show (none : Option Nat).isNone = true from rfl)] at hz
    cases hz
    exact ⟨Nat.le_add_right _ _, fun H locs ls hW hn hS hl => vx_arraylengthN hk.1.1 hk.1.2.1 hd (jy_noteN hk hH hK ht h0 hlt hW hn hS hl.1 ⟨hr.1, by omega⟩)⟩
  | some q => exact fun hz => kk q (by rw [if_neg (show ¬ (some q).isNone = true from Bool.false_ne_true)] at hz; exact hz)
/-- a load of what is known not to be null -/
theorem jj_some {NX : Nat} {Q : State → Prop} {S : Type} {Wo : S → Heap → Prop} {nx : S → Nat} {σ' : S} {o : Option Nat} {α ρ : Type} {res : ρ} {L : Nat → Option α} {K : α → Option ρ} {st1 : List Value} {A : Nat → Prop} (kk : ∀ q, jj p l e R s m args below meth c A NX Q Wo nx nL σ' pc lv (st1 ++ .ref q :: st) ((L q).bind K = some res)) : jj p l e R s m args below meth c A NX Q Wo nx nL σ' pc lv (st1 ++ va_rf o :: st) ((o.bind L).bind K = some res) := by
  cases o with
  | none => intro hz; cases hz
  | some q => exact fun hz => kk q hz
/-- a new array of a negative length -/
theorem jy_newS {at_ : ArrayType} {n : Int32} (hk : jk p R s m args meth c (ynx nf res) cc nL own fr lo ret) (hH : cH G KK) (hK : KK s) (ht : ∀ x ∈ c.exceptionTable.toList, False) (h0 : hX G s.heap) (hlt : l.stackTraces = false) (hd : decode cc pc = .ok (.newarray at_, 2)) (hr : 6 < fr ∧ 10250 ≤ lo) (hw : (st.map fun v => v.category).sum ≤ 8)
    (kk : jj p l e R s m args below meth c (hA G) (ynx nf res) (jZY below args s G nf Ψ res) (cWo G d) (cnx d) nL σ pc lv (.int n :: st) (F = some res)) : jj p l e R s m args below meth c (hA G) (ynx nf res) (jZY below args s G nf Ψ res) (cWo G d) (cnx d) nL σ pc lv (.int n :: st) ((if n < 0 then some (Sum.inl (3, σ, d)) else F) = some res) := by
  intro hz
  by_cases hn0 : n < 0
  · rw [if_pos hn0] at hz
    cases hz
    refine ⟨Nat.le_add_right _ _, fun H locs ls hW hn hS hl => vx_newarrayZ hk.1.1 hk.1.2.1 hn0 hd (fun tx htx => ?_)⟩
    subst htx
    have h1 := int32_print n
    have h2 : (toString n == notModelled) = false := by
      rw [beq_eq_false_iff_ne]
      intro h
      have h3 : (toString n).toList.length = notModelled.toList.length := by rw [h]
      have h4 : notModelled.toList.length > 11 := by decide
      omega
    have h5 : (stringBytes (stringToUtf16 (toString n))).size ≤ 1000 := by
      have q1 := stringBytes_size_le (stringToUtf16 (toString n))
      have q2 := utf16_size_le (toString n)
      omega
    exact jy_note (i := 3) hk hH hK ht h0 hlt (Or.inl rfl) hW hn hS hl.1 h2 h5 ⟨hr.1, by omega⟩
  · rw [if_neg hn0] at hz
    exact kk hz
/-- a remainder by nought -/
theorem jy_irem {x y : Int32} (hk : jk p R s m args meth c (ynx nf res) cc nL own fr lo ret) (hH : cH G KK) (hK : KK s) (ht : ∀ x ∈ c.exceptionTable.toList, False) (h0 : hX G s.heap) (hlt : l.stackTraces = false) (hd : decode cc pc = .ok (.irem, 1)) (hr : 6 < fr ∧ 10250 ≤ lo) (hw : (st.map fun v => v.category).sum ≤ 8)
    (kk : jj p l e R s m args below meth c (hA G) (ynx nf res) (jZY below args s G nf Ψ res) (cWo G d) (cnx d) nL σ (pc + 1) lv (.int (x - x / y * y) :: st) (F = some res)) : jj p l e R s m args below meth c (hA G) (ynx nf res) (jZY below args s G nf Ψ res) (cWo G d) (cnx d) nL σ pc lv (.int y :: .int x :: st) ((if y = 0 then some (Sum.inl (6, σ, d)) else F) = some res) := by
  intro hz
  by_cases hn0 : y = 0
  · rw [if_pos hn0] at hz
    cases hz
    exact ⟨Nat.le_add_right _ _, fun H locs ls hW hn hS hl => vx_iremZ hk.1.1 hk.1.2.1 hn0 hd (jy_note (i := 6) hk hH hK ht h0 hlt (Or.inr (Or.inr rfl)) hW hn hS hl.1 (by decide +kernel) (by decide +kernel) ⟨hr.1, by omega⟩)⟩
  · rw [if_neg hn0] at hz
    exact jj_irem hk hd hn0 kk hz
/-- number() of what may be null -/
theorem jy_numN {o : Option Nat} {L : Nat → Option Int32} {K : Int32 → Option (XR τ)} (hk : jk p R s m args meth c (ynx nf res) cc nL RX0 fr lo ret) (hH : cH G KK) (hK : KK s) (ht : ∀ x ∈ c.exceptionTable.toList, False) (h0 : hX G s.heap) (hlt : l.stackTraces = false) (hd : decode cc pc = .ok (.invokevirtual 573, 3)) (hr : 7 < fr ∧ 10250 ≤ lo) (hw : (st.map fun v => v.category).sum ≤ 8)
    (kk : ∀ q, jj p l e R s m args below meth c (hA G) (ynx nf res) (jZY below args s G nf Ψ res) (cWo G d) (cnx d) nL σ pc lv (.ref q :: st) ((L q).bind K = some res)) : jj p l e R s m args below meth c (hA G) (ynx nf res) (jZY below args s G nf Ψ res) (cWo G d) (cnx d) nL σ pc lv (va_rf o :: st) ((if o.isNone = true then some (Sum.inl (5, σ, d)) else (o.bind L).bind K) = some res) := by
  cases o with
  | none =>
    intro hz
    rw [if_pos (show (none : Option Nat).isNone = true from rfl)] at hz
    cases hz
    refine ⟨Nat.le_add_right _ _, fun H locs ls hW hn hS hl => ?_⟩
    intro T9 hT X
    obtain ⟨mk, methM, hnamed, hmethM, hstM, -⟩ := Cond.instanceMethod_spec (hk.1.2.2.2.2 _ q1339)
    obtain ⟨cn, ck, r1, hcn, hck, hni, hf, hn1⟩ := Cond.sameMethod_found (hk.1.2.2.2.2 _ q1340)
    obtain ⟨methM', cM, hmethM', -, -, -, -, -, -, hsigM⟩ := Cond.code_spec hnamed (hk.1.2.2.2.2 _ q1346)
    cases hmethM.symm.trans hmethM'
    have hcls : mk.cls = cn := Option.some.inj ((findClass_of_methodNamed hnamed).symm.trans hcn)
    obtain ⟨vm', X', st'⟩ := X.invokevirtualNull hk.1.1 hk.1.2.2.2.1 (hk.1.2.2.2.2 _ q1338) hnamed hmethM hstM (by rw [hcls]; exact hck) hni (by decide) (g := F0 m pc ls (.null :: st)) rfl (argsL := []) (rest := st) (by have h := hsigM; have h2 : (parseMethodDescriptor "()I").map (fun d => d.parameters.length) = some 0 := (by decide +kernel); rw [show parseMethodDescriptor "()I" = some methM.sig from h] at h2; exact (Option.some.inj h2).symm) rfl (by rw [hk.1.2.1]; exact hd)
    obtain ⟨t, a1, b1⟩ := jy_noteN (pc := pc) (rest := st) (ls := ls) (nf := nf) (Ψ := Ψ) (e := e) (below := below) (c := c) (locs := locs) hk hH hK ht h0 hlt hW hn hS hl.1 ⟨hr.1, by omega⟩ (T9.setVm vm') hT X'
    exact ⟨t, st' t a1, b1⟩
  | some q => exact fun hz => kk q (by rw [if_neg (show ¬ (some q).isNone = true from Bool.false_ne_true)] at hz; exact hz)
end
