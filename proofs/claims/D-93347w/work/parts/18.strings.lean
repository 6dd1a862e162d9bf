/-! TEXTS: length and charAt of the claim's literals -/
set_option maxRecDepth 100000
/-- a text's length, a char of it -/
def sLen (i : Nat) : Option Int32 := if i < 21 then some (Int32.ofNat (lenS.getD i 0)) else none
def sCh (i : Nat) (k : Int32) : Option Int32 := if i < 21 ∧ ¬ k < 0 ∧ k < Int32.ofNat (lenS.getD i 0) then some ((bytS.getD i []).getD k.toNatClampNeg 0) else none
/-- an array of names: how long, the text at a place -/
def wLen (j : Nat) : Option Int32 := ([6, 3, 5] : List Int32)[j]?
def wLd (j : Nat) (i : Int32) : Option Nat := if i < 0 ∨ [6, 3, 5].getD j 0 ≤ i.toNatClampNeg then none else some ([0, 6, 9].getD j 0 + i.toNatClampNeg)
theorem s_sh0 (x : Int32) : x >>> ((0 : Int32) &&& 31) = x := by
  have h : ((0 : Int32) &&& 31) = 0 := by decide
  rw [h]
  apply Int32.toBitVec_inj.mp
  simp
theorem s_len : ∀ i, i < 21 → lenS.getD i 0 < 2 ^ 31 := by decide
theorem s_len2 : ∀ i, i < 21 → lenS.getD i 0 = (bytS.getD i []).length := by decide
theorem s_byt : ∀ i, i < 21 → ∀ k, k < lenS.getD i 0 → (((((bytS.getD i []).getD k 0) &&& 255).toUInt32 % 65536).toInt32 = (bytS.getD i []).getD k 0) := by decide +kernel
theorem s_byt2 : ∀ i, i < 21 → ∀ k, k < lenS.getD i 0 → narrow .char (.int ((bytS.getD i []).getD k 0)) = .int ((bytS.getD i []).getD k 0) := by decide +kernel
theorem jj_startW {l : Launch} {y : MethodName} {cc : ByteArray} {nL : Nat} {ret : Option FieldType} {fr lo : Nat} {av : List Value} {S : Type} {Wo : S → Heap → Prop} {nx : S → Nat} {KK : State → Prop} {σ : S} {Ψ : Outcome → S → Prop} {A : Nat → Prop} {NX : Nat} {Z : Prop} (lv0 : List (Nat × Value)) (hpl : plainName y.cls = true) (hl0 : (lg_sl av).length ≤ nL) (hlv : lv_args 0 av = lv0)
    (body : ∀ (p : Program) (e : Env) (R : Room) (s : State) (m : MethodId) (args : Array Value) (below : List Frame) (meth : Method) (c : Code), jk p R s m args meth c NX cc nL y.cls fr lo ret → KK s → Wo σ s.heap → jj p l e R s m args below meth c A NX (jZ below args s A NX Ψ Wo nx) Wo nx nL σ 0 lv0 [] Z) (hZ : Z) : jM l y (ws_ y cc nL ret) fr lo av Wo nx KK σ Ψ A NX := by
  refine Met.ofW (cc := cc) (maxL := nL) (ret := ret) hpl rfl ?_
  intro p e s m args below meth c s₁ B hml hv
  obtain ⟨rfl, hWo, hsz, hK⟩ := hv
  have hts := atoms_spec (ws := ws_ y cc nL ret) B.pre
  have hts : ∀ w ∈ lw_all, w.before _ s = true := fun w h => hts w (List.mem_cons_of_mem _ h)
  have hown : s.vm.findClass y.cls = some m.cls := findClass_of_methodNamed B.named
  have hl := lv_entry av (n := nL) hl0
  rw [lg_entry_eq]
  generalize (lg_sl av ++ List.replicate (nL - (lg_sl av).length) Slot.unset).toArray = ls at hl ⊢
  rw [hlv] at hl
  have hJ := (body p e ({ frames := fr, cells := NX - s.heap.size, slots := 41 * (NX - s.heap.size), locals := lo } : Room) s m av.toArray below meth c ⟨⟨B.exec, B.bytes, hml, hown, hts⟩, rfl, B.returns, B.notSynchronized⟩ hK hWo hZ).2 s.heap [] ls hWo hsz va_S.rf hl
  rw [← hsz] at hJ ⊢
  rw [Nat.sub_self, Nat.mul_zero] at hJ
  exact hJ
section
variable {p : Program} {l : Launch} {e : Env} {R : Room} {s : State} {m : MethodId} {args : Array Value} {below : List Frame} {meth : Method} {c : Code}
variable {NX : Nat} {Q : State → Prop} {nL : Nat} {cc : ByteArray} {fr lo : Nat} {ret : Option FieldType} {own : String}
variable {pc : Nat} {σ : SS} {lv : List (Nat × Value)} {st : List Value} {Z : Prop} {G : cG} {d : DS} {KK : State → Prop} {ρ : Type} {res : ρ}
theorem js_i2c (hk : jk p R s m args meth c NX cc nL own fr lo ret) {x v : Int32} (hd : decode cc pc = .ok (.i2c, 1)) (hv : (x.toUInt32 % 65536).toInt32 = v) (kk : jj p l e R s m args below meth c (hA G) NX Q (cWo G d) (cnx d) nL σ (pc + 1) lv (.int v :: st) Z) : jj p l e R s m args below meth c (hA G) NX Q (cWo G d) (cnx d) nL σ pc lv (.int x :: st) Z :=
  fun hz => ⟨(kk hz).1, fun H locs ls hW hn hS hl => lv_i2c hk.1.1 hk.1.2.1 hd hv ((kk hz).2 H locs ls hW hn hS hl)⟩
theorem js_compact (hk : jk p R s m args meth c NX cc nL RJ3 fr lo ret) (hH : cH G KK) (hK : KK s) (hX0 : hX G s.heap) (hd : decode cc pc = .ok (.getstatic 38, 3)) (kk : jj p l e R s m args below meth c (hA G) NX Q (cWo G d) (cnx d) nL σ (pc + 3) lv (.int 1 :: st) Z) : jj p l e R s m args below meth c (hA G) NX Q (cWo G d) (cnx d) nL σ pc lv st Z :=
  fun hz => ⟨(kk hz).1, fun H locs ls hW hn hS hl => va_gets (C := "java/lang/String") (n := "COMPACT_STRINGS") (d := "Z") hk.1.1 hk.1.2.1 (hH.2.2.2.2.1 s s.heap hK hX0).2.1 hS hk.1.2.2.2.1 (hk.1.2.2.2.2 _ q764) (fun _ h => h) hd ((kk hz).2 H locs ls hW hn hS hl)⟩
theorem js_sioobe (hk : jk p R s m args meth c NX cc nL RJ3 fr lo ret) (hH : cH G KK) (hK : KK s) (hX0 : hX G s.heap) (hd : decode cc pc = .ok (.getstatic 1053, 3)) (kk : ∀ f, jj p l e R s m args below meth c (hA G) NX Q (cWo G d) (cnx d) nL σ (pc + 3) lv (va_rf f :: st) Z) : jj p l e R s m args below meth c (hA G) NX Q (cWo G d) (cnx d) nL σ pc lv st Z :=
  fun hz => ⟨(kk none hz).1, fun H locs ls hW hn hS hl => by
    rcases (hH.2.2.2.2.1 s s.heap hK hX0).2.2.1 with h | ⟨t, h⟩
    · exact va_gets (C := "jdk/internal/util/Preconditions") (n := "SIOOBE_FORMATTER") (d := "Ljava/util/function/BiFunction;") hk.1.1 hk.1.2.1 h hS hk.1.2.2.2.1 (hk.1.2.2.2.2 _ q780) (fun _ h => h) hd ((kk none hz).2 H locs ls hW hn hS hl)
    · exact va_gets (C := "jdk/internal/util/Preconditions") (n := "SIOOBE_FORMATTER") (d := "Ljava/util/function/BiFunction;") hk.1.1 hk.1.2.1 h hS hk.1.2.2.2.1 (hk.1.2.2.2.2 _ q780) (fun _ h => h) hd ((kk (some t) hz).2 H locs ls hW hn hS hl)⟩
theorem js_value (hk : jk p R s m args meth c NX cc nL RJ3 fr lo ret) (hH : cH G KK) (hK : KK s) (hX0 : hX G s.heap) {i : Nat} (hi : i < 21) (hd : decode cc pc = .ok (.getfield 9, 3)) (kk : jj p l e R s m args below meth c (hA G) NX Q (cWo G d) (cnx d) nL σ (pc + 3) lv (.ref (hs G (100 + i)) :: st) Z) : jj p l e R s m args below meth c (hA G) NX Q (cWo G d) (cnx d) nL σ pc lv (.ref (hs G i) :: st) Z :=
  fun hz => ⟨(kk hz).1, fun H locs ls hW hn hS hl => vk_getf (o := "java/lang/String") (n := "value") (d := "[B") hk.1.1 hk.1.2.1 ((hH.2.2.2.2.1 s s.heap hK hX0).1.1 i hi).2.2.1 hS hk.1.2.2.2.1 (hk.1.2.2.2.2 _ q2248) (fun _ h => h) hd ((kk hz).2 H locs ls hW hn hS hl)⟩
theorem js_coder (hk : jk p R s m args meth c NX cc nL RJ3 fr lo ret) (hH : cH G KK) (hK : KK s) (hX0 : hX G s.heap) {i : Nat} (hi : i < 21) (hd : decode cc pc = .ok (.getfield 15, 3)) (kk : jj p l e R s m args below meth c (hA G) NX Q (cWo G d) (cnx d) nL σ (pc + 3) lv (.int 0 :: st) Z) : jj p l e R s m args below meth c (hA G) NX Q (cWo G d) (cnx d) nL σ pc lv (.ref (hs G i) :: st) Z :=
  fun hz => ⟨(kk hz).1, fun H locs ls hW hn hS hl => vk_getf (o := "java/lang/String") (n := "coder") (d := "B") hk.1.1 hk.1.2.1 ((hH.2.2.2.2.1 s s.heap hK hX0).1.1 i hi).2.1 hS hk.1.2.2.2.1 (hk.1.2.2.2.2 _ q2249) (fun _ h => h) hd ((kk hz).2 H locs ls hW hn hS hl)⟩
theorem js_alen (hk : jk p R s m args meth c NX cc nL own fr lo ret) (hH : cH G KK) (hK : KK s) (hX0 : hX G s.heap) {i : Nat} (hi : i < 21) (hd : decode cc pc = .ok (.arraylength, 1)) (kk : jj p l e R s m args below meth c (hA G) NX Q (cWo G d) (cnx d) nL σ (pc + 1) lv (.int (Int32.ofNat (lenS.getD i 0)) :: st) Z) : jj p l e R s m args below meth c (hA G) NX Q (cWo G d) (cnx d) nL σ pc lv (.ref (hs G (100 + i)) :: st) Z :=
  fun hz => ⟨(kk hz).1, fun H locs ls hW hn hS hl => va_tlen hk.1.1 hk.1.2.1 ((hH.2.2.2.2.1 s s.heap hK hX0).1.1 i hi).2.2.2 hS rfl hd ((kk hz).2 H locs ls hW hn hS hl)⟩
theorem js_bld (hk : jk p R s m args meth c NX cc nL own fr lo ret) (hH : cH G KK) (hK : KK s) (hX0 : hX G s.heap) {i : Nat} {k : Int32} (hi : i < 21) (hin : vp_in k (lenS.getD i 0)) (hd : decode cc pc = .ok (.baload, 1)) (kk : jj p l e R s m args below meth c (hA G) NX Q (cWo G d) (cnx d) nL σ (pc + 1) lv (.int ((bytS.getD i []).getD k.toNatClampNeg 0) :: st) Z) : jj p l e R s m args below meth c (hA G) NX Q (cWo G d) (cnx d) nL σ pc lv (.int k :: .ref (hs G (100 + i)) :: st) Z :=
  fun hz => ⟨(kk hz).1, fun H locs ls hW hn hS hl => va_tb hk.1.1 hk.1.2.1 ((hH.2.2.2.2.1 s s.heap hK hX0).1.1 i hi).2.2.2 hS hin rfl hd ((kk hz).2 H locs ls hW hn hS hl)⟩
theorem cRv_S (hH : cH G KK) (hK : KK s) {i : Nat} (hi : i < 21) : cRv G d σ s (hs G i) "java/lang/String" := fun H hW => by
  obtain ⟨cell, h1, h2, h3, -⟩ := ((hH.2.2.2.2.1 s H hK hW.2.2).1.1 i hi).1
  exact ⟨cell, h1, h2, h3⟩
theorem js_ldcw (hk : jk p R s m args meth c NX cc nL RX0 fr lo ret) (hH : cH G KK) (hK : KK s) (i : Nat) {index : Nat} (hi : i < 21) (hx : ixS.getD i 0 = index) (hd : decode cc pc = .ok (.ldc_w index, 3)) (kk : jj p l e R s m args below meth c (hA G) NX Q (cWo G d) (cnx d) nL σ (pc + 3) lv (.ref (hs G i) :: st) Z) : jj p l e R s m args below meth c (hA G) NX Q (cWo G d) (cnx d) nL σ pc lv st Z :=
  fun hz => ⟨(kk hz).1, fun H locs ls hW hn hS hl => by
    have hR := (hH.2.2.2.2.2 s hK).1 i hi
    rw [hx] at hR
    intro T hT X
    obtain ⟨t, a1, b1⟩ := (kk hz).2 H locs ls hW hn hS hl T hT X
    exact ⟨t, X.ldcStringW hk.1.1 hk.1.2.2.2.1 (text := txS.getD i "") (a := hs G i) hR.1 hR.2 (g := F0 m pc ls st) rfl (by rw [hk.1.2.1]; exact hd) t a1, b1⟩⟩

theorem js_Vi (hk : jk p R s m args meth c NX cc nL own fr lo ret) (hH : cH G KK) (hK : KK s) {y : MethodName} {bytes : ByteArray} {C : String} {b : Nat} {nLc frc loc idx n : Nat} {rty : FieldType} {x : Int32} (As : List Value) {st0 : List Value} (hM : jM l y (ws_ y bytes nLc (some rty)) frc loc (.ref b :: As) (cWo G d) (cnx d) KK σ (jR σ x) (hA G) d.2)
    (hl : GoodIn lw_all (wsV own idx C y (ws_ y bytes nLc (some rty)))) (hrv : cRv G d σ s b C) (hy : y.cls = C ∧ y.cls ≠ "java/lang/invoke/MethodHandle" ∧ y.cls ≠ "java/lang/invoke/VarHandle" ∧ (parseMethodDescriptor y.desc).map (fun d => d.parameters.length) = some n) (hlen : As.length = n) (hst : st0 = (As.reverse ++ .ref b :: st)) (hd : decode cc pc = .ok (.invokevirtual idx, 3)) (hr : frc + 1 ≤ fr ∧ 8 + (nLc + 11) + loc ≤ lo) (hw : (st.map fun v => v.category).sum ≤ 8)
    (kk : jj p l e R s m args below meth c (hA G) NX Q (cWo G d) (cnx d) nL σ (pc + 3) lv ((.int x) :: st) Z) : jj p l e R s m args below meth c (hA G) NX Q (cWo G d) (cnx d) nL σ pc lv st0 Z := by
  subst hst
  refine jj_run (σ1 := σ) (v := some (.int x)) (Ψ1 := jR σ x) (idx := idx) (a1 := (Value.ref b :: As).toArray) hk (Nat.le_refl _) (fun o σ' h => ⟨by have h1 := h.1; cases h1; rfl, h.2⟩) (fun H locs ls hW hn hS hlv hle => ?_) kk
  exact va_runV (As := As) (rest := st) hk.1 hM (cwV n hk.1.2.2.2.2 hl rfl rfl rfl hy (by rw [hk.2.1]; exact hr)) ⟨cblind hH.1, hrv H hW, fun U hU hWm => ⟨rfl, by rw [hU]; exact hW, by rw [hU]; exact hn, hH.1 _ _ hWm hK⟩⟩ rfl hlen hlv.1 rfl (lv_room hw) hd (by rw [hk.2.1]; have : d.2 ≤ NX := hle; constructor <;> (show _ ≤ _; dsimp only [cnx]; omega))
theorem js_Vz (hk : jk p R s m args meth c NX cc nL own fr lo ret) (hH : cH G KK) (hK : KK s) {y : MethodName} {bytes : ByteArray} {C : String} {b : Nat} {nLc frc loc idx n : Nat} {rty : FieldType} {x : Bool} (As : List Value) {st0 : List Value} (hM : jM l y (ws_ y bytes nLc (some rty)) frc loc (.ref b :: As) (cWo G d) (cnx d) KK σ (jRz σ x) (hA G) d.2)
    (hl : GoodIn lw_all (wsV own idx C y (ws_ y bytes nLc (some rty)))) (hrv : cRv G d σ s b C) (hy : y.cls = C ∧ y.cls ≠ "java/lang/invoke/MethodHandle" ∧ y.cls ≠ "java/lang/invoke/VarHandle" ∧ (parseMethodDescriptor y.desc).map (fun d => d.parameters.length) = some n) (hlen : As.length = n) (hst : st0 = (As.reverse ++ .ref b :: st)) (hd : decode cc pc = .ok (.invokevirtual idx, 3)) (hr : frc + 1 ≤ fr ∧ 8 + (nLc + 11) + loc ≤ lo) (hw : (st.map fun v => v.category).sum ≤ 8)
    (kk : jj p l e R s m args below meth c (hA G) NX Q (cWo G d) (cnx d) nL σ (pc + 3) lv ((.int (bI x)) :: st) Z) : jj p l e R s m args below meth c (hA G) NX Q (cWo G d) (cnx d) nL σ pc lv st0 Z := by
  subst hst
  refine jj_run (σ1 := σ) (v := some (.int (bI x))) (Ψ1 := jRz σ x) (idx := idx) (a1 := (Value.ref b :: As).toArray) hk (Nat.le_refl _) (fun o σ' h => ⟨by have h1 := h.1; cases h1; rfl, h.2⟩) (fun H locs ls hW hn hS hlv hle => ?_) kk
  exact va_runV (As := As) (rest := st) hk.1 hM (cwV n hk.1.2.2.2.2 hl rfl rfl rfl hy (by rw [hk.2.1]; exact hr)) ⟨cblind hH.1, hrv H hW, fun U hU hWm => ⟨rfl, by rw [hU]; exact hW, by rw [hU]; exact hn, hH.1 _ _ hWm hK⟩⟩ rfl hlen hlv.1 rfl (lv_room hw) hd (by rw [hk.2.1]; have : d.2 ≤ NX := hle; constructor <;> (show _ ≤ _; dsimp only [cnx]; omega))
theorem js_Si (hk : jk p R s m args meth c NX cc nL own fr lo ret) (hH : cH G KK) (hK : KK s) {y : MethodName} {bytes : ByteArray} {nLc frc loc idx n : Nat} {rty : FieldType} {x : Int32} (As : List Value) {st0 : List Value} (hM : jM l y (ws_ y bytes nLc (some rty)) frc loc (As) (cWo G d) (cnx d) KK σ (jR σ x) (hA G) d.2)
    (hl : GoodIn lw_all (va_wsS own idx y (ws_ y bytes nLc (some rty)))) (hy : y.cls ≠ "java/lang/invoke/MethodHandle" ∧ y.cls ≠ "java/lang/invoke/VarHandle" ∧ (parseMethodDescriptor y.desc).map (fun d => d.parameters.length) = some n) (hlen : As.length = n) (hst : st0 = (As.reverse ++ st)) (hd : decode cc pc = .ok (.invokestatic idx, 3)) (hr : frc + 1 ≤ fr ∧ 8 + (nLc + 11) + loc ≤ lo) (hw : (st.map fun v => v.category).sum ≤ 8)
    (kk : jj p l e R s m args below meth c (hA G) NX Q (cWo G d) (cnx d) nL σ (pc + 3) lv ((.int x) :: st) Z) : jj p l e R s m args below meth c (hA G) NX Q (cWo G d) (cnx d) nL σ pc lv st0 Z := by
  subst hst
  refine jj_run (σ1 := σ) (v := some (.int x)) (Ψ1 := jR σ x) (idx := idx) (a1 := (As).toArray) hk (Nat.le_refl _) (fun o σ' h => ⟨by have h1 := h.1; cases h1; rfl, h.2⟩) (fun H locs ls hW hn hS hlv hle => ?_) kk
  exact va_runS (As := As) (rest := st) hk.1 hM (va_cwS n hk.1.2.2.2.2 hl rfl rfl rfl hy (by rw [hk.2.1]; exact hr)) ⟨cblind hH.1, fun U hU hWm => ⟨rfl, by rw [hU]; exact hW, by rw [hU]; exact hn, hH.1 _ _ hWm hK⟩⟩ rfl hlen hlv.1 rfl (lv_room hw) hd (by rw [hk.2.1]; have : d.2 ≤ NX := hle; constructor <;> (show _ ≤ _; dsimp only [cnx]; omega))
theorem js_SV (hk : jk p R s m args meth c NX cc nL own fr lo ret) (hH : cH G KK) (hK : KK s) {y : MethodName} {bytes : ByteArray} {nLc frc loc idx n : Nat}  (As : List Value) {st0 : List Value} (hM : jM l y (ws_ y bytes nLc none) frc loc (As) (cWo G d) (cnx d) KK σ (jV σ) (hA G) d.2)
    (hl : GoodIn lw_all (va_wsS own idx y (ws_ y bytes nLc none))) (hy : y.cls ≠ "java/lang/invoke/MethodHandle" ∧ y.cls ≠ "java/lang/invoke/VarHandle" ∧ (parseMethodDescriptor y.desc).map (fun d => d.parameters.length) = some n) (hlen : As.length = n) (hst : st0 = (As.reverse ++ st)) (hd : decode cc pc = .ok (.invokestatic idx, 3)) (hr : frc + 1 ≤ fr ∧ 8 + (nLc + 11) + loc ≤ lo) (hw : (st.map fun v => v.category).sum ≤ 8)
    (kk : jj p l e R s m args below meth c (hA G) NX Q (cWo G d) (cnx d) nL σ (pc + 3) lv st Z) : jj p l e R s m args below meth c (hA G) NX Q (cWo G d) (cnx d) nL σ pc lv st0 Z := by
  subst hst
  refine jj_run (σ1 := σ) (v := none) (Ψ1 := jV σ) (idx := idx) (a1 := (As).toArray) hk (Nat.le_refl _) (fun o σ' h => ⟨by have h1 := h.1; cases h1; rfl, h.2⟩) (fun H locs ls hW hn hS hlv hle => ?_) kk
  exact va_runS (As := As) (rest := st) hk.1 hM (va_cwS n hk.1.2.2.2.2 hl rfl rfl rfl hy (by rw [hk.2.1]; exact hr)) ⟨cblind hH.1, fun U hU hWm => ⟨rfl, by rw [hU]; exact hW, by rw [hU]; exact hn, hH.1 _ _ hWm hK⟩⟩ rfl hlen hlv.1 rfl (lv_room hw) hd (by rw [hk.2.1]; have : d.2 ≤ NX := hle; constructor <;> (show _ ≤ _; dsimp only [cnx]; omega))
/-- a return of a small int -/
theorem js_ret {res x : Int32} {ty : FieldType} (hk : jk p R s m args meth c d.2 cc nL own fr lo (some ty)) (hn : narrow ty (.int x) = .int x) (hd : decode cc pc = .ok (.ireturn, 1)) : jj p l e R s m args below meth c (hA G) d.2 (jZ below args s (hA G) d.2 (jR σ res) (cWo G d) (cnx d)) (cWo G d) (cnx d) nL σ pc lv [.int x] (some x = some res) := by
  intro hz
  cases hz
  exact ⟨Nat.le_refl _, fun H locs ls hW hn2 hS hl => W.zret hk.1.1 hk.1.2.1 hk.2.2.1 hn (fun t ht hWm => ⟨⟨σ, ⟨rfl, rfl⟩, by rw [ht]; exact hW, by rw [ht]; exact hn2⟩, hS.F ht⟩) hS.2.2 hd hk.2.2.2⟩
end
section
variable {l : Launch} {G : cG} {KK : State → Prop}
theorem cc_coder (hH : cH G KK) (d : DS) (σ : SS) (i : Nat) (hi : i < 21) : jM l yJ3_coder (ws_ yJ3_coder cJ3_coder 1 (some .byte)) 1 40 [.ref (hs G i)] (cWo G d) (cnx d) KK σ (jR σ 0) (hA G) d.2 := by
  refine jj_startW [(0, .ref (hs G i))] (by decide) (Nat.le_of_ble_eq_true rfl) rfl (fun p e R s m args below meth c hk hK hW0 => ?_) (rfl : (some (0 : Int32)) = some 0)
  have hk : jk p R s m args meth c d.2 cJ3_coder 1 RJ3 1 40 (some .byte) := hk
  refine js_compact hk hH hK hW0.2.2 dJ3_coder_0 ?_
  refine jj_if_eq_F hk dJ3_coder_3 13 (by decide) (by decide) ?_
  refine jj_aload_n hk dJ3_coder_6 0 rfl rfl ?_
  refine js_coder hk hH hK hW0.2.2 hi dJ3_coder_7 ?_
  refine jj_goto hk 14 dJ3_coder_10 (by decide) ?_
  exact js_ret hk rfl dJ3_coder_14
theorem cc_isLatin1 (hH : cH G KK) (d : DS) (σ : SS) (i : Nat) (hi : i < 21) : jM l yJ3_isLatin1 (ws_ yJ3_isLatin1 cJ3_isLatin1 1 (some .boolean)) 1 40 [.ref (hs G i)] (cWo G d) (cnx d) KK σ (jRz σ true) (hA G) d.2 := by
  refine jj_startW [(0, .ref (hs G i))] (by decide) (Nat.le_of_ble_eq_true rfl) rfl (fun p e R s m args below meth c hk hK hW0 => ?_) (rfl : (some true) = some true)
  have hk : jk p R s m args meth c d.2 cJ3_isLatin1 1 RJ3 1 40 (some .boolean) := hk
  refine js_compact hk hH hK hW0.2.2 dJ3_isLatin1_0 ?_
  refine jj_if_eq_F hk dJ3_isLatin1_3 17 (by decide) (by decide) ?_
  refine jj_aload_n hk dJ3_isLatin1_6 0 rfl rfl ?_
  refine js_coder hk hH hK hW0.2.2 hi dJ3_isLatin1_7 ?_
  refine jj_if_ne_F hk dJ3_isLatin1_10 17 (by decide) (by decide) ?_
  refine jj_iconst hk (v := 1) dJ3_isLatin1_13 (by decide) ?_
  refine jj_goto hk 18 dJ3_isLatin1_14 (by decide) ?_
  exact jc_retRz hk (b := true) dJ3_isLatin1_18
theorem cc_preCheck (hH : cH G KK) (d : DS) (σ : SS) (i n : Int32) (f : Option Nat) (h1 : ¬ i < 0) (h2 : i < n) : jM l yJ5_checkIndex (ws_ yJ5_checkIndex cJ5_checkIndex 3 (some .int)) 1 40 [.int i, .int n, va_rf f] (cWo G d) (cnx d) KK σ (jR σ i) (hA G) d.2 := by
  refine jj_startW [(0, .int i), (1, .int n), (2, va_rf f)] (by decide) (by cases f <;> exact Nat.le_of_ble_eq_true rfl) (by cases f <;> rfl) (fun p e R s m args below meth c hk hK hW0 => ?_) (rfl : (some i) = some i)
  have hk : jk p R s m args meth c d.2 cJ5_checkIndex 3 RJ5 1 40 (some .int) := hk
  refine jj_iload_n hk dJ5_checkIndex_0 0 rfl rfl ?_
  refine jj_if_lt_F hk dJ5_checkIndex_1 9 (by decide) h1 ?_
  refine jj_iload_n hk dJ5_checkIndex_4 0 rfl rfl ?_
  refine jj_iload_n hk dJ5_checkIndex_5 1 rfl rfl ?_
  refine jj_icmp_lt_T hk 16 dJ5_checkIndex_6 (by decide) h2 ?_
  refine jj_iload_n hk dJ5_checkIndex_16 0 rfl rfl ?_
  exact js_ret hk (vp_nar_int i) dJ5_checkIndex_17
theorem cc_checkIndex (hH : cH G KK) (d : DS) (σ : SS) (i n : Int32) (h1 : ¬ i < 0) (h2 : i < n) : jM l yJ3_checkIndex (ws_ yJ3_checkIndex cJ3_checkIndex 2 none) 2 80 [.int i, .int n] (cWo G d) (cnx d) KK σ (jV σ) (hA G) d.2 := by
  refine jj_startW [(0, .int i), (1, .int n)] (by decide) (Nat.le_of_ble_eq_true rfl) rfl (fun p e R s m args below meth c hk hK hW0 => ?_) (rfl : (some σ) = some σ)
  have hk : jk p R s m args meth c d.2 cJ3_checkIndex 2 RJ3 2 80 none := hk
  refine jj_iload_n hk dJ3_checkIndex_0 0 rfl rfl ?_
  refine jj_iload_n hk dJ3_checkIndex_1 1 rfl rfl ?_
  refine js_sioobe hk hH hK hW0.2.2 dJ3_checkIndex_2 (fun f => ?_)
  refine js_Si (n := 3) hk hH hK [.int i, .int n, va_rf f] (cc_preCheck hH d σ i n f h1 h2) (lw_S q782 q783 q136 q784) (by decide +kernel) rfl rfl dJ3_checkIndex_5 ⟨Nat.le_of_ble_eq_true rfl, Nat.le_of_ble_eq_true rfl⟩ (Nat.le_of_ble_eq_true rfl) ?_
  refine jj_pop hk dJ3_checkIndex_8 rfl ?_
  exact jc_retV hk dJ3_checkIndex_9
theorem vp_inS {i : Nat} {k : Int32} (hi : i < 21) (h1 : ¬ k < 0) (h2 : k < Int32.ofNat (lenS.getD i 0)) : k.toNatClampNeg < lenS.getD i 0 := by
  have hl := s_len i hi
  have h0 : (0 : Int) ≤ k.toInt := by have := Int32.not_lt.mp h1; simpa using Int32.le_iff_toInt_le.mp this
  have h3 := Int32.lt_iff_toInt_lt.mp h2
  rw [Int32.toInt_ofNat_of_lt hl] at h3
  show k.toInt.toNat < _
  omega
theorem cc_l1charAt (hH : cH G KK) (d : DS) (σ : SS) (i : Nat) (k : Int32) (hi : i < 21) (h1 : ¬ k < 0) (h2 : k < Int32.ofNat (lenS.getD i 0)) : jM l yJ4_charAt (ws_ yJ4_charAt cJ4_charAt 2 (some .char)) 3 120 [.ref (hs G (100 + i)), .int k] (cWo G d) (cnx d) KK σ (jR σ ((bytS.getD i []).getD k.toNatClampNeg 0)) (hA G) d.2 := by
  refine jj_startW [(0, .ref (hs G (100 + i))), (1, .int k)] (by decide) (Nat.le_of_ble_eq_true rfl) rfl (fun p e R s m args below meth c hk hK hW0 => ?_) (rfl : (some ((bytS.getD i []).getD k.toNatClampNeg 0)) = some ((bytS.getD i []).getD k.toNatClampNeg 0))
  have hk : jk p R s m args meth c d.2 cJ4_charAt 2 RJ4 3 120 (some .char) := hk
  have hin := vp_inS hi h1 h2
  refine jj_iload_n hk dJ4_charAt_0 1 rfl rfl ?_
  refine jj_aload_n hk dJ4_charAt_1 0 rfl rfl ?_
  refine js_alen hk hH hK hW0.2.2 hi dJ4_charAt_2 ?_
  refine js_SV (n := 2) hk hH hK [.int k, .int (Int32.ofNat (lenS.getD i 0))] (cc_checkIndex hH d σ k _ h1 h2) (lw_S q777 q778 q134 q779) (by decide +kernel) rfl rfl dJ4_charAt_3 ⟨Nat.le_of_ble_eq_true rfl, Nat.le_of_ble_eq_true rfl⟩ (Nat.le_of_ble_eq_true rfl) ?_
  refine jj_aload_n hk dJ4_charAt_6 0 rfl rfl ?_
  refine jj_iload_n hk dJ4_charAt_7 1 rfl rfl ?_
  refine js_bld hk hH hK hW0.2.2 hi (fun h => h.elim h1 (fun h2 => absurd hin (Nat.not_lt.mpr h2))) dJ4_charAt_8 ?_
  refine jj_sipush hk (v := 255) dJ4_charAt_9 (by decide) ?_
  refine jj_iand hk dJ4_charAt_12 ?_
  refine js_i2c hk dJ4_charAt_13 (s_byt i hi _ hin) ?_
  exact js_ret hk (s_byt2 i hi _ hin) dJ4_charAt_14
theorem cc_length (hH : cH G KK) (d : DS) (σ : SS) (i : Nat) (hi : i < 21) : jM l yJ3_length (ws_ yJ3_length cJ3_length 1 (some .int)) 2 80 [.ref (hs G i)] (cWo G d) (cnx d) KK σ (jR σ (Int32.ofNat (lenS.getD i 0))) (hA G) d.2 := by
  refine jj_startW [(0, .ref (hs G i))] (by decide) (Nat.le_of_ble_eq_true rfl) rfl (fun p e R s m args below meth c hk hK hW0 => ?_) (rfl : (some (Int32.ofNat (lenS.getD i 0))) = some (Int32.ofNat (lenS.getD i 0)))
  have hk : jk p R s m args meth c d.2 cJ3_length 1 RJ3 2 80 (some .int) := hk
  refine jj_aload_n hk dJ3_length_0 0 rfl rfl ?_
  refine js_value hk hH hK hW0.2.2 hi dJ3_length_1 ?_
  refine js_alen hk hH hK hW0.2.2 hi dJ3_length_4 ?_
  refine jj_aload_n hk dJ3_length_5 0 rfl rfl ?_
  refine js_Vi (n := 0) hk hH hK [] (cc_coder hH d σ i hi) (lw_V q760 q761 q762 q134 q763) (cRv_S hH hK hi) (by decide +kernel) rfl rfl dJ3_length_6 ⟨Nat.le_of_ble_eq_true rfl, Nat.le_of_ble_eq_true rfl⟩ (Nat.le_of_ble_eq_true rfl) ?_
  refine jj_ishr hk dJ3_length_9 ?_
  rw [s_sh0]
  exact js_ret hk (vp_nar_int _) dJ3_length_10
theorem cc_charAt (hH : cH G KK) (d : DS) (σ : SS) (i : Nat) (k : Int32) (hi : i < 21) (h1 : ¬ k < 0) (h2 : k < Int32.ofNat (lenS.getD i 0)) : jM l yJ3_charAt (ws_ yJ3_charAt cJ3_charAt 2 (some .char)) 4 160 [.ref (hs G i), .int k] (cWo G d) (cnx d) KK σ (jR σ ((bytS.getD i []).getD k.toNatClampNeg 0)) (hA G) d.2 := by
  refine jj_startW [(0, .ref (hs G i)), (1, .int k)] (by decide) (Nat.le_of_ble_eq_true rfl) rfl (fun p e R s m args below meth c hk hK hW0 => ?_) (rfl : (some ((bytS.getD i []).getD k.toNatClampNeg 0)) = some ((bytS.getD i []).getD k.toNatClampNeg 0))
  have hk : jk p R s m args meth c d.2 cJ3_charAt 2 RJ3 4 160 (some .char) := hk
  have hin := vp_inS hi h1 h2
  refine jj_aload_n hk dJ3_charAt_0 0 rfl rfl ?_
  refine js_Vz (n := 0) hk hH hK [] (cc_isLatin1 hH d σ i hi) (lw_V q770 q771 q772 q134 q773) (cRv_S hH hK hi) (by decide +kernel) rfl rfl dJ3_charAt_1 ⟨Nat.le_of_ble_eq_true rfl, Nat.le_of_ble_eq_true rfl⟩ (Nat.le_of_ble_eq_true rfl) ?_
  refine jj_if_eq_F hk dJ3_charAt_4 16 (by decide) (by decide) ?_
  refine jj_aload_n hk dJ3_charAt_7 0 rfl rfl ?_
  refine js_value hk hH hK hW0.2.2 hi dJ3_charAt_8 ?_
  refine jj_iload_n hk dJ3_charAt_11 1 rfl rfl ?_
  refine js_Si (n := 2) hk hH hK [.ref (hs G (100 + i)), .int k] (cc_l1charAt hH d σ i k hi h1 h2) (lw_S q774 q775 q135 q776) (by decide +kernel) rfl rfl dJ3_charAt_12 ⟨Nat.le_of_ble_eq_true rfl, Nat.le_of_ble_eq_true rfl⟩ (Nat.le_of_ble_eq_true rfl) ?_
  exact js_ret hk (s_byt2 i hi _ hin) dJ3_charAt_15
end
section
variable {p : Program} {l : Launch} {e : Env} {R : Room} {s : State} {m : MethodId} {args : Array Value} {below : List Frame} {meth : Method} {c : Code}
variable {NX : Nat} {Q : State → Prop} {nL : Nat} {cc : ByteArray} {fr lo : Nat} {ret : Option FieldType}
variable {pc : Nat} {σ : SS} {lv : List (Nat × Value)} {st : List Value} {G : cG} {d : DS} {KK : State → Prop} {ρ : Type} {res : ρ}
theorem kc_length (hk : jk p R s m args meth c NX cc nL RX0 fr lo ret) (hH : cH G KK) (hK : KK s) {i : Nat} {K : Int32 → Option ρ} (hd : decode cc pc = .ok (.invokevirtual 244, 3)) (hr : 2 + 1 ≤ fr ∧ 8 + (1 + 11) + 80 ≤ lo) (hw : (st.map fun v => v.category).sum ≤ 8) (kk : ∀ r, jj p l e R s m args below meth c (hA G) NX Q (cWo G d) (cnx d) nL σ (pc + 3) lv (.int r :: st) (K r = some res)) : jj p l e R s m args below meth c (hA G) NX Q (cWo G d) (cnx d) nL σ pc lv (.ref (hs G i) :: st) ((sLen i).bind K = some res) := by
  intro hz
  unfold sLen at hz
  by_cases hi : i < 21
  · rw [if_pos hi] at hz
    exact js_Vi (n := 0) hk hH hK [] (cc_length hH d σ i hi) (lw_V q756 q757 q758 q134 q759) (cRv_S hH hK hi) (by decide +kernel) rfl rfl hd hr hw (kk _) hz
  · rw [if_neg hi] at hz; cases hz
theorem kc_charAt (hk : jk p R s m args meth c NX cc nL RX0 fr lo ret) (hH : cH G KK) (hK : KK s) {i : Nat} {k : Int32} {K : Int32 → Option ρ} (hd : decode cc pc = .ok (.invokevirtual 247, 3)) (hr : 4 + 1 ≤ fr ∧ 8 + (2 + 11) + 160 ≤ lo) (hw : (st.map fun v => v.category).sum ≤ 8) (kk : ∀ r, jj p l e R s m args below meth c (hA G) NX Q (cWo G d) (cnx d) nL σ (pc + 3) lv (.int r :: st) (K r = some res)) : jj p l e R s m args below meth c (hA G) NX Q (cWo G d) (cnx d) nL σ pc lv (.int k :: .ref (hs G i) :: st) ((sCh i k).bind K = some res) := by
  intro hz
  unfold sCh at hz
  by_cases hi : i < 21 ∧ ¬ k < 0 ∧ k < Int32.ofNat (lenS.getD i 0)
  · rw [if_pos hi] at hz
    exact js_Vi (n := 1) hk hH hK [.int k] (cc_charAt hH d σ i k hi.1 hi.2.1 hi.2.2) (lw_V q766 q767 q768 q134 q769) (cRv_S hH hK hi.1) (by decide +kernel) rfl rfl hd hr hw (kk _) hz
  · rw [if_neg hi] at hz; cases hz
/-- an array of names (0 kindNames, 1 doings, 2 names): how long, its texts -/
theorem jc_wlen (hk : jk p R s m args meth c NX cc nL RX0 fr lo ret) (hH : cH G KK) (hK : KK s) {j : Nat} {K : Int32 → Option ρ} (hd : decode cc pc = .ok (.arraylength, 1)) (kk : ∀ r, jj p l e R s m args below meth c (hA G) NX Q (cWo G d) (cnx d) nL σ (pc + 1) lv (.int r :: st) (K r = some res)) : jj p l e R s m args below meth c (hA G) NX Q (cWo G d) (cnx d) nL σ pc lv (.ref (ha G (64 + j)) :: st) ((wLen j).bind K = some res) := by
  intro hz
  rcases (show j = 0 ∨ j = 1 ∨ j = 2 ∨ 3 ≤ j by omega) with rfl | rfl | rfl | h
  · exact ⟨(kk _ hz).1, fun H locs ls hW hn hS hl => va_alen hk.1.1 hk.1.2.1 (hH.2.1 s hK).1 hW.1 64 6 (ccs_R G d σ (i := 2) (by decide)) rfl rfl hd ((kk _ hz).2 H locs ls hW hn hS hl)⟩
  · exact ⟨(kk _ hz).1, fun H locs ls hW hn hS hl => va_alen hk.1.1 hk.1.2.1 (hH.2.1 s hK).1 hW.1 65 6 (ccs_R G d σ (i := 3) (by decide)) rfl rfl hd ((kk _ hz).2 H locs ls hW hn hS hl)⟩
  · exact ⟨(kk _ hz).1, fun H locs ls hW hn hS hl => va_alen hk.1.1 hk.1.2.1 (hH.2.1 s hK).1 hW.1 66 6 (ccs_R G d σ (i := 4) (by decide)) rfl rfl hd ((kk _ hz).2 H locs ls hW hn hS hl)⟩
  · unfold wLen at hz; rw [List.getElem?_eq_none (by simpa using h)] at hz; cases hz
theorem jc_wld (hk : jk p R s m args meth c NX cc nL RX0 fr lo ret) (hH : cH G KK) (hK : KK s) {j : Nat} {i : Int32} {K : Nat → Option ρ} (hd : decode cc pc = .ok (.aaload, 1)) (kk : ∀ r, jj p l e R s m args below meth c (hA G) NX Q (cWo G d) (cnx d) nL σ (pc + 1) lv (.ref (hs G r) :: st) (K r = some res)) : jj p l e R s m args below meth c (hA G) NX Q (cWo G d) (cnx d) nL σ pc lv (.int i :: .ref (ha G (64 + j)) :: st) ((wLd j i).bind K = some res) := by
  intro hz
  unfold wLd at hz
  by_cases h : i < 0 ∨ [6, 3, 5].getD j 0 ≤ i.toNatClampNeg
  · rw [if_pos h] at hz; cases hz
  · rw [if_neg h] at hz
    have hk2 := kk _ hz
    rcases (show j = 0 ∨ j = 1 ∨ j = 2 ∨ 3 ≤ j by omega) with rfl | rfl | rfl | h3
    · refine ⟨hk2.1, fun H locs ls hW hn hS hl => va_aldq hk.1.1 hk.1.2.1 (hH.2.1 s hK).1 hW.1 64 6 (ccs_R G d σ (i := 2) (by decide)) rfl h hd ?_⟩
      have h2 := hk2.2 H locs ls hW hn hS hl
      rw [show [0, 6, 9].getD 0 0 + i.toNatClampNeg = i.toNatClampNeg from Nat.zero_add _] at h2
      exact h2
    · exact ⟨hk2.1, fun H locs ls hW hn hS hl => va_aldq hk.1.1 hk.1.2.1 (hH.2.1 s hK).1 hW.1 65 6 (ccs_R G d σ (i := 3) (by decide)) rfl h hd (hk2.2 H locs ls hW hn hS hl)⟩
    · exact ⟨hk2.1, fun H locs ls hW hn hS hl => va_aldq hk.1.1 hk.1.2.1 (hH.2.1 s hK).1 hW.1 66 6 (ccs_R G d σ (i := 4) (by decide)) rfl h hd (hk2.2 H locs ls hW hn hS hl)⟩
    · exact absurd (Or.inr (by rw [List.getD_eq_getElem?_getD, List.getElem?_eq_none (by simpa using h3)]; exact Nat.zero_le _)) h
end
