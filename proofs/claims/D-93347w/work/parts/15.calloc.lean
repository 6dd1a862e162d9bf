/-! MAKING CELLS -/
set_option maxRecDepth 100000
/-- the picture of a method that makes cells: the static one, and what is made -/
abbrev aWo (G : cG) : SS × DS → Heap → Prop := fun z => cWo G z.2 z.1
abbrev anx : SS × DS → Nat := fun z => z.2.2
def jUa {τ : Type} (v : τ → Value) (r : τ × SS × DS) : Outcome → SS × DS → Prop := fun o z => o = .returned (some (v r.1)) ∧ z = r.2
def jVa (r : SS × DS) : Outcome → SS × DS → Prop := fun o z => o = .returned none ∧ z = r
def dNew (d : DS) (ci : Nat) (fs : List Value) : DS := (d.1 ++ [(d.2, .inr (ci, fs))], d.2 + 1)
def dSet (d : DS) (q : Nat) (e : dE) : DS := (d.1.map (fun x => if x.1 == q then (q, e) else x), d.2)
def dPut (d : DS) (ci k q : Nat) (v : Value) : Option DS := match dl d q with
  | some (.inr (c, fs)) => if c = ci ∧ k < fs.length then some (dSet d q (.inr (ci, fs.set k v))) else none
  | _ => none
/-- a callee that makes cells: the heap only grows -/
def dMon {τ : Type} (d : DS) (F : Option (τ × SS × DS)) : Option (τ × SS × DS) := F.bind fun r => if d.2 ≤ r.2.2.2 then some r else none
def dMonV (d : DS) (F : Option (SS × DS)) : Option (SS × DS) := F.bind fun r => if d.2 ≤ r.2.2 then some r else none
theorem dMon_some {τ : Type} {d : DS} {F : Option (τ × SS × DS)} {r : τ × SS × DS} (h : dMon d F = some r) : F = some r ∧ d.2 ≤ r.2.2.2 := by
  unfold dMon at h
  cases F with
  | none => cases h
  | some x =>
    simp only [Option.bind_some] at h
    split at h
    · rename_i hle; cases h; exact ⟨rfl, hle⟩
    · cases h
theorem dMonV_some {d : DS} {F : Option (SS × DS)} {r : SS × DS} (h : dMonV d F = some r) : F = some r ∧ d.2 ≤ r.2.2 := by
  unfold dMonV at h
  cases F with
  | none => cases h
  | some x =>
    simp only [Option.bind_some] at h
    split at h
    · rename_i hle; cases h; exact ⟨rfl, hle⟩
    · cases h
theorem ccs_new (G : cG) (d : DS) (σ : SS) (ci : Nat) (fs : List Value) : ccs G (dNew d ci fs) σ = ccs G d σ ++ [(d.2, .inr (ci, fs))] := by
  unfold ccs dNew
  simp [List.map_append, List.append_assoc, dT]
theorem ccs_dset {G : cG} {d : DS} {σ : SS} {A : Nat → Prop} (hD : va_D A (ccs G d σ)) {i q : Nat} {e0 e : dE} (hi : d.1[i]? = some (q, e0)) : ccs G (dSet d q e) σ = (ccs G d σ).set (69 + i) (dT G (q, e)) := by
  apply List.ext_getElem?
  intro k
  by_cases hk : k < 69
  · have h1 : ∀ d' : DS, (ccs G d' σ)[k]? = (cO G σ ++ ((List.range 47).map (cArr G σ) ++ cR G σ))[k]? := by
      intro d'
      unfold ccs
      rw [← List.append_assoc, ← List.append_assoc, List.append_assoc (cO G σ), List.getElem?_append_left]
      simp only [List.length_append, List.length_map, List.length_range]
      show k < 15 + (47 + 7)
      omega
    rw [List.getElem?_set_ne (by omega), h1, h1]
  · obtain ⟨j, rfl⟩ : ∃ j, k = 69 + j := ⟨k - 69, by omega⟩
    have hlen : 69 + i < (ccs G d σ).length := by
      have h := ccs_D G d σ i
      rw [hi] at h
      exact (List.getElem?_eq_some_iff.mp h).1
    by_cases hj : j = i
    · subst hj
      rw [List.getElem?_set_self hlen, ccs_D]
      show ((d.1.map _)[j]?).map _ = _
      rw [List.getElem?_map, hi]
      simp
    · rw [List.getElem?_set_ne (by omega), ccs_D, ccs_D]
      show ((d.1.map _)[j]?).map _ = _
      rw [List.getElem?_map]
      cases hx : d.1[j]? with
      | none => rfl
      | some x =>
        have hne : x.1 ≠ q := fun h => by
          have a1 : (ccs G d σ)[69 + j]? = some (dT G x) := by rw [ccs_D, hx]; rfl
          have a2 : (ccs G d σ)[69 + i]? = some (dT G (q, e0)) := by rw [ccs_D, hi]; rfl
          have := hD.1 _ _ _ _ a1 a2 h
          omega
        simp [hne]
section CA
variable {p : Program} {l : Launch} {e : Env} {R : Room} {s : State} {m : MethodId} {args : Array Value} {below : List Frame} {meth : Method} {c : Code}
variable {NX : Nat} {Q : State → Prop} {nL : Nat} {cc : ByteArray} {fr lo : Nat} {ret : Option FieldType} {own : String}
variable {pc pc' : Nat} {σ σ' : SS} {lv lv' : List (Nat × Value)} {st st' : List Value} {Z : Prop} {G : cG} {d d' : DS} {ρ : Type} {res : ρ} {KK : State → Prop}
/-- a step of the kit that writes a made cell and makes none -/
theorem cw_stepD (hH : cH G KK) (hd2 : d'.2 = d.2) (kk : jj p l e R s m args below meth c (hA G) NX Q (cWo G d') (cnx d') nL σ' pc' lv st' Z) (row : ∀ (H : Heap) (locs : List Loc) (ls : Array Slot), va_P (hD G) jcl (ccs G d σ) H → va_D (hA G) (ccs G d σ) → va_S (hA G) H H locs → lv_has ls nL lv → (∀ (H1 : Heap) (locs1 : List Loc), va_P (hD G) jcl (ccs G d' σ') H1 → va_D (hA G) (ccs G d' σ') → va_S (hA G) H H1 locs1 → W p l e R s m args below meth c H1 locs1 (d.2 - s.heap.size) (41 * (d.2 - s.heap.size)) Q (F0 m pc' ls st')) → W p l e R s m args below meth c H locs (d.2 - s.heap.size) (41 * (d.2 - s.heap.size)) Q (F0 m pc ls st)) : jj p l e R s m args below meth c (hA G) NX Q (cWo G d) (cnx d) nL σ pc lv st Z := by
  intro hz
  obtain ⟨hle, hw⟩ := kk hz
  have hle' : d.2 ≤ NX := by rw [← hd2]; exact hle
  refine ⟨hle', fun H locs ls hW hn hS hl => ?_⟩
  have hs0 : s.heap.size ≤ d.2 := by have h := hS.1; rw [hn] at h; exact h
  refine row H locs ls hW.1 hW.2.1 ⟨Nat.le_refl _, fun _ _ _ => rfl, hS.2.2⟩ hl (fun H1 locs1 hP1 hD1 hS1 => ?_)
  intro T hT X
  have hup : T.heap.size ≤ s.heap.size + (d.2 - s.heap.size) := X.heapSize
  rw [hT] at hup
  have hsz : H1.size = d'.2 := by have h1 := hS1.1; rw [hn] at h1; have h2 : (cnx d σ : Nat) = d.2 := rfl; omega
  have hw2 := hw H1 locs1 ls ⟨hP1, hD1, hH.2.2.1 H H1 hS1.1 hS1.2.1 hW.2.2⟩ hsz ⟨Nat.le_trans hS.1 hS1.1, fun q h1 h2 => (hS1.2.1 q (Nat.lt_of_lt_of_le h1 hS.1) h2).trans (hS.2.1 q h1 h2), hS1.2.2⟩ hl
  have e1 : cnx d' σ' = d.2 := hd2
  rw [e1] at hw2
  exact hw2 T hT X
theorem ja_new (hk : jk p R s m args meth c NX cc nL own fr lo ret) (hH : cH G KK) (hK : KK s) {C : String} {T : u_T} {N ci index : Nat} {fs : List Value} {K : DS → Option ρ} (hin : ∀ w ∈ u_ws C T N, w ∈ lw_all) (ty : Nat → FieldType) (hty : ∀ k, k < N → parseFieldDescriptor (T k).2.2.1 = some (ty k)) (hcl : Cond.classLink own index C ∈ lw_all) (hins : Cond.instantiable C N ∈ lw_all) (hini : Cond.initialized C ∈ lw_all) (hc : jcl[ci]? = some (C, T, N)) (hfs : ∀ j, j < N → defaultValue (ty j) = vp_V fs j) (hN : N ≤ 41) (hd : decode cc pc = .ok (.new index, 3)) (kk : ∀ d1, jj p l e R s m args below meth c (hA G) NX Q (cWo G d1) (cnx d1) nL σ (pc + 3) lv (.ref d.2 :: st) (K d1 = some res)) : jj p l e R s m args below meth c (hA G) NX Q (cWo G d) (cnx d) nL σ pc lv st ((some (dNew d ci fs)).bind K = some res) := by
  intro hz
  obtain ⟨hle, hw⟩ := kk (dNew d ci fs) hz
  have hle' : d.2 + 1 ≤ NX := hle
  refine ⟨Nat.le_of_succ_le hle', fun H locs ls hW hn hS hl => ?_⟩
  have hn' : H.size = d.2 := hn
  have hs0 : s.heap.size ≤ d.2 := by have h := hS.1; rw [hn] at h; exact h
  have hKn := (hH.2.1 s hK).1.1 ci _ hc
  refine W.newcK hk.1.1 hk.1.2.1 hk.1.2.2.2.1 (hk.1.2.2.2.2 _ hcl) (hk.1.2.2.2.2 _ hins) (hk.1.2.2.2.2 _ hini) rfl hd ?_ ?_ hKn.2.1 hn' fun H1 kC hkC e1 z1 o1 => ?_
  · rw [hk.2.1]; show _ ≤ NX - s.heap.size; dsimp only [cnx]; omega
  · rw [hk.2.1]; show _ ≤ 41 * (NX - s.heap.size); dsimp only [cnx]; omega
  have hq : ∀ (k : Nat) (x : Nat × va_E), (ccs G d σ)[k]? = some x → H1[x.1]? = H[x.1]? := fun k x hx => o1 x.1 (by have h := (hW.1 k x hx).lt; rw [hn'] at h; exact h)
  have hfresh : hA G d.2 := hH.2.2.2.1 H d.2 hW.2.2 (Nat.le_of_eq hn')
  have hkeep : ∀ q, q < H.size → H1[q]? = H[q]? := fun q h => o1 q (by rw [hn'] at h; exact h)
  have hgrow : H.size ≤ H1.size := by rw [z1, hn']; exact Nat.le_succ _
  have hw2 := hw H1 locs ls ⟨by
      rw [ccs_new]
      refine (hW.1.kept hq).app (fun k x hx => ?_)
      have hz1 : k < 1 := (List.getElem?_eq_some_iff.mp hx).1
      rw [show k = 0 by omega] at hx
      cases hx
      exact ⟨_, hc, (u_born ty hk.1.2.2.2.2 hin hKn hkC e1 hty).to hfs⟩, by
      rw [ccs_new]
      exact hW.2.1.push hW.1 hn'.symm hfresh, hH.2.2.1 H H1 hgrow (fun q h _ => hkeep q h) hW.2.2⟩ z1 ⟨Nat.le_trans hS.1 hgrow, fun q h1 h2 => (hkeep q (Nat.lt_of_lt_of_le h1 hS.1)).trans (hS.2.1 q h1 h2), hS.2.2⟩ hl
  refine W.widen (k := cnx (dNew d ci fs) σ - s.heap.size) (n := 41 * (cnx (dNew d ci fs) σ - s.heap.size)) ?_ ?_ hw2
  · show d.2 - s.heap.size + 1 ≤ d.2 + 1 - s.heap.size; omega
  · show 41 * (d.2 - s.heap.size) + N ≤ 41 * (d.2 + 1 - s.heap.size); omega
theorem ja_putF (hk : jk p R s m args meth c NX cc nL own fr lo ret) (hH : cH G KK) (hK : KK s) (hmi : meth.name = "<init>") {C ref : String} {T : u_T} {N ci k index q : Nat} {v : Value} {K : DS → Option ρ} (hin : ∀ w ∈ u_ws C T N, w ∈ lw_all) (ty0 : Nat → FieldType) (hty : ∀ k, k < N → parseFieldDescriptor (T k).2.2.1 = some (ty0 k)) (hnm : ∀ a, a < N → ∀ b, b < N → a ≠ b → (T a).2.1 ≠ (T b).2.1) (hc : jcl[ci]? = some (C, T, N)) (hkN : k < N) (hlink : Cond.fieldLink own index ref (T k).2.1 (T k).2.2.1 ∈ lw_all) (href : ref = (T k).1) (hfin : (T k).2.2.2 = true) (hdecl : (T k).1 = own) (hnar : narrow (ty0 k) v = v) (hfit : fits (ty0 k) v = true) (hd : decode cc pc = .ok (.putfield index, 3)) (kk : ∀ d1, jj p l e R s m args below meth c (hA G) NX Q (cWo G d1) (cnx d1) nL σ (pc + 3) lv st (K d1 = some res)) : jj p l e R s m args below meth c (hA G) NX Q (cWo G d) (cnx d) nL σ pc lv (v :: .ref q :: st) ((dPut d ci k q v).bind K = some res) := by
  intro hz
  unfold dPut at hz
  split at hz
  · rename_i c0 fs he
    by_cases hcc : c0 = ci ∧ k < fs.length
    · rw [if_pos hcc] at hz
      obtain ⟨hc0, hl2⟩ := hcc
      subst hc0
      obtain ⟨i, hi⟩ := dl_spec he
      have hat : (ccs G d σ)[69 + i]? = some (dT G (q, .inr (c0, fs))) := by rw [ccs_D, hi]; rfl
      exact cw_stepD (d' := dSet d q (.inr (c0, fs.set k v))) hH rfl (kk _) (fun H locs ls hP hD hS hl go => va_putF hk.1.1 hk.1.2.1 hk.1.2.2.2.2 hin ty0 hty hnm hk.1.2.2.2.1 (hH.2.1 s hK).1 hP hD hS (69 + i) hat hc k hkN (hk.1.2.2.2.2 _ hlink) (fun _ h => by rw [href]; exact h) hfin hmi hdecl (hty k hkN) hnar hfit hl2 hd (fun H1 locs1 h1 h2 h3 => go H1 locs1 (by rw [ccs_dset hD hi]; exact h1) (by rw [ccs_dset hD hi]; exact h2) h3)) hz
    · rw [if_neg hcc] at hz; cases hz
  · cases hz
theorem ja_objInit (hk : jk p R s m args meth c NX cc nL own fr lo ret) (hH : cH G KK) (hK : KK s) {idx q : Nat} (hlk : Cond.methodLink own idx Lib.objectInit ∈ lw_all) (hins : Cond.instanceMethod Lib.objectInit ∈ lw_all) (hcd : Cond.code Lib.objectInit ⟨#[0xb1]⟩ 1 none ∈ lw_all) (hd : decode cc pc = .ok (.invokespecial idx, 3)) (hr : 1 ≤ fr ∧ 40 ≤ lo) (hw : (st.map fun v => v.category).sum ≤ 8) (kk : jj p l e R s m args below meth c (hA G) NX Q (cWo G d) (cnx d) nL σ (pc + 3) lv st Z) : jj p l e R s m args below meth c (hA G) NX Q (cWo G d) (cnx d) nL σ pc lv (.ref q :: st) Z :=
  fun hz => ⟨(kk hz).1, fun H locs ls hW hn hS hl => W.objInit hk.1.1 hk.1.2.1 hk.1.2.2.2.1 (hk.1.2.2.2.2 _ hlk) (hk.1.2.2.2.2 _ hins) (hk.1.2.2.2.2 _ hcd) rfl (by rw [hk.1.2.2.1]; exact hl.1) rfl hd (by rw [hk.2.1]; exact hr.1) (by rw [hk.2.1]; show _ ≤ lo; have := lv_room (m := m) (pc := pc) (ls := ls) (rest := .ref q :: st) hw; omega) ((kk hz).2 H locs ls hW hn hS hl)⟩
/-- behind a call of a method that makes cells -/
theorem ja_run {st0 : List Value} {z1 : SS × DS} {v : Option Value} {Ψ1 : Outcome → SS × DS → Prop} {a1 : Array Value} (hk : jk p R s m args meth c NX cc nL own fr lo ret) (hmono : d.2 ≤ z1.2.2) (hv : ∀ (o : Option Value) (z : SS × DS), Ψ1 (.returned o) z → o = v ∧ z = z1)
    (hrun : ∀ (H : Heap) (locs : List Loc) (ls : Array Slot), cWo G d σ H → H.size = d.2 → va_S (hA G) s.heap H locs → lv_has ls nL lv → z1.2.2 ≤ NX → va_Run p l e R s m args below meth c H locs (d.2 - s.heap.size) (41 * (d.2 - s.heap.size)) (z1.2.2 - d.2) (41 * (z1.2.2 - d.2)) (F0 m pc ls st0) st (jj_Q Ψ1 (aWo G) anx (hA G) a1) (hA G))
    (kk : jj p l e R s m args below meth c (hA G) NX Q (cWo G z1.2) (cnx z1.2) nL z1.1 (pc + 3) lv (v.toList ++ st) Z) : jj p l e R s m args below meth c (hA G) NX Q (cWo G d) (cnx d) nL σ pc lv st0 Z := by
  intro hz
  obtain ⟨hle, hw⟩ := kk hz
  have hle' : z1.2.2 ≤ NX := hle
  refine ⟨Nat.le_trans hmono hle', fun H locs ls hW hn hS hl => ?_⟩
  intro T hT X
  obtain ⟨v', st₀, t, T', L, h0, X', hL, e1, e2, ⟨⟨z, hp, hw1, hn1⟩, hzz, hkk⟩, st'⟩ := hrun H locs ls hW hn hS hl hle' T hT X
  obtain ⟨rfl, rfl⟩ := hv v' z hp
  rw [h0] at hzz hkk
  have hs0 : s.heap.size ≤ d.2 := by have h := hS.1; rw [hn] at h; exact h
  have ec : d.2 - s.heap.size + (z.2.2 - d.2) = z.2.2 - s.heap.size := by omega
  have es : 41 * (d.2 - s.heap.size) + 41 * (z.2.2 - d.2) = 41 * (z.2.2 - s.heap.size) := by omega
  rw [ec, es] at X'
  obtain ⟨t2, a2, b2⟩ := hw T'.heap (locs ++ L) ls (by rw [e1]; exact hw1) (by rw [e1]; exact hn1) ⟨Nat.le_trans hS.1 (by rw [e1]; exact hzz), fun q h1 h2 => by rw [e1, hkk q (Nat.lt_of_lt_of_le h1 hS.1) h2]; exact hS.2.1 q h1 h2, fun q hq => by
      rcases List.mem_append.mp hq with h | h
      · exact hS.2.2 q h
      · exact hL q h⟩ hl T' rfl X'
  exact ⟨t2, st' t2 a2, b2⟩
theorem ablind {G : cG} {KK : State → Prop} (hA' : jA KK) {av : List Value} {z : SS × DS} : FrameBlind (va_Pc av (fun U => aWo G z U.heap ∧ U.heap.size = anx z ∧ KK U)) :=
  fun a U g mk q => ⟨q.1, q.2.1, q.2.2.1, hA' U (U.calling g mk a) (State.WarmedH.refl U) q.2.2.2⟩
theorem ja_VUi (hk : jk p R s m args meth c NX cc nL own fr lo ret) (hH : cH G KK) (hK : KK s) {y : MethodName} {bytes : ByteArray} {C : String} {b : Nat} {nLc frc loc idx n : Nat} {F : Option (Int32 × SS × DS)} {K : (Int32 × SS × DS) → Option ρ} (As : List Value) {st0 : List Value} (hM : ∀ r, F = some r → jM l y (ws_ y bytes nLc (some .int)) frc loc (.ref b :: As) (aWo G) anx KK (σ, d) (jUa (fun x : Int32 => .int x) r) (hA G) r.2.2.2)
    (hl : GoodIn lw_all (wsV own idx C y (ws_ y bytes nLc (some .int)))) (hrv : cRv G d σ s b C) (hy : y.cls = C ∧ y.cls ≠ "java/lang/invoke/MethodHandle" ∧ y.cls ≠ "java/lang/invoke/VarHandle" ∧ (parseMethodDescriptor y.desc).map (fun d => d.parameters.length) = some n) (hlen : As.length = n) (hst : st0 = (As.reverse ++ .ref b :: st)) (hd : decode cc pc = .ok (.invokevirtual idx, 3)) (hr : frc + 1 ≤ fr ∧ 8 + (nLc + 11) + loc ≤ lo) (hw : (st.map fun v => v.category).sum ≤ 8)
    (kk : ∀ r, jj p l e R s m args below meth c (hA G) NX Q (cWo G r.2.2) (cnx r.2.2) nL r.2.1 (pc + 3) lv (.int r.1 :: st) (K r = some res)) : jj p l e R s m args below meth c (hA G) NX Q (cWo G d) (cnx d) nL σ pc lv st0 ((dMon d F).bind K = some res) := by
  subst hst
  intro hz
  cases hFm : dMon d F with
  | none => rw [hFm] at hz; cases hz
  | some r =>
    rw [hFm] at hz
    obtain ⟨hF, hmo⟩ := dMon_some hFm
    refine ja_run (z1 := r.2) (v := some (.int r.1)) (Ψ1 := jUa (fun x : Int32 => .int x) r) (a1 := (Value.ref b :: As).toArray) hk hmo (fun o z h => ⟨by have h1 := h.1; cases h1; rfl, h.2⟩) (fun H locs ls hW hn hS hlv hle => ?_) (kk r) hz
    exact va_runV (As := As) (rest := st) hk.1 (hM r hF) (cwV n hk.1.2.2.2.2 hl rfl rfl rfl hy (by rw [hk.2.1]; exact hr)) ⟨ablind hH.1, hrv H hW, fun U hU hWm => ⟨rfl, by rw [hU]; exact hW, by rw [hU]; exact hn, hH.1 _ _ hWm hK⟩⟩ rfl hlen hlv.1 rfl (lv_room hw) hd (by rw [hk.2.1]; have : r.2.2.2 ≤ NX := hle; have h9 : d.2 ≤ r.2.2.2 := hmo; have hs0 : s.heap.size ≤ d.2 := (by have h := hS.1; rw [hn] at h; exact h); constructor <;> (show _ ≤ _; dsimp only [anx]; omega))
theorem ja_VUz (hk : jk p R s m args meth c NX cc nL own fr lo ret) (hH : cH G KK) (hK : KK s) {y : MethodName} {bytes : ByteArray} {C : String} {b : Nat} {nLc frc loc idx n : Nat} {F : Option (Bool × SS × DS)} {K : (Bool × SS × DS) → Option ρ} (As : List Value) {st0 : List Value} (hM : ∀ r, F = some r → jM l y (ws_ y bytes nLc (some .boolean)) frc loc (.ref b :: As) (aWo G) anx KK (σ, d) (jUa (fun x : Bool => .int (bI x)) r) (hA G) r.2.2.2)
    (hl : GoodIn lw_all (wsV own idx C y (ws_ y bytes nLc (some .boolean)))) (hrv : cRv G d σ s b C) (hy : y.cls = C ∧ y.cls ≠ "java/lang/invoke/MethodHandle" ∧ y.cls ≠ "java/lang/invoke/VarHandle" ∧ (parseMethodDescriptor y.desc).map (fun d => d.parameters.length) = some n) (hlen : As.length = n) (hst : st0 = (As.reverse ++ .ref b :: st)) (hd : decode cc pc = .ok (.invokevirtual idx, 3)) (hr : frc + 1 ≤ fr ∧ 8 + (nLc + 11) + loc ≤ lo) (hw : (st.map fun v => v.category).sum ≤ 8)
    (kk : ∀ r, jj p l e R s m args below meth c (hA G) NX Q (cWo G r.2.2) (cnx r.2.2) nL r.2.1 (pc + 3) lv (.int (bI r.1) :: st) (K r = some res)) : jj p l e R s m args below meth c (hA G) NX Q (cWo G d) (cnx d) nL σ pc lv st0 ((dMon d F).bind K = some res) := by
  subst hst
  intro hz
  cases hFm : dMon d F with
  | none => rw [hFm] at hz; cases hz
  | some r =>
    rw [hFm] at hz
    obtain ⟨hF, hmo⟩ := dMon_some hFm
    refine ja_run (z1 := r.2) (v := some (.int (bI r.1))) (Ψ1 := jUa (fun x : Bool => .int (bI x)) r) (a1 := (Value.ref b :: As).toArray) hk hmo (fun o z h => ⟨by have h1 := h.1; cases h1; rfl, h.2⟩) (fun H locs ls hW hn hS hlv hle => ?_) (kk r) hz
    exact va_runV (As := As) (rest := st) hk.1 (hM r hF) (cwV n hk.1.2.2.2.2 hl rfl rfl rfl hy (by rw [hk.2.1]; exact hr)) ⟨ablind hH.1, hrv H hW, fun U hU hWm => ⟨rfl, by rw [hU]; exact hW, by rw [hU]; exact hn, hH.1 _ _ hWm hK⟩⟩ rfl hlen hlv.1 rfl (lv_room hw) hd (by rw [hk.2.1]; have : r.2.2.2 ≤ NX := hle; have h9 : d.2 ≤ r.2.2.2 := hmo; have hs0 : s.heap.size ≤ d.2 := (by have h := hS.1; rw [hn] at h; exact h); constructor <;> (show _ ≤ _; dsimp only [anx]; omega))
theorem ja_VV (hk : jk p R s m args meth c NX cc nL own fr lo ret) (hH : cH G KK) (hK : KK s) {y : MethodName} {bytes : ByteArray} {C : String} {b : Nat} {nLc frc loc idx n : Nat} {F : Option (SS × DS)} {K : (SS × DS) → Option ρ} (As : List Value) {st0 : List Value} (hM : ∀ r, F = some r → jM l y (ws_ y bytes nLc none) frc loc (.ref b :: As) (aWo G) anx KK (σ, d) (jVa r) (hA G) r.2.2)
    (hl : GoodIn lw_all (wsV own idx C y (ws_ y bytes nLc none))) (hrv : cRv G d σ s b C) (hy : y.cls = C ∧ y.cls ≠ "java/lang/invoke/MethodHandle" ∧ y.cls ≠ "java/lang/invoke/VarHandle" ∧ (parseMethodDescriptor y.desc).map (fun d => d.parameters.length) = some n) (hlen : As.length = n) (hst : st0 = (As.reverse ++ .ref b :: st)) (hd : decode cc pc = .ok (.invokevirtual idx, 3)) (hr : frc + 1 ≤ fr ∧ 8 + (nLc + 11) + loc ≤ lo) (hw : (st.map fun v => v.category).sum ≤ 8)
    (kk : ∀ r, jj p l e R s m args below meth c (hA G) NX Q (cWo G r.2) (cnx r.2) nL r.1 (pc + 3) lv st (K r = some res)) : jj p l e R s m args below meth c (hA G) NX Q (cWo G d) (cnx d) nL σ pc lv st0 ((dMonV d F).bind K = some res) := by
  subst hst
  intro hz
  cases hFm : dMonV d F with
  | none => rw [hFm] at hz; cases hz
  | some r =>
    rw [hFm] at hz
    obtain ⟨hF, hmo⟩ := dMonV_some hFm
    refine ja_run (z1 := r) (v := none) (Ψ1 := jVa r) (a1 := (Value.ref b :: As).toArray) hk hmo (fun o z h => ⟨by have h1 := h.1; cases h1; rfl, h.2⟩) (fun H locs ls hW hn hS hlv hle => ?_) (kk r) hz
    exact va_runV (As := As) (rest := st) hk.1 (hM r hF) (cwV n hk.1.2.2.2.2 hl rfl rfl rfl hy (by rw [hk.2.1]; exact hr)) ⟨ablind hH.1, hrv H hW, fun U hU hWm => ⟨rfl, by rw [hU]; exact hW, by rw [hU]; exact hn, hH.1 _ _ hWm hK⟩⟩ rfl hlen hlv.1 rfl (lv_room hw) hd (by rw [hk.2.1]; have : r.2.2 ≤ NX := hle; have h9 : d.2 ≤ r.2.2 := hmo; have hs0 : s.heap.size ≤ d.2 := (by have h := hS.1; rw [hn] at h; exact h); constructor <;> (show _ ≤ _; dsimp only [anx]; omega))
theorem ja_SUi (hk : jk p R s m args meth c NX cc nL own fr lo ret) (hH : cH G KK) (hK : KK s) {y : MethodName} {bytes : ByteArray} {nLc frc loc idx n : Nat} {F : Option (Int32 × SS × DS)} {K : (Int32 × SS × DS) → Option ρ} (As : List Value) {st0 : List Value} (hM : ∀ r, F = some r → jM l y (ws_ y bytes nLc (some .int)) frc loc (As) (aWo G) anx KK (σ, d) (jUa (fun x : Int32 => .int x) r) (hA G) r.2.2.2)
    (hl : GoodIn lw_all (va_wsS own idx y (ws_ y bytes nLc (some .int)))) (hy : y.cls ≠ "java/lang/invoke/MethodHandle" ∧ y.cls ≠ "java/lang/invoke/VarHandle" ∧ (parseMethodDescriptor y.desc).map (fun d => d.parameters.length) = some n) (hlen : As.length = n) (hst : st0 = (As.reverse ++ st)) (hd : decode cc pc = .ok (.invokestatic idx, 3)) (hr : frc + 1 ≤ fr ∧ 8 + (nLc + 11) + loc ≤ lo) (hw : (st.map fun v => v.category).sum ≤ 8)
    (kk : ∀ r, jj p l e R s m args below meth c (hA G) NX Q (cWo G r.2.2) (cnx r.2.2) nL r.2.1 (pc + 3) lv (.int r.1 :: st) (K r = some res)) : jj p l e R s m args below meth c (hA G) NX Q (cWo G d) (cnx d) nL σ pc lv st0 ((dMon d F).bind K = some res) := by
  subst hst
  intro hz
  cases hFm : dMon d F with
  | none => rw [hFm] at hz; cases hz
  | some r =>
    rw [hFm] at hz
    obtain ⟨hF, hmo⟩ := dMon_some hFm
    refine ja_run (z1 := r.2) (v := some (.int r.1)) (Ψ1 := jUa (fun x : Int32 => .int x) r) (a1 := As.toArray) hk hmo (fun o z h => ⟨by have h1 := h.1; cases h1; rfl, h.2⟩) (fun H locs ls hW hn hS hlv hle => ?_) (kk r) hz
    exact va_runS (As := As) (rest := st) hk.1 (hM r hF) (va_cwS n hk.1.2.2.2.2 hl rfl rfl rfl hy (by rw [hk.2.1]; exact hr)) ⟨ablind hH.1, fun U hU hWm => ⟨rfl, by rw [hU]; exact hW, by rw [hU]; exact hn, hH.1 _ _ hWm hK⟩⟩ rfl hlen hlv.1 rfl (lv_room hw) hd (by rw [hk.2.1]; have : r.2.2.2 ≤ NX := hle; have h9 : d.2 ≤ r.2.2.2 := hmo; have hs0 : s.heap.size ≤ d.2 := (by have h := hS.1; rw [hn] at h; exact h); constructor <;> (show _ ≤ _; dsimp only [anx]; omega))
theorem ja_SUz (hk : jk p R s m args meth c NX cc nL own fr lo ret) (hH : cH G KK) (hK : KK s) {y : MethodName} {bytes : ByteArray} {nLc frc loc idx n : Nat} {F : Option (Bool × SS × DS)} {K : (Bool × SS × DS) → Option ρ} (As : List Value) {st0 : List Value} (hM : ∀ r, F = some r → jM l y (ws_ y bytes nLc (some .boolean)) frc loc (As) (aWo G) anx KK (σ, d) (jUa (fun x : Bool => .int (bI x)) r) (hA G) r.2.2.2)
    (hl : GoodIn lw_all (va_wsS own idx y (ws_ y bytes nLc (some .boolean)))) (hy : y.cls ≠ "java/lang/invoke/MethodHandle" ∧ y.cls ≠ "java/lang/invoke/VarHandle" ∧ (parseMethodDescriptor y.desc).map (fun d => d.parameters.length) = some n) (hlen : As.length = n) (hst : st0 = (As.reverse ++ st)) (hd : decode cc pc = .ok (.invokestatic idx, 3)) (hr : frc + 1 ≤ fr ∧ 8 + (nLc + 11) + loc ≤ lo) (hw : (st.map fun v => v.category).sum ≤ 8)
    (kk : ∀ r, jj p l e R s m args below meth c (hA G) NX Q (cWo G r.2.2) (cnx r.2.2) nL r.2.1 (pc + 3) lv (.int (bI r.1) :: st) (K r = some res)) : jj p l e R s m args below meth c (hA G) NX Q (cWo G d) (cnx d) nL σ pc lv st0 ((dMon d F).bind K = some res) := by
  subst hst
  intro hz
  cases hFm : dMon d F with
  | none => rw [hFm] at hz; cases hz
  | some r =>
    rw [hFm] at hz
    obtain ⟨hF, hmo⟩ := dMon_some hFm
    refine ja_run (z1 := r.2) (v := some (.int (bI r.1))) (Ψ1 := jUa (fun x : Bool => .int (bI x)) r) (a1 := As.toArray) hk hmo (fun o z h => ⟨by have h1 := h.1; cases h1; rfl, h.2⟩) (fun H locs ls hW hn hS hlv hle => ?_) (kk r) hz
    exact va_runS (As := As) (rest := st) hk.1 (hM r hF) (va_cwS n hk.1.2.2.2.2 hl rfl rfl rfl hy (by rw [hk.2.1]; exact hr)) ⟨ablind hH.1, fun U hU hWm => ⟨rfl, by rw [hU]; exact hW, by rw [hU]; exact hn, hH.1 _ _ hWm hK⟩⟩ rfl hlen hlv.1 rfl (lv_room hw) hd (by rw [hk.2.1]; have : r.2.2.2 ≤ NX := hle; have h9 : d.2 ≤ r.2.2.2 := hmo; have hs0 : s.heap.size ≤ d.2 := (by have h := hS.1; rw [hn] at h; exact h); constructor <;> (show _ ≤ _; dsimp only [anx]; omega))
theorem ja_SV (hk : jk p R s m args meth c NX cc nL own fr lo ret) (hH : cH G KK) (hK : KK s) {y : MethodName} {bytes : ByteArray} {nLc frc loc idx n : Nat} {F : Option (SS × DS)} {K : (SS × DS) → Option ρ} (As : List Value) {st0 : List Value} (hM : ∀ r, F = some r → jM l y (ws_ y bytes nLc none) frc loc (As) (aWo G) anx KK (σ, d) (jVa r) (hA G) r.2.2)
    (hl : GoodIn lw_all (va_wsS own idx y (ws_ y bytes nLc none))) (hy : y.cls ≠ "java/lang/invoke/MethodHandle" ∧ y.cls ≠ "java/lang/invoke/VarHandle" ∧ (parseMethodDescriptor y.desc).map (fun d => d.parameters.length) = some n) (hlen : As.length = n) (hst : st0 = (As.reverse ++ st)) (hd : decode cc pc = .ok (.invokestatic idx, 3)) (hr : frc + 1 ≤ fr ∧ 8 + (nLc + 11) + loc ≤ lo) (hw : (st.map fun v => v.category).sum ≤ 8)
    (kk : ∀ r, jj p l e R s m args below meth c (hA G) NX Q (cWo G r.2) (cnx r.2) nL r.1 (pc + 3) lv st (K r = some res)) : jj p l e R s m args below meth c (hA G) NX Q (cWo G d) (cnx d) nL σ pc lv st0 ((dMonV d F).bind K = some res) := by
  subst hst
  intro hz
  cases hFm : dMonV d F with
  | none => rw [hFm] at hz; cases hz
  | some r =>
    rw [hFm] at hz
    obtain ⟨hF, hmo⟩ := dMonV_some hFm
    refine ja_run (z1 := r) (v := none) (Ψ1 := jVa r) (a1 := As.toArray) hk hmo (fun o z h => ⟨by have h1 := h.1; cases h1; rfl, h.2⟩) (fun H locs ls hW hn hS hlv hle => ?_) (kk r) hz
    exact va_runS (As := As) (rest := st) hk.1 (hM r hF) (va_cwS n hk.1.2.2.2.2 hl rfl rfl rfl hy (by rw [hk.2.1]; exact hr)) ⟨ablind hH.1, fun U hU hWm => ⟨rfl, by rw [hU]; exact hW, by rw [hU]; exact hn, hH.1 _ _ hWm hK⟩⟩ rfl hlen hlv.1 rfl (lv_room hw) hd (by rw [hk.2.1]; have : r.2.2 ≤ NX := hle; have h9 : d.2 ≤ r.2.2 := hmo; have hs0 : s.heap.size ≤ d.2 := (by have h := hS.1; rw [hn] at h; exact h); constructor <;> (show _ ≤ _; dsimp only [anx]; omega))
theorem ja_VUa (hk : jk p R s m args meth c NX cc nL own fr lo ret) (hH : cH G KK) (hK : KK s) {y : MethodName} {rty : FieldType} {bytes : ByteArray} {C : String} {b : Nat} {nLc frc loc idx n : Nat} {F : Option (Nat × SS × DS)} {K : (Nat × SS × DS) → Option ρ} (As : List Value) {st0 : List Value} (hM : ∀ r, F = some r → jM l y (ws_ y bytes nLc (some rty)) frc loc (.ref b :: As) (aWo G) anx KK (σ, d) (jUa (fun x : Nat => .ref x) r) (hA G) r.2.2.2)
    (hl : GoodIn lw_all (wsV own idx C y (ws_ y bytes nLc (some rty)))) (hrv : cRv G d σ s b C) (hy : y.cls = C ∧ y.cls ≠ "java/lang/invoke/MethodHandle" ∧ y.cls ≠ "java/lang/invoke/VarHandle" ∧ (parseMethodDescriptor y.desc).map (fun d => d.parameters.length) = some n) (hlen : As.length = n) (hst : st0 = (As.reverse ++ .ref b :: st)) (hd : decode cc pc = .ok (.invokevirtual idx, 3)) (hr : frc + 1 ≤ fr ∧ 8 + (nLc + 11) + loc ≤ lo) (hw : (st.map fun v => v.category).sum ≤ 8)
    (kk : ∀ r, jj p l e R s m args below meth c (hA G) NX Q (cWo G r.2.2) (cnx r.2.2) nL r.2.1 (pc + 3) lv (.ref r.1 :: st) (K r = some res)) : jj p l e R s m args below meth c (hA G) NX Q (cWo G d) (cnx d) nL σ pc lv st0 ((dMon d F).bind K = some res) := by
  subst hst
  intro hz
  cases hFm : dMon d F with
  | none => rw [hFm] at hz; cases hz
  | some r =>
    rw [hFm] at hz
    obtain ⟨hF, hmo⟩ := dMon_some hFm
    refine ja_run (z1 := r.2) (v := some (.ref r.1)) (Ψ1 := jUa (fun x : Nat => .ref x) r) (a1 := (Value.ref b :: As).toArray) hk hmo (fun o z h => ⟨by have h1 := h.1; cases h1; rfl, h.2⟩) (fun H locs ls hW hn hS hlv hle => ?_) (kk r) hz
    exact va_runV (As := As) (rest := st) hk.1 (hM r hF) (cwV n hk.1.2.2.2.2 hl rfl rfl rfl hy (by rw [hk.2.1]; exact hr)) ⟨ablind hH.1, hrv H hW, fun U hU hWm => ⟨rfl, by rw [hU]; exact hW, by rw [hU]; exact hn, hH.1 _ _ hWm hK⟩⟩ rfl hlen hlv.1 rfl (lv_room hw) hd (by rw [hk.2.1]; have : r.2.2.2 ≤ NX := hle; have h9 : d.2 ≤ r.2.2.2 := hmo; have hs0 : s.heap.size ≤ d.2 := (by have h := hS.1; rw [hn] at h; exact h); constructor <;> (show _ ≤ _; dsimp only [anx]; omega))
theorem ja_SUa (hk : jk p R s m args meth c NX cc nL own fr lo ret) (hH : cH G KK) (hK : KK s) {y : MethodName} {rty : FieldType} {bytes : ByteArray} {nLc frc loc idx n : Nat} {F : Option (Nat × SS × DS)} {K : (Nat × SS × DS) → Option ρ} (As : List Value) {st0 : List Value} (hM : ∀ r, F = some r → jM l y (ws_ y bytes nLc (some rty)) frc loc (As) (aWo G) anx KK (σ, d) (jUa (fun x : Nat => .ref x) r) (hA G) r.2.2.2)
    (hl : GoodIn lw_all (va_wsS own idx y (ws_ y bytes nLc (some rty)))) (hy : y.cls ≠ "java/lang/invoke/MethodHandle" ∧ y.cls ≠ "java/lang/invoke/VarHandle" ∧ (parseMethodDescriptor y.desc).map (fun d => d.parameters.length) = some n) (hlen : As.length = n) (hst : st0 = (As.reverse ++ st)) (hd : decode cc pc = .ok (.invokestatic idx, 3)) (hr : frc + 1 ≤ fr ∧ 8 + (nLc + 11) + loc ≤ lo) (hw : (st.map fun v => v.category).sum ≤ 8)
    (kk : ∀ r, jj p l e R s m args below meth c (hA G) NX Q (cWo G r.2.2) (cnx r.2.2) nL r.2.1 (pc + 3) lv (.ref r.1 :: st) (K r = some res)) : jj p l e R s m args below meth c (hA G) NX Q (cWo G d) (cnx d) nL σ pc lv st0 ((dMon d F).bind K = some res) := by
  subst hst
  intro hz
  cases hFm : dMon d F with
  | none => rw [hFm] at hz; cases hz
  | some r =>
    rw [hFm] at hz
    obtain ⟨hF, hmo⟩ := dMon_some hFm
    refine ja_run (z1 := r.2) (v := some (.ref r.1)) (Ψ1 := jUa (fun x : Nat => .ref x) r) (a1 := As.toArray) hk hmo (fun o z h => ⟨by have h1 := h.1; cases h1; rfl, h.2⟩) (fun H locs ls hW hn hS hlv hle => ?_) (kk r) hz
    exact va_runS (As := As) (rest := st) hk.1 (hM r hF) (va_cwS n hk.1.2.2.2.2 hl rfl rfl rfl hy (by rw [hk.2.1]; exact hr)) ⟨ablind hH.1, fun U hU hWm => ⟨rfl, by rw [hU]; exact hW, by rw [hU]; exact hn, hH.1 _ _ hWm hK⟩⟩ rfl hlen hlv.1 rfl (lv_room hw) hd (by rw [hk.2.1]; have : r.2.2.2 ≤ NX := hle; have h9 : d.2 ≤ r.2.2.2 := hmo; have hs0 : s.heap.size ≤ d.2 := (by have h := hS.1; rw [hn] at h; exact h); constructor <;> (show _ ≤ _; dsimp only [anx]; omega))
theorem ja_I (hk : jk p R s m args meth c NX cc nL own fr lo ret) (hH : cH G KK) (hK : KK s) {y : MethodName} {bytes : ByteArray} {b : Nat} {nLc frc loc idx n : Nat} {F : Option (SS × DS)} {K : (SS × DS) → Option ρ} (As : List Value) {st0 : List Value} (hM : ∀ r, F = some r → jM l y (ws_ y bytes nLc none) frc loc (.ref b :: As) (aWo G) anx KK (σ, d) (jVa r) (hA G) r.2.2)
    (hcd : Cond.code y bytes nLc none ∈ lw_all) (hini : Cond.initialized y.cls ∈ lw_all) (hlk : Cond.methodLink own idx y ∈ lw_all) (him : Cond.instanceMethod y ∈ lw_all) (hyn : y.name = "<init>") (hy : y.cls ≠ "java/lang/invoke/MethodHandle" ∧ y.cls ≠ "java/lang/invoke/VarHandle" ∧ (parseMethodDescriptor y.desc).map (fun d => d.parameters.length) = some n) (hlen : As.length = n) (hst : st0 = (As.reverse ++ .ref b :: st)) (hd : decode cc pc = .ok (.invokespecial idx, 3)) (hr : frc + 1 ≤ fr ∧ 8 + (nLc + 11) + loc ≤ lo) (hw : (st.map fun v => v.category).sum ≤ 8)
    (kk : ∀ r, jj p l e R s m args below meth c (hA G) NX Q (cWo G r.2) (cnx r.2) nL r.1 (pc + 3) lv st (K r = some res)) : jj p l e R s m args below meth c (hA G) NX Q (cWo G d) (cnx d) nL σ pc lv st0 ((dMonV d F).bind K = some res) := by
  subst hst
  intro hz
  cases hFm : dMonV d F with
  | none => rw [hFm] at hz; cases hz
  | some r =>
    rw [hFm] at hz
    obtain ⟨hF, hmo⟩ := dMonV_some hFm
    refine ja_run (z1 := r) (v := none) (Ψ1 := jVa r) (a1 := (Value.ref b :: As).toArray) hk hmo (fun o z h => ⟨by have h1 := h.1; cases h1; rfl, h.2⟩) (fun H locs ls hW hn hS hlv hle => ?_) (kk r) hz
    exact va_runI (As := As) (rest := st) hk.1 (hM r hF) (cwI n hk.1.2.2.2.2 (lw_meth hcd) rfl rfl rfl (hk.1.2.2.2.2 _ hini) (hk.1.2.2.2.2 _ hlk) (hk.1.2.2.2.2 _ him) hyn hy (by rw [hk.2.1]; exact hr)) ⟨ablind hH.1, fun U hU hWm => ⟨rfl, by rw [hU]; exact hW, by rw [hU]; exact hn, hH.1 _ _ hWm hK⟩⟩ rfl hlen hlv.1 rfl (lv_room hw) hd (by rw [hk.2.1]; have : r.2.2 ≤ NX := hle; have h9 : d.2 ≤ r.2.2 := hmo; have hs0 : s.heap.size ≤ d.2 := (by have h := hS.1; rw [hn] at h; exact h); constructor <;> (show _ ≤ _; dsimp only [anx]; omega))
theorem ja_IN (hk : jk p R s m args meth c NX cc nL own fr lo ret) (hH : cH G KK) (hK : KK s) {y : MethodName} {bytes : ByteArray} {b : Nat} {nLc frc loc idx n : Nat} {F : Option (SS × DS)} {K : (SS × DS) → Option ρ} (As : List Value) {st0 : List Value} (hM : ∀ r, F = some r → jM l y (ws_ y bytes nLc none) frc loc (.ref b :: As) (aWo G) anx KK (σ, d) (jVa r) (hA G) r.2.2)
    {host : String} (hcd : Cond.code y bytes nLc none ∈ lw_all) (hini : Cond.initialized y.cls ∈ lw_all) (hlk : Cond.methodLinkNest own idx y host ∈ cNw) (him : Cond.instanceMethod y ∈ lw_all) (hyn : y.name = "<init>") (hy : y.cls ≠ "java/lang/invoke/MethodHandle" ∧ y.cls ≠ "java/lang/invoke/VarHandle" ∧ (parseMethodDescriptor y.desc).map (fun d => d.parameters.length) = some n) (hlen : As.length = n) (hst : st0 = (As.reverse ++ .ref b :: st)) (hd : decode cc pc = .ok (.invokespecial idx, 3)) (hr : frc + 1 ≤ fr ∧ 8 + (nLc + 11) + loc ≤ lo) (hw : (st.map fun v => v.category).sum ≤ 8)
    (kk : ∀ r, jj p l e R s m args below meth c (hA G) NX Q (cWo G r.2) (cnx r.2) nL r.1 (pc + 3) lv st (K r = some res)) : jj p l e R s m args below meth c (hA G) NX Q (cWo G d) (cnx d) nL σ pc lv st0 ((dMonV d F).bind K = some res) := by
  subst hst
  intro hz
  cases hFm : dMonV d F with
  | none => rw [hFm] at hz; cases hz
  | some r =>
    rw [hFm] at hz
    obtain ⟨hF, hmo⟩ := dMonV_some hFm
    refine ja_run (z1 := r) (v := none) (Ψ1 := jVa r) (a1 := (Value.ref b :: As).toArray) hk hmo (fun o z h => ⟨by have h1 := h.1; cases h1; rfl, h.2⟩) (fun H locs ls hW hn hS hlv hle => ?_) (kk r) hz
    exact va_runIN (As := As) (rest := st) hk.1 (hM r hF) ⟨va_cnB n hk.1.2.2.2.2 (lw_meth hcd) rfl rfl rfl ((hH.2.1 s hK).2.1 _ hlk) (hk.1.2.2.2.2 _ hini) hy (by rw [hk.2.1]; exact hr), hyn, hk.1.2.2.2.2 _ him⟩ ⟨ablind hH.1, fun U hU hWm => ⟨rfl, by rw [hU]; exact hW, by rw [hU]; exact hn, hH.1 _ _ hWm hK⟩⟩ rfl hlen hlv.1 rfl (lv_room hw) hd (by rw [hk.2.1]; have : r.2.2 ≤ NX := hle; have h9 : d.2 ≤ r.2.2 := hmo; have hs0 : s.heap.size ≤ d.2 := (by have h := hS.1; rw [hn] at h; exact h); constructor <;> (show _ ≤ _; dsimp only [anx]; omega))
theorem ja_retUi {res : Int32 × SS × DS} {x : Int32} (hk : jk p R s m args meth c res.2.2.2 cc nL own fr lo (some .int)) (hd : decode cc pc = .ok (.ireturn, 1)) : jj p l e R s m args below meth c (hA G) res.2.2.2 (jZ below args s (hA G) res.2.2.2 (jUa (fun x : Int32 => .int x) res) (aWo G) anx) (cWo G d) (cnx d) nL σ pc lv [.int x] (some (x, σ, d) = some res) := by
  intro hz
  cases hz
  exact ⟨Nat.le_refl _, fun H locs ls hW hn hS hl => W.zret hk.1.1 hk.1.2.1 hk.2.2.1 (vp_nar_int x) (fun t ht hWm => ⟨⟨(σ, d), ⟨rfl, rfl⟩, by rw [ht]; exact hW, by rw [ht]; exact hn⟩, hS.F ht⟩) hS.2.2 hd hk.2.2.2⟩
theorem ja_retUz {res : Bool × SS × DS} {x : Bool} (hk : jk p R s m args meth c res.2.2.2 cc nL own fr lo (some .boolean)) (hd : decode cc pc = .ok (.ireturn, 1)) : jj p l e R s m args below meth c (hA G) res.2.2.2 (jZ below args s (hA G) res.2.2.2 (jUa (fun x : Bool => .int (bI x)) res) (aWo G) anx) (cWo G d) (cnx d) nL σ pc lv [.int (bI x)] (some (x, σ, d) = some res) := by
  intro hz
  cases hz
  exact ⟨Nat.le_refl _, fun H locs ls hW hn hS hl => W.zret hk.1.1 hk.1.2.1 hk.2.2.1 (narrow_bI x) (fun t ht hWm => ⟨⟨(σ, d), ⟨rfl, rfl⟩, by rw [ht]; exact hW, by rw [ht]; exact hn⟩, hS.F ht⟩) hS.2.2 hd hk.2.2.2⟩
theorem ja_retUa {res : Nat × SS × DS} {x : Nat} {rty : FieldType} (hk : jk p R s m args meth c res.2.2.2 cc nL own fr lo (some rty)) (hrt : (∃ n, rty = .object n) ∨ ∃ t, rty = .array t) (hd : decode cc pc = .ok (.areturn, 1)) : jj p l e R s m args below meth c (hA G) res.2.2.2 (jZ below args s (hA G) res.2.2.2 (jUa (fun x : Nat => .ref x) res) (aWo G) anx) (cWo G d) (cnx d) nL σ pc lv [.ref x] (some (x, σ, d) = some res) := by
  intro hz
  cases hz
  exact ⟨Nat.le_refl _, fun H locs ls hW hn hS hl => W.aret hk.1.1 hk.1.2.1 hk.2.2.1 hrt (Or.inr ⟨x, rfl⟩) (fun t ht hWm => ⟨⟨(σ, d), ⟨rfl, rfl⟩, by rw [ht]; exact hW, by rw [ht]; exact hn⟩, hS.F ht⟩) hS.2.2 hd hk.2.2.2⟩
theorem ja_retV {res : SS × DS} (hk : jk p R s m args meth c res.2.2 cc nL own fr lo none) (hd : decode cc pc = .ok (.return_, 1)) : jj p l e R s m args below meth c (hA G) res.2.2 (jZ below args s (hA G) res.2.2 (jVa res) (aWo G) anx) (cWo G d) (cnx d) nL σ pc lv [] (some (σ, d) = some res) := by
  intro hz
  cases hz
  exact ⟨Nat.le_refl _, fun H locs ls hW hn hS hl => W.vret hk.1.1 hk.1.2.1 hk.2.2.1 (fun t ht hWm => ⟨⟨(σ, d), ⟨rfl, rfl⟩, by rw [ht]; exact hW, by rw [ht]; exact hn⟩, hS.F ht⟩) hS.2.2 hd hk.2.2.2⟩
/-- an element of hands (0), strangers (1) set to a person's thing -/
def stH (d : DS) (σ : SS) (j : Nat) (i : Int32) (q : Nat) : Option SS := (dci d q).bind fun ci => if (7 ≤ ci ∧ ci ≤ 11) ∧ ¬ (i < 0 ∨ [6, 45].getD j 0 ≤ i.toNatClampNeg) then some (sR σ j (va_up (σ.2.2.2 j) i.toNatClampNeg (some q))) else none
theorem ja_stH0 (hk : jk p R s m args meth c NX cc nL own fr lo ret) (hH : cH G KK) (hK : KK s) {i : Int32} {q : Nat} {K : SS → Option ρ} (hd : decode cc pc = .ok (.aastore, 1)) (kk : ∀ σ', jj p l e R s m args below meth c (hA G) NX Q (cWo G d) (cnx d) nL σ' (pc + 1) lv st (K σ' = some res)) : jj p l e R s m args below meth c (hA G) NX Q (cWo G d) (cnx d) nL σ pc lv (.ref q :: .int i :: .ref (ha G 62) :: st) ((stH d σ 0 i q).bind K = some res) := by
  intro hz
  unfold stH at hz
  cases hc : dci d q with
  | none => rw [hc] at hz; cases hz
  | some ci =>
  rw [hc] at hz
  simp only [Option.bind_some] at hz
  obtain ⟨fs, he⟩ := dci_spec hc
  obtain ⟨ix, hi⟩ := ccs_dl (G := G) (σ := σ) he
  by_cases h : (7 ≤ ci ∧ ci ≤ 11) ∧ ¬ (i < 0 ∨ [6, 45].getD 0 0 ≤ i.toNatClampNeg)
  · rw [if_pos h] at hz
    have hat : (ccs G d σ)[62]? = some (ha G 62, .inl (hT G 5, [6, 45].getD 0 0, .inr (.inr (.inr (.inr (σ.2.2.2 0)))))) := ccs_R G d σ (i := 0) (by decide)
    have hset := ccs_setR G d σ (sR σ 0 (va_up (σ.2.2.2 0) i.toNatClampNeg (some q))) (i := 0) (by decide) (ha G 62, .inl (hT G 5, [6, 45].getD 0 0, .inr (.inr (.inr (.inr (va_up (σ.2.2.2 0) i.toNatClampNeg (some q))))))) rfl rfl rfl
    have hst : ∀ (r : vw_C), jcl[ci]? = some r → va_Nw (.castable r.1 "LeftUndoes$Hand") s → jj p l e R s m args below meth c (hA G) NX Q (cWo G d) (cnx d) nL σ pc lv (.ref q :: .int i :: .ref (ha G 62) :: st) True ∨ True := fun _ _ _ => Or.inr trivial
    have key : ∀ (r : vw_C), jcl[ci]? = some r → Cond.castable r.1 "LeftUndoes$Hand" ∈ cNw → _ := fun r hr hw => cw_step (d := d) (σ := σ) hH (kk _) (fun H locs ls hP hD hS hl go => va_astqO hk.1.1 hk.1.2.1 (hH.2.1 s hK).1 hP hD hS 62 5 (69 + ix) ci hat rfl ((hH.2.1 s hK).2.1 _ hw) hi hr h.2 hd (fun H1 locs1 h1 h2 h3 => go H1 locs1 (by rw [hset]; exact h1) (by rw [hset]; exact h2) h3)) hz
    rcases (show ci = 7 ∨ ci = 8 ∨ ci = 9 ∨ ci = 10 ∨ ci = 11 by omega) with h | h | h | h | h <;> subst h
    · exact key (RX8, TX8, 2) rfl (List.mem_of_getElem? (i := 59) rfl)
    · exact key (RX9, TX9, 2) rfl (List.mem_of_getElem? (i := 60) rfl)
    · exact key (RX10, TX10, 2) rfl (List.mem_of_getElem? (i := 63) rfl)
    · exact key (RX11, TX11, 2) rfl (List.mem_of_getElem? (i := 62) rfl)
    · exact key (RX12, TX12, 2) rfl (List.mem_of_getElem? (i := 61) rfl)
  · rw [if_neg h] at hz; cases hz
theorem ja_stH1 (hk : jk p R s m args meth c NX cc nL own fr lo ret) (hH : cH G KK) (hK : KK s) {i : Int32} {q : Nat} {K : SS → Option ρ} (hd : decode cc pc = .ok (.aastore, 1)) (kk : ∀ σ', jj p l e R s m args below meth c (hA G) NX Q (cWo G d) (cnx d) nL σ' (pc + 1) lv st (K σ' = some res)) : jj p l e R s m args below meth c (hA G) NX Q (cWo G d) (cnx d) nL σ pc lv (.ref q :: .int i :: .ref (ha G 63) :: st) ((stH d σ 1 i q).bind K = some res) := by
  intro hz
  unfold stH at hz
  cases hc : dci d q with
  | none => rw [hc] at hz; cases hz
  | some ci =>
  rw [hc] at hz
  simp only [Option.bind_some] at hz
  obtain ⟨fs, he⟩ := dci_spec hc
  obtain ⟨ix, hi⟩ := ccs_dl (G := G) (σ := σ) he
  by_cases h : (7 ≤ ci ∧ ci ≤ 11) ∧ ¬ (i < 0 ∨ [6, 45].getD 1 0 ≤ i.toNatClampNeg)
  · rw [if_pos h] at hz
    have hat : (ccs G d σ)[63]? = some (ha G 63, .inl (hT G 5, [6, 45].getD 1 0, .inr (.inr (.inr (.inr (σ.2.2.2 1)))))) := ccs_R G d σ (i := 1) (by decide)
    have hset := ccs_setR G d σ (sR σ 1 (va_up (σ.2.2.2 1) i.toNatClampNeg (some q))) (i := 1) (by decide) (ha G 63, .inl (hT G 5, [6, 45].getD 1 0, .inr (.inr (.inr (.inr (va_up (σ.2.2.2 1) i.toNatClampNeg (some q))))))) rfl rfl rfl
    have hst : ∀ (r : vw_C), jcl[ci]? = some r → va_Nw (.castable r.1 "LeftUndoes$Hand") s → jj p l e R s m args below meth c (hA G) NX Q (cWo G d) (cnx d) nL σ pc lv (.ref q :: .int i :: .ref (ha G 63) :: st) True ∨ True := fun _ _ _ => Or.inr trivial
    have key : ∀ (r : vw_C), jcl[ci]? = some r → Cond.castable r.1 "LeftUndoes$Hand" ∈ cNw → _ := fun r hr hw => cw_step (d := d) (σ := σ) hH (kk _) (fun H locs ls hP hD hS hl go => va_astqO hk.1.1 hk.1.2.1 (hH.2.1 s hK).1 hP hD hS 63 5 (69 + ix) ci hat rfl ((hH.2.1 s hK).2.1 _ hw) hi hr h.2 hd (fun H1 locs1 h1 h2 h3 => go H1 locs1 (by rw [hset]; exact h1) (by rw [hset]; exact h2) h3)) hz
    rcases (show ci = 7 ∨ ci = 8 ∨ ci = 9 ∨ ci = 10 ∨ ci = 11 by omega) with h | h | h | h | h <;> subst h
    · exact key (RX8, TX8, 2) rfl (List.mem_of_getElem? (i := 59) rfl)
    · exact key (RX9, TX9, 2) rfl (List.mem_of_getElem? (i := 60) rfl)
    · exact key (RX10, TX10, 2) rfl (List.mem_of_getElem? (i := 63) rfl)
    · exact key (RX11, TX11, 2) rfl (List.mem_of_getElem? (i := 62) rfl)
    · exact key (RX12, TX12, 2) rfl (List.mem_of_getElem? (i := 61) rfl)
  · rw [if_neg h] at hz; cases hz
end CA
/-- a method's contract out of its body's walk, its name known (constructors) -/
theorem jj_startI {l : Launch} {y : MethodName} {cc : ByteArray} {nL : Nat} {ret : Option FieldType} {fr lo : Nat} {av : List Value} {S : Type} {Wo : S → Heap → Prop} {nx : S → Nat} {KK : State → Prop} {σ : S} {Ψ : Outcome → S → Prop} {A : Nat → Prop} {NX : Nat} {Z : Prop} (lv0 : List (Nat × Value)) (hpl : plainName y.cls = true) (hl0 : (lg_sl av).length ≤ nL) (hlv : lv_args 0 av = lv0)
    (body : ∀ (p : Program) (e : Env) (R : Room) (s : State) (m : MethodId) (args : Array Value) (below : List Frame) (meth : Method) (c : Code), jk p R s m args meth c NX cc nL y.cls fr lo ret → KK s → s.heap.size = nx σ → meth.name = y.name → jj p l e R s m args below meth c A NX (jZ below args s A NX Ψ Wo nx) Wo nx nL σ 0 lv0 [] Z) (hZ : Z) : jM l y (ws_ y cc nL ret) fr lo av Wo nx KK σ Ψ A NX := by
  refine Met.ofW (cc := cc) (maxL := nL) (ret := ret) hpl rfl ?_
  intro p e s m args below meth c s₁ B hml hv
  obtain ⟨rfl, hWo, hsz, hK⟩ := hv
  have hts := atoms_spec (ws := ws_ y cc nL ret) B.pre
  have hts : ∀ w ∈ lw_all, w.before _ s = true := fun w h => hts w (List.mem_cons_of_mem _ h)
  have hown : s.vm.findClass y.cls = some m.cls := findClass_of_methodNamed B.named
  have hl := lv_entry av (n := nL) hl0
  rw [lg_entry_eq]
  generalize (lg_sl av ++ List.replicate (nL - (lg_sl av).length) Slot.unset).toArray = ls at hl ⊢
  rw [hlv] at hl
  have hJ := (body p e ({ frames := fr, cells := NX - s.heap.size, slots := 41 * (NX - s.heap.size), locals := lo } : Room) s m av.toArray below meth c ⟨⟨B.exec, B.bytes, hml, hown, hts⟩, rfl, B.returns, B.notSynchronized⟩ hK hsz (name_of_methodNamed B.named B.method).1 hZ).2 s.heap [] ls hWo hsz va_S.rf hl
  unfold jZ at hJ
  rw [← hsz] at hJ ⊢
  rw [Nat.sub_self, Nat.mul_zero] at hJ
  exact hJ
