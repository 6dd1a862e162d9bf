/-! THROWS of the two exceptions that the component keeps: an outcome is a throw (which, the picture) or an answer -/
set_option maxRecDepth 100000
abbrev XR (τ : Type) : Type := (Nat × SS × DS) ⊕ τ
def xE (i : Nat) : String := if i = 1 then "LeftUndoes$Refusal" else "LeftUndoes$Fault"
def xnV (r : SS × DS) : Nat := r.2.2
def xnA {α : Type} (r : α × SS × DS) : Nat := r.2.2.2
def xnx {τ : Type} (nf : τ → Nat) (res : XR τ) : Nat := match res with
  | .inl x => x.2.2.2
  | .inr r => nf r
def xP {τ : Type} (Ψ : τ → Outcome → SS × DS → Prop) (res : XR τ) : Outcome → SS × DS → Prop := fun o z => ∃ r, res = .inr r ∧ Ψ r o z
def xC (G : cG) {τ : Type} (res : XR τ) : Nat → String → State → State → Prop := fun q E st t => ∃ x : Nat × SS × DS, res = .inl x ∧ (x.1 = 1 ∨ x.1 = 2) ∧ q = ha G x.1 ∧ E = xE x.1 ∧ cWo G x.2.2 x.2.1 t.heap ∧ t.heap.size = x.2.2.2 ∧ va_F (hA G) st t
def jMX (l : Launch) (y : MethodName) (ws : List Cond) (fr lo : Nat) (av : List Value) (G : cG) (KK : State → Prop) (z : SS × DS) {τ : Type} (nf : τ → Nat) (Ψ : τ → Outcome → SS × DS → Prop) (res : XR τ) : Prop :=
  vx_Met l y ws ({ frames := fr, cells := xnx nf res - anx z, slots := 41 * (xnx nf res - anx z), locals := lo } : Room) (va_Pc av (fun U => aWo G z U.heap ∧ U.heap.size = anx z ∧ KK U)) (jj_Q (xP Ψ res) (aWo G) anx (hA G)) (xC G res) (xnx nf res - anx z) (41 * (xnx nf res - anx z)) (hA G)
def jZX (below : List Frame) (args : Array Value) (s : State) (G : cG) {τ : Type} (nf : τ → Nat) (Ψ : τ → Outcome → SS × DS → Prop) (res : XR τ) : State → Prop := vx_MQ below (jj_Q (xP Ψ res) (aWo G) anx (hA G)) (xC G res) args s (xnx nf res - s.heap.size) (41 * (xnx nf res - s.heap.size)) (hA G)
def xk {τ τ1 : Type} (K : τ1 → Option (XR τ)) (r1 : XR τ1) : Option (XR τ) := match r1 with
  | .inl x => some (.inl x)
  | .inr r => K r
/-- behind a callee that may throw: its throw goes on -/
def xb {τ τ1 : Type} (nf1 : τ1 → Nat) (d : DS) (F : Option (XR τ1)) (K : τ1 → Option (XR τ)) : Option (XR τ) := F.bind fun r1 => if d.2 ≤ xnx nf1 r1 then xk K r1 else none
theorem jx_start {l : Launch} {y : MethodName} {cc : ByteArray} {nL : Nat} {ret : Option FieldType} {fr lo : Nat} {av : List Value} {G : cG} {KK : State → Prop} {σ : SS} {d : DS} {τ : Type} {nf : τ → Nat} {Ψ : τ → Outcome → SS × DS → Prop} {res : XR τ} {Z : Prop} (lv0 : List (Nat × Value)) (hpl : plainName y.cls = true) (hl0 : (lg_sl av).length ≤ nL) (hlv : lv_args 0 av = lv0)
    (body : ∀ (p : Program) (e : Env) (R : Room) (s : State) (m : MethodId) (args : Array Value) (below : List Frame) (meth : Method) (c : Code), jk p R s m args meth c (xnx nf res) cc nL y.cls fr lo ret → KK s → (∀ x ∈ c.exceptionTable.toList, False) → jj p l e R s m args below meth c (hA G) (xnx nf res) (jZX below args s G nf Ψ res) (cWo G d) (cnx d) nL σ 0 lv0 [] Z) (hZ : Z) : jMX l y (ws_ y cc nL ret) fr lo av G KK (σ, d) nf Ψ res := by
  refine vx_ofW (cc := cc) (maxL := nL) (ret := ret) hpl rfl ?_
  intro p e s m args below meth c s₁ B hml hxt hv
  obtain ⟨rfl, hWo, hsz, hK⟩ := hv
  have hts := atoms_spec (ws := ws_ y cc nL ret) B.pre
  have hts : ∀ w ∈ lw_all, w.before _ s = true := fun w h => hts w (List.mem_cons_of_mem _ h)
  have hown : s.vm.findClass y.cls = some m.cls := findClass_of_methodNamed B.named
  have hl := lv_entry av (n := nL) hl0
  rw [lg_entry_eq]
  generalize (lg_sl av ++ List.replicate (nL - (lg_sl av).length) Slot.unset).toArray = ls at hl ⊢
  rw [hlv] at hl
  have hsz' : s.heap.size = d.2 := hsz
  have hJ := (body p e ({ frames := fr, cells := xnx nf res - s.heap.size, slots := 41 * (xnx nf res - s.heap.size), locals := lo } : Room) s m av.toArray below meth c ⟨⟨B.exec, B.bytes, hml, hown, hts⟩, rfl, B.returns, B.notSynchronized⟩ hK hxt hZ).2 s.heap [] ls hWo hsz va_S.rf hl
  unfold jZX at hJ
  have e1 : cnx d σ = s.heap.size := hsz'.symm
  rw [e1, Nat.sub_self, Nat.mul_zero] at hJ
  show W p l e ({ frames := fr, cells := xnx nf res - d.2, slots := 41 * (xnx nf res - d.2), locals := lo } : Room) s m av.toArray below meth c s.heap [] 0 0 (vx_MQ below (jj_Q (xP Ψ res) (aWo G) anx (hA G)) (xC G res) av.toArray s (xnx nf res - d.2) (41 * (xnx nf res - d.2)) (hA G)) _
  rw [← hsz']
  exact hJ
theorem va_cX {G : cG} {d : DS} {σ : SS} {s : State} {KK : State → Prop} {H : Heap} (hH : cH G KK) (hK : KK s) (hW : cWo G d σ H) {i : Nat} (hi : i = 1 ∨ i = 2) : ∃ ce : Cell, H[ha G i]? = some ce ∧ ce.vm = .none ∧ s.vm.findClass (xE i) = some ce.cls := by
  rcases hi with rfl | rfl
  · obtain ⟨q', h1, cell, g1, g2, g3, -⟩ := hW.1 1 _ (ccs_O G d σ (by decide))
    exact ⟨cell, g1, g3, by rw [g2]; exact ((hH.2.1 s hK).1.1 5 (RX1, TX1, 7) rfl).2.1⟩
  · obtain ⟨q', h1, cell, g1, g2, g3, -⟩ := hW.1 2 _ (ccs_O G d σ (by decide))
    exact ⟨cell, g1, g3, by rw [g2]; exact ((hH.2.1 s hK).1.1 6 (RX2, TX2, 7) rfl).2.1⟩
section
variable {p : Program} {l : Launch} {e : Env} {R : Room} {s : State} {m : MethodId} {args : Array Value} {below : List Frame} {meth : Method} {c : Code}
variable {nL : Nat} {cc : ByteArray} {fr lo : Nat} {ret : Option FieldType} {own : String}
variable {pc : Nat} {σ : SS} {lv : List (Nat × Value)} {st : List Value} {G : cG} {d : DS} {KK : State → Prop} {τ τ1 : Type} {nf : τ → Nat} {nf1 : τ1 → Nat} {Ψ : τ → Outcome → SS × DS → Prop} {Ψ1 : τ1 → Outcome → SS × DS → Prop} {res : XR τ}
theorem jx_retUi {res : XR (Int32 × SS × DS)} {x : Int32} (hk : jk p R s m args meth c (xnx xnA res) cc nL own fr lo (some .int)) (hd : decode cc pc = .ok (.ireturn, 1)) : jj p l e R s m args below meth c (hA G) (xnx xnA res) (jZX below args s G xnA (jUa (fun x : Int32 => .int x)) res) (cWo G d) (cnx d) nL σ pc lv [.int x] (some (Sum.inr (x, σ, d)) = some res) := by
  intro hz
  cases hz
  exact ⟨Nat.le_refl _, fun H locs ls hW hn hS hl => vx_ret (W.zret hk.1.1 hk.1.2.1 hk.2.2.1 (vp_nar_int x) (fun t ht hWm => ⟨⟨(σ, d), ⟨_, rfl, rfl, rfl⟩, by rw [ht]; exact hW, by rw [ht]; exact hn⟩, hS.F ht⟩) hS.2.2 hd hk.2.2.2)⟩
theorem jx_retUz {res : XR (Bool × SS × DS)} {x : Bool} (hk : jk p R s m args meth c (xnx xnA res) cc nL own fr lo (some .boolean)) (hd : decode cc pc = .ok (.ireturn, 1)) : jj p l e R s m args below meth c (hA G) (xnx xnA res) (jZX below args s G xnA (jUa (fun x : Bool => .int (bI x))) res) (cWo G d) (cnx d) nL σ pc lv [.int (bI x)] (some (Sum.inr (x, σ, d)) = some res) := by
  intro hz
  cases hz
  exact ⟨Nat.le_refl _, fun H locs ls hW hn hS hl => vx_ret (W.zret hk.1.1 hk.1.2.1 hk.2.2.1 (narrow_bI x) (fun t ht hWm => ⟨⟨(σ, d), ⟨_, rfl, rfl, rfl⟩, by rw [ht]; exact hW, by rw [ht]; exact hn⟩, hS.F ht⟩) hS.2.2 hd hk.2.2.2)⟩
theorem jx_retUa {res : XR (Nat × SS × DS)} {x : Nat} {rty : FieldType} (hk : jk p R s m args meth c (xnx xnA res) cc nL own fr lo (some rty)) (hrt : (∃ n, rty = .object n) ∨ ∃ t, rty = .array t) (hd : decode cc pc = .ok (.areturn, 1)) : jj p l e R s m args below meth c (hA G) (xnx xnA res) (jZX below args s G xnA (jUa (fun x : Nat => .ref x)) res) (cWo G d) (cnx d) nL σ pc lv [.ref x] (some (Sum.inr (x, σ, d)) = some res) := by
  intro hz
  cases hz
  exact ⟨Nat.le_refl _, fun H locs ls hW hn hS hl => vx_ret (W.aret hk.1.1 hk.1.2.1 hk.2.2.1 hrt (Or.inr ⟨x, rfl⟩) (fun t ht hWm => ⟨⟨(σ, d), ⟨_, rfl, rfl, rfl⟩, by rw [ht]; exact hW, by rw [ht]; exact hn⟩, hS.F ht⟩) hS.2.2 hd hk.2.2.2)⟩
theorem jx_retV {res : XR (SS × DS)} (hk : jk p R s m args meth c (xnx xnV res) cc nL own fr lo none) (hd : decode cc pc = .ok (.return_, 1)) : jj p l e R s m args below meth c (hA G) (xnx xnV res) (jZX below args s G xnV jVa res) (cWo G d) (cnx d) nL σ pc lv [] (some (Sum.inr (σ, d)) = some res) := by
  intro hz
  cases hz
  exact ⟨Nat.le_refl _, fun H locs ls hW hn hS hl => vx_ret (W.vret hk.1.1 hk.1.2.1 hk.2.2.1 (fun t ht hWm => ⟨⟨(σ, d), ⟨_, rfl, rfl, rfl⟩, by rw [ht]; exact hW, by rw [ht]; exact hn⟩, hS.F ht⟩) hS.2.2 hd hk.2.2.2)⟩
/-- the throw of a kept exception, no handler here -/
theorem jx_athrow (hk : jk p R s m args meth c (xnx nf res) cc nL own fr lo ret) (hH : cH G KK) (hK : KK s) (ht : ∀ x ∈ c.exceptionTable.toList, False) {i : Nat} (hi : i = 1 ∨ i = 2) (hd : decode cc pc = .ok (.athrow, 1)) : jj p l e R s m args below meth c (hA G) (xnx nf res) (jZX below args s G nf Ψ res) (cWo G d) (cnx d) nL σ pc lv (.ref (ha G i) :: st) (some (Sum.inl (i, σ, d)) = some res) := by
  intro hz
  cases hz
  refine ⟨Nat.le_refl _, fun H locs ls hW hn hS hl => ?_⟩
  obtain ⟨ce, h1, h2, h3⟩ := va_cX hH hK hW hi
  exact vx_athrow hk.1.1 hk.1.2.1 hd (vx_out (E := xE i) (fun x hx => absurd (ht x hx) id) hk.2.2.2 h1 h2 h3 (fun t ht2 hal => ⟨(i, σ, d), rfl, hi, rfl, rfl, by rw [ht2]; exact hW, by rw [ht2]; exact hn, hS.F ht2⟩) hS.2.2 (Nat.le_refl _) (Nat.le_refl _))
theorem jx_run {st0 : List Value} {r1 : XR τ1} {v : τ1 → Option Value} {sg : τ1 → SS} {dd : τ1 → DS} {a1 : Array Value} {K : τ1 → Option (XR τ)} (hk : jk p R s m args meth c (xnx nf res) cc nL own fr lo ret) (hH : cH G KK) (ht : ∀ x ∈ c.exceptionTable.toList, False) (hmono : d.2 ≤ xnx nf1 r1) (hv : ∀ (r : τ1) (o : Option Value) (z : SS × DS), Ψ1 r (.returned o) z → o = v r ∧ z = (sg r, dd r)) (hnf : ∀ r, nf1 r = (dd r).2)
    (hrun : ∀ (H : Heap) (locs : List Loc) (ls : Array Slot), cWo G d σ H → H.size = d.2 → va_S (hA G) s.heap H locs → lv_has ls nL lv → xnx nf1 r1 ≤ xnx nf res → vx_Run p l e R s m args below meth c H locs (d.2 - s.heap.size) (41 * (d.2 - s.heap.size)) (xnx nf1 r1 - d.2) (41 * (xnx nf1 r1 - d.2)) (F0 m pc ls st0) st (jj_Q (xP Ψ1 r1) (aWo G) anx (hA G) a1) (xC G r1) (hA G))
    (kk : ∀ r, jj p l e R s m args below meth c (hA G) (xnx nf res) (jZX below args s G nf Ψ res) (cWo G (dd r)) (cnx (dd r)) nL (sg r) (pc + 3) lv ((v r).toList ++ st) (K r = some res)) : jj p l e R s m args below meth c (hA G) (xnx nf res) (jZX below args s G nf Ψ res) (cWo G d) (cnx d) nL σ pc lv st0 (xk K r1 = some res) := by
  intro hz
  cases r1 with
  | inl x =>
    cases hz
    refine ⟨hmono, fun H locs ls hW hn hS hl => ?_⟩
    intro T hT X
    have hs0 : s.heap.size ≤ d.2 := by have h := hS.1; rw [hn] at h; exact h
    have hm2 : d.2 ≤ x.2.2.2 := hmono
    rcases hrun H locs ls hW hn hS hl (Nat.le_refl _) T hT X with ⟨v', st₀, t, T', L, h0, X', hL, e1, e2, ⟨⟨z, ⟨r, hr, -⟩, -⟩, -⟩, -⟩ | ⟨q, st₀, t, T', L, E, ce, h0, X', hL, e1, e2, ⟨x', hx', hi, hq, hE, hw1, hn1, hF⟩, hce, hcv, hcl, st'⟩
    · cases hr
    · cases hx'
      obtain ⟨k1, k2, k3⟩ := vx_keep h0 e1 hS (fun _ _ h => h) (fun _ h => h) hL hF
      obtain ⟨t2, a2, b2⟩ := vx_out (p := p) (l := l) (e := e) (R := R) (below := below) (c := c) (rest := st) (ls := ls) (pc := pc) (m := m) (args := args) (Qc := jj_Q (xP Ψ (Sum.inl x)) (aWo G) anx (hA G)) (XC := xC G (Sum.inl x : XR τ)) (H := T'.heap) (locs := locs ++ L) (cells := d.2 - s.heap.size + (xnx nf1 (Sum.inl x) - d.2)) (slots := 41 * (d.2 - s.heap.size) + 41 * (xnx nf1 (Sum.inl x) - d.2)) (mc := xnx nf (Sum.inl x : XR τ) - s.heap.size) (ms := 41 * (xnx nf (Sum.inl x : XR τ) - s.heap.size)) (free := hA G) (fun x hx => absurd (ht x hx) id) hk.2.2.2 (by rw [e1]; exact hce) hcv hcl (fun t2 ht2 hal => ⟨x, rfl, hi, hq, hE, by rw [ht2, e1]; exact hw1, by rw [ht2, e1]; exact hn1, k3.F ht2⟩) k3.2.2 (by show d.2 - s.heap.size + (x.2.2.2 - d.2) ≤ x.2.2.2 - s.heap.size; omega) (by show 41 * (d.2 - s.heap.size) + 41 * (x.2.2.2 - d.2) ≤ 41 * (x.2.2.2 - s.heap.size); omega) T' rfl X'
      exact ⟨t2, st'.trans a2, b2⟩
  | inr r =>
    obtain ⟨hle, hw⟩ := kk r hz
    have hle' : (dd r).2 ≤ xnx nf res := hle
    have hm2 : d.2 ≤ (dd r).2 := by rw [← hnf r]; exact hmono
    refine ⟨Nat.le_trans hm2 hle', fun H locs ls hW hn hS hl => ?_⟩
    intro T hT X
    have hs0 : s.heap.size ≤ d.2 := by have h := hS.1; rw [hn] at h; exact h
    rcases hrun H locs ls hW hn hS hl (by show nf1 r ≤ _; rw [hnf]; exact hle') T hT X with ⟨v', st₀, t, T', L, h0, X', hL, e1, e2, ⟨⟨z, ⟨r', hr, hp⟩, hw1, hn1⟩, hzz, hkk⟩, st'⟩ | ⟨q, st₀, t, T', L, E, ce, h0, X', hL, e1, e2, ⟨x', hx', -⟩, -⟩
    · cases hr
      obtain ⟨rfl, rfl⟩ := hv r v' z hp
      rw [h0] at hzz hkk
      have hx9 : xnx nf1 (Sum.inr r : XR τ1) = (dd r).2 := hnf r
      rw [hx9] at X'
      have ec : d.2 - s.heap.size + ((dd r).2 - d.2) = (dd r).2 - s.heap.size := by omega
      have es : 41 * (d.2 - s.heap.size) + 41 * ((dd r).2 - d.2) = 41 * ((dd r).2 - s.heap.size) := by omega
      rw [ec, es] at X'
      obtain ⟨t2, a2, b2⟩ := hw T'.heap (locs ++ L) ls (by rw [e1]; exact hw1) (by rw [e1]; exact hn1) ⟨Nat.le_trans hS.1 (by rw [e1]; exact hzz), fun q h1 h2 => by rw [e1, hkk q (Nat.lt_of_lt_of_le h1 hS.1) h2]; exact hS.2.1 q h1 h2, fun q hq => by
          rcases List.mem_append.mp hq with h | h
          · exact hS.2.2 q h
          · exact hL q h⟩ hl T' rfl X'
      exact ⟨t2, st' t2 a2, b2⟩
    · cases hx'
theorem jx_VUi (hk : jk p R s m args meth c (xnx nf res) cc nL own fr lo ret) (hH : cH G KK) (hK : KK s) (ht : ∀ x ∈ c.exceptionTable.toList, False) {y : MethodName} {bytes : ByteArray} {C : String} {b nLc frc loc idx n : Nat}  {F : Option (XR (Int32 × SS × DS))} {K : (Int32 × SS × DS) → Option (XR τ)} (As : List Value) {st0 : List Value} (hM : ∀ r, F = some r → jMX l y (ws_ y bytes nLc (some .int)) frc loc (.ref b :: As) G KK (σ, d) xnA (jUa (fun x : Int32 => .int x)) r)
    (hl : GoodIn lw_all (wsV own idx C y (ws_ y bytes nLc (some .int)))) (hrv : cRv G d σ s b C) (hy : y.cls = C ∧ y.cls ≠ "java/lang/invoke/MethodHandle" ∧ y.cls ≠ "java/lang/invoke/VarHandle" ∧ (parseMethodDescriptor y.desc).map (fun d => d.parameters.length) = some n) (hlen : As.length = n) (hst : st0 = (As.reverse ++ .ref b :: st)) (hd : decode cc pc = .ok (.invokevirtual idx, 3)) (hr : frc + 1 ≤ fr ∧ 8 + (nLc + 11) + loc ≤ lo) (hw : (st.map fun v => v.category).sum ≤ 8)
    (kk : ∀ r : (Int32 × SS × DS), jj p l e R s m args below meth c (hA G) (xnx nf res) (jZX below args s G nf Ψ res) (cWo G r.2.2) (cnx r.2.2) nL r.2.1 (pc + 3) lv (.int r.1 :: st) (K r = some res)) : jj p l e R s m args below meth c (hA G) (xnx nf res) (jZX below args s G nf Ψ res) (cWo G d) (cnx d) nL σ pc lv st0 (xb xnA d F K = some res) := by
  subst hst
  intro hz
  unfold xb at hz
  cases hF : F with
  | none => rw [hF] at hz; cases hz
  | some r1 =>
    rw [hF] at hz
    simp only [Option.bind_some] at hz
    split at hz
    · rename_i hmo
      refine jx_run (Ψ1 := (jUa (fun x : Int32 => .int x))) (v := fun r => some (.int r.1)) (sg := fun r => r.2.1) (dd := fun r => r.2.2) (a1 := (Value.ref b :: As).toArray) hk hH ht hmo (fun r o z h => ⟨by have h1 := h.1; cases h1; rfl, h.2⟩) (fun r => rfl) (fun H locs ls hW hn hS hlv hle => ?_) kk hz
      exact vx_runV (As := As) (rest := st) hk.1 (hM r1 hF) (cwV n hk.1.2.2.2.2 hl rfl rfl rfl hy (by rw [hk.2.1]; exact hr)) ⟨ablind hH.1, hrv H hW, fun U hU hWm => ⟨rfl, by rw [hU]; exact hW, by rw [hU]; exact hn, hH.1 _ _ hWm hK⟩⟩ rfl hlen hlv.1 rfl (lv_room hw) hd (by rw [hk.2.1]; have h9 : d.2 ≤ xnx xnA r1 := hmo; have h8 : xnx xnA r1 ≤ xnx nf res := hle; have hs0 : s.heap.size ≤ d.2 := (by have h := hS.1; rw [hn] at h; exact h); constructor <;> (show _ ≤ _; dsimp only [anx]; omega))
    · cases hz
theorem jx_VUa (hk : jk p R s m args meth c (xnx nf res) cc nL own fr lo ret) (hH : cH G KK) (hK : KK s) (ht : ∀ x ∈ c.exceptionTable.toList, False) {y : MethodName} {bytes : ByteArray} {C : String} {b nLc frc loc idx n : Nat} {rty : FieldType} {F : Option (XR (Nat × SS × DS))} {K : (Nat × SS × DS) → Option (XR τ)} (As : List Value) {st0 : List Value} (hM : ∀ r, F = some r → jMX l y (ws_ y bytes nLc (some rty)) frc loc (.ref b :: As) G KK (σ, d) xnA (jUa (fun x : Nat => .ref x)) r)
    (hl : GoodIn lw_all (wsV own idx C y (ws_ y bytes nLc (some rty)))) (hrv : cRv G d σ s b C) (hy : y.cls = C ∧ y.cls ≠ "java/lang/invoke/MethodHandle" ∧ y.cls ≠ "java/lang/invoke/VarHandle" ∧ (parseMethodDescriptor y.desc).map (fun d => d.parameters.length) = some n) (hlen : As.length = n) (hst : st0 = (As.reverse ++ .ref b :: st)) (hd : decode cc pc = .ok (.invokevirtual idx, 3)) (hr : frc + 1 ≤ fr ∧ 8 + (nLc + 11) + loc ≤ lo) (hw : (st.map fun v => v.category).sum ≤ 8)
    (kk : ∀ r : (Nat × SS × DS), jj p l e R s m args below meth c (hA G) (xnx nf res) (jZX below args s G nf Ψ res) (cWo G r.2.2) (cnx r.2.2) nL r.2.1 (pc + 3) lv (.ref r.1 :: st) (K r = some res)) : jj p l e R s m args below meth c (hA G) (xnx nf res) (jZX below args s G nf Ψ res) (cWo G d) (cnx d) nL σ pc lv st0 (xb xnA d F K = some res) := by
  subst hst
  intro hz
  unfold xb at hz
  cases hF : F with
  | none => rw [hF] at hz; cases hz
  | some r1 =>
    rw [hF] at hz
    simp only [Option.bind_some] at hz
    split at hz
    · rename_i hmo
      refine jx_run (Ψ1 := (jUa (fun x : Nat => .ref x))) (v := fun r => some (.ref r.1)) (sg := fun r => r.2.1) (dd := fun r => r.2.2) (a1 := (Value.ref b :: As).toArray) hk hH ht hmo (fun r o z h => ⟨by have h1 := h.1; cases h1; rfl, h.2⟩) (fun r => rfl) (fun H locs ls hW hn hS hlv hle => ?_) kk hz
      exact vx_runV (As := As) (rest := st) hk.1 (hM r1 hF) (cwV n hk.1.2.2.2.2 hl rfl rfl rfl hy (by rw [hk.2.1]; exact hr)) ⟨ablind hH.1, hrv H hW, fun U hU hWm => ⟨rfl, by rw [hU]; exact hW, by rw [hU]; exact hn, hH.1 _ _ hWm hK⟩⟩ rfl hlen hlv.1 rfl (lv_room hw) hd (by rw [hk.2.1]; have h9 : d.2 ≤ xnx xnA r1 := hmo; have h8 : xnx xnA r1 ≤ xnx nf res := hle; have hs0 : s.heap.size ≤ d.2 := (by have h := hS.1; rw [hn] at h; exact h); constructor <;> (show _ ≤ _; dsimp only [anx]; omega))
    · cases hz
theorem jx_VV (hk : jk p R s m args meth c (xnx nf res) cc nL own fr lo ret) (hH : cH G KK) (hK : KK s) (ht : ∀ x ∈ c.exceptionTable.toList, False) {y : MethodName} {bytes : ByteArray} {C : String} {b nLc frc loc idx n : Nat}  {F : Option (XR (SS × DS))} {K : (SS × DS) → Option (XR τ)} (As : List Value) {st0 : List Value} (hM : ∀ r, F = some r → jMX l y (ws_ y bytes nLc none) frc loc (.ref b :: As) G KK (σ, d) xnV jVa r)
    (hl : GoodIn lw_all (wsV own idx C y (ws_ y bytes nLc none))) (hrv : cRv G d σ s b C) (hy : y.cls = C ∧ y.cls ≠ "java/lang/invoke/MethodHandle" ∧ y.cls ≠ "java/lang/invoke/VarHandle" ∧ (parseMethodDescriptor y.desc).map (fun d => d.parameters.length) = some n) (hlen : As.length = n) (hst : st0 = (As.reverse ++ .ref b :: st)) (hd : decode cc pc = .ok (.invokevirtual idx, 3)) (hr : frc + 1 ≤ fr ∧ 8 + (nLc + 11) + loc ≤ lo) (hw : (st.map fun v => v.category).sum ≤ 8)
    (kk : ∀ r : (SS × DS), jj p l e R s m args below meth c (hA G) (xnx nf res) (jZX below args s G nf Ψ res) (cWo G r.2) (cnx r.2) nL r.1 (pc + 3) lv st (K r = some res)) : jj p l e R s m args below meth c (hA G) (xnx nf res) (jZX below args s G nf Ψ res) (cWo G d) (cnx d) nL σ pc lv st0 (xb xnV d F K = some res) := by
  subst hst
  intro hz
  unfold xb at hz
  cases hF : F with
  | none => rw [hF] at hz; cases hz
  | some r1 =>
    rw [hF] at hz
    simp only [Option.bind_some] at hz
    split at hz
    · rename_i hmo
      refine jx_run (Ψ1 := jVa) (v := fun r => none) (sg := fun r => r.1) (dd := fun r => r.2) (a1 := (Value.ref b :: As).toArray) hk hH ht hmo (fun r o z h => ⟨by have h1 := h.1; cases h1; rfl, h.2⟩) (fun r => rfl) (fun H locs ls hW hn hS hlv hle => ?_) kk hz
      exact vx_runV (As := As) (rest := st) hk.1 (hM r1 hF) (cwV n hk.1.2.2.2.2 hl rfl rfl rfl hy (by rw [hk.2.1]; exact hr)) ⟨ablind hH.1, hrv H hW, fun U hU hWm => ⟨rfl, by rw [hU]; exact hW, by rw [hU]; exact hn, hH.1 _ _ hWm hK⟩⟩ rfl hlen hlv.1 rfl (lv_room hw) hd (by rw [hk.2.1]; have h9 : d.2 ≤ xnx xnV r1 := hmo; have h8 : xnx xnV r1 ≤ xnx nf res := hle; have hs0 : s.heap.size ≤ d.2 := (by have h := hS.1; rw [hn] at h; exact h); constructor <;> (show _ ≤ _; dsimp only [anx]; omega))
    · cases hz
end
def jUo (q : Nat) (σ' : SS) : Outcome → SS → Prop := fun o z => o = .returned (some (.ref q)) ∧ z = σ'
section
variable {p : Program} {l : Launch} {e : Env} {R : Room} {s : State} {m : MethodId} {args : Array Value} {below : List Frame} {meth : Method} {c : Code}
variable {NX : Nat} {Q : State → Prop} {nL : Nat} {cc : ByteArray} {fr lo : Nat} {ret : Option FieldType} {own : String}
variable {pc : Nat} {σ : SS} {lv : List (Nat × Value)} {st : List Value} {G : cG} {d : DS} {KK : State → Prop} {ρ : Type} {res : ρ}
theorem jx_reto {σ' : SS} {q : Nat} {rty : FieldType} (hk : jk p R s m args meth c d.2 cc nL own fr lo (some rty)) (hrt : (∃ n, rty = .object n) ∨ ∃ t, rty = .array t) (hd : decode cc pc = .ok (.areturn, 1)) : jj p l e R s m args below meth c (hA G) d.2 (jZ below args s (hA G) d.2 (jUo q σ') (cWo G d) (cnx d)) (cWo G d) (cnx d) nL σ pc lv [.ref q] (some σ = some σ') := by
  intro hz
  cases hz
  exact ⟨Nat.le_refl _, fun H locs ls hW hn hS hl => W.aret hk.1.1 hk.1.2.1 hk.2.2.1 hrt (Or.inr ⟨q, rfl⟩) (fun t ht hWm => ⟨⟨σ, ⟨rfl, rfl⟩, by rw [ht]; exact hW, by rw [ht]; exact hn⟩, hS.F ht⟩) hS.2.2 hd hk.2.2.2⟩
end
theorem cc_of1 (l : Launch) {G : cG} {KK : State → Prop} (hH : cH G KK) (d : DS) (σ : SS) (a : Int32) : jM l yX1_of (ws_ yX1_of cX1_of 2 (some (.object "LeftUndoes$Refusal"))) 1 40 [.ref (ha G 1), .int a] (cWo G d) (cnx d) KK σ (jUo (ha G 1) (sI σ 71 a)) (hA G) d.2 := by
  refine jj_start [(0, .ref (ha G 1)), (1, .int a)] (by decide) (Nat.le_of_ble_eq_true rfl) rfl (fun p e R s m args below meth c hk hK hsz => ?_) (rfl : ((some (sI σ 71 a)).bind fun s1 => some s1) = some (sI σ 71 a))
  have hk : jk p R s m args meth c d.2 cX1_of 2 RX1 1 40 (some (.object "LeftUndoes$Refusal")) := hk
  refine jj_aload_n hk dX1_of_0 0 rfl rfl ?_
  refine jj_iload_n hk dX1_of_1 1 rfl rfl ?_
  refine cg_put (σ' := sI σ 71 a) (q0 := 1) (ci := 5) (k := 6) (C := RX1) (T := TX1) (N := 7) hk hH hK in_X1 tyX1 tyX1_ok nmX1 (ccs_O G d σ (by decide)) rfl (by decide) q230 rfl rfl rfl (vp_nar_int a) rfl (Nat.le_of_ble_eq_true rfl) dX1_of_2 (ccs_setO G d σ _ (by decide) _ rfl rfl rfl) ?_
  refine jj_aload_n hk dX1_of_5 0 rfl rfl ?_
  exact jx_reto hk (Or.inl ⟨_, rfl⟩) dX1_of_6
theorem cc_of2 (l : Launch) {G : cG} {KK : State → Prop} (hH : cH G KK) (d : DS) (σ : SS) (a : Int32) : jM l yX1_of (ws_ yX1_of cX1_of 2 (some (.object "LeftUndoes$Refusal"))) 1 40 [.ref (ha G 2), .int a] (cWo G d) (cnx d) KK σ (jUo (ha G 2) (sI σ 72 a)) (hA G) d.2 := by
  refine jj_start [(0, .ref (ha G 2)), (1, .int a)] (by decide) (Nat.le_of_ble_eq_true rfl) rfl (fun p e R s m args below meth c hk hK hsz => ?_) (rfl : ((some (sI σ 72 a)).bind fun s1 => some s1) = some (sI σ 72 a))
  have hk : jk p R s m args meth c d.2 cX1_of 2 RX1 1 40 (some (.object "LeftUndoes$Refusal")) := hk
  refine jj_aload_n hk dX1_of_0 0 rfl rfl ?_
  refine jj_iload_n hk dX1_of_1 1 rfl rfl ?_
  refine cg_put (σ' := sI σ 72 a) (q0 := 2) (ci := 6) (k := 6) (C := RX2) (T := TX2) (N := 7) hk hH hK in_X2 tyX2 tyX2_ok nmX2 (ccs_O G d σ (by decide)) rfl (by decide) q230 rfl rfl rfl (vp_nar_int a) rfl (Nat.le_of_ble_eq_true rfl) dX1_of_2 (ccs_setO G d σ _ (by decide) _ rfl rfl rfl) ?_
  refine jj_aload_n hk dX1_of_5 0 rfl rfl ?_
  exact jx_reto hk (Or.inl ⟨_, rfl⟩) dX1_of_6
section
variable {p : Program} {l : Launch} {e : Env} {R : Room} {s : State} {m : MethodId} {args : Array Value} {below : List Frame} {meth : Method} {c : Code}
variable {NX : Nat} {Q : State → Prop} {nL : Nat} {cc : ByteArray} {fr lo : Nat} {ret : Option FieldType} {own : String}
variable {pc : Nat} {σ : SS} {lv : List (Nat × Value)} {st : List Value} {G : cG} {d : DS} {KK : State → Prop} {ρ : Type} {res : ρ}
theorem kc_of1 (hk : jk p R s m args meth c NX cc nL RX0 fr lo ret) (hH : cH G KK) (hK : KK s) {a : Int32} {K : SS → Option ρ} (hd : decode cc pc = .ok (.invokevirtual 7, 3)) (hr : 1 + 1 ≤ fr ∧ 8 + (2 + 11) + 40 ≤ lo) (hw : (st.map fun v => v.category).sum ≤ 8) (kk : ∀ σ', jj p l e R s m args below meth c (hA G) NX Q (cWo G d) (cnx d) nL σ' (pc + 3) lv (.ref (ha G 1) :: st) (K σ' = some res)) : jj p l e R s m args below meth c (hA G) NX Q (cWo G d) (cnx d) nL σ pc lv (.int a :: .ref (ha G 1) :: st) ((some (sI σ 71 a)).bind K = some res) := by
  refine jj_run (σ1 := sI σ 71 a) (v := some (.ref (ha G 1))) (Ψ1 := jUo (ha G 1) (sI σ 71 a)) (idx := 7) (a1 := (Value.ref (ha G 1) :: [Value.int a]).toArray) hk (Nat.le_refl _) (fun o σ' h => ⟨by have h1 := h.1; cases h1; rfl, h.2⟩) (fun H locs ls hW hn hS hlv hle => ?_) (kk _)
  exact va_runV (As := [.int a]) (rest := st) hk.1 (cc_of1 l hH d σ a) (cwV 1 hk.1.2.2.2.2 (lw_V q1239 q742 q2234 q122 q743) rfl rfl rfl (by decide +kernel) (by rw [hk.2.1]; exact hr)) ⟨cblind hH.1, (cRv_at (q := (RX1, TX1, 7)) (ci := 5) (q0 := 1) hH hK rfl (ccs_O G d σ (by decide))) H hW, fun U hU hWm => ⟨rfl, by rw [hU]; exact hW, by rw [hU]; exact hn, hH.1 _ _ hWm hK⟩⟩ rfl rfl hlv.1 rfl (lv_room hw) hd (by rw [hk.2.1]; have : d.2 ≤ NX := hle; constructor <;> (show _ ≤ _; dsimp only [cnx]; omega))
theorem kc_of2 (hk : jk p R s m args meth c NX cc nL RX0 fr lo ret) (hH : cH G KK) (hK : KK s) {a : Int32} {K : SS → Option ρ} (hd : decode cc pc = .ok (.invokevirtual 243, 3)) (hr : 1 + 1 ≤ fr ∧ 8 + (2 + 11) + 40 ≤ lo) (hw : (st.map fun v => v.category).sum ≤ 8) (kk : ∀ σ', jj p l e R s m args below meth c (hA G) NX Q (cWo G d) (cnx d) nL σ' (pc + 3) lv (.ref (ha G 2) :: st) (K σ' = some res)) : jj p l e R s m args below meth c (hA G) NX Q (cWo G d) (cnx d) nL σ pc lv (.int a :: .ref (ha G 2) :: st) ((some (sI σ 72 a)).bind K = some res) := by
  have hl : GoodIn lw_all (va_wsU RX0 243 RX2 "LeftUndoes$Refusal" ⟨"LeftUndoes$Fault", "of", "(I)LLeftUndoes$Refusal;"⟩ yX1_of (ws_ yX1_of cX1_of 2 (some (.object "LeftUndoes$Refusal")))) := by
    refine lw_app ?_ (lw_meth q743)
    intro w hw
    simp only [List.mem_cons, List.not_mem_nil, or_false] at hw
    rcases hw with e | e | e | e | e
    · rw [e]; exact q738
    · rw [e]; exact q739
    · rw [e]; exact q741
    · rw [e]; exact q742
    · rw [e]; exact q122
  refine jj_run (σ1 := sI σ 72 a) (v := some (.ref (ha G 2))) (Ψ1 := jUo (ha G 2) (sI σ 72 a)) (idx := 243) (a1 := (Value.ref (ha G 2) :: [Value.int a]).toArray) hk (Nat.le_refl _) (fun o σ' h => ⟨by have h1 := h.1; cases h1; rfl, h.2⟩) (fun H locs ls hW hn hS hlv hle => ?_) (kk _)
  exact va_runU (As := [.int a]) (rest := st) hk.1 (cc_of2 l hH d σ a) (va_cwU 1 hk.1.2.2.2.2 hl rfl rfl rfl rfl (by decide +kernel) (by rw [hk.2.1]; exact hr)) ⟨cblind hH.1, (cRv_at (q := (RX2, TX2, 7)) (ci := 6) (q0 := 2) hH hK rfl (ccs_O G d σ (by decide))) H hW, fun U hU hWm => ⟨rfl, by rw [hU]; exact hW, by rw [hU]; exact hn, hH.1 _ _ hWm hK⟩⟩ rfl rfl hlv.1 rfl (lv_room hw) hd (by rw [hk.2.1]; have : d.2 ≤ NX := hle; constructor <;> (show _ ≤ _; dsimp only [cnx]; omega))
end
theorem cc_faultHere (l : Launch) {G : cG} {KK : State → Prop} (hH : cH G KK) (d : DS) (σ : SS) : jM l yX0_faultHere (ws_ yX0_faultHere cX0_faultHere 1 (some (.object "LeftUndoes$Refusal"))) 2 80 [.ref (ha G 0)] (cWo G d) (cnx d) KK σ (jUo (ha G 2) (sI σ 72 (σ.1 42))) (hA G) d.2 := by
  refine jj_start [(0, .ref (ha G 0))] (by decide) (Nat.le_of_ble_eq_true rfl) rfl (fun p e R s m args below meth c hk hK hsz => ?_) (rfl : ((some (sI σ 72 (σ.1 42))).bind fun s1 => some s1) = some (sI σ 72 (σ.1 42)))
  have hk : jk p R s m args meth c d.2 cX0_faultHere 1 RX0 2 80 (some (.object "LeftUndoes$Refusal")) := hk
  refine jj_aload_n hk dX0_faultHere_0 0 rfl rfl ?_
  refine jc_g_fault hk hH hK dX0_faultHere_1 ?_
  refine jj_aload_n hk dX0_faultHere_4 0 rfl rfl ?_
  refine jc_g_at hk hH hK dX0_faultHere_5 ?_
  refine kc_of2 hk hH hK dX0_faultHere_8 ⟨Nat.le_of_ble_eq_true rfl, Nat.le_of_ble_eq_true rfl⟩ (Nat.le_of_ble_eq_true rfl) (fun s1 => ?_)
  exact jx_reto hk (Or.inl ⟨_, rfl⟩) dX0_faultHere_11
section
variable {p : Program} {l : Launch} {e : Env} {R : Room} {s : State} {m : MethodId} {args : Array Value} {below : List Frame} {meth : Method} {c : Code}
variable {NX : Nat} {Q : State → Prop} {nL : Nat} {cc : ByteArray} {fr lo : Nat} {ret : Option FieldType} {own : String}
variable {pc : Nat} {σ : SS} {lv : List (Nat × Value)} {st : List Value} {G : cG} {d : DS} {KK : State → Prop} {ρ : Type} {res : ρ}
theorem kc_faultHere (hk : jk p R s m args meth c NX cc nL RX0 fr lo ret) (hH : cH G KK) (hK : KK s) {K : SS → Option ρ} (hd : decode cc pc = .ok (.invokevirtual 261, 3)) (hr : 2 + 1 ≤ fr ∧ 8 + (1 + 11) + 80 ≤ lo) (hw : (st.map fun v => v.category).sum ≤ 8) (kk : ∀ σ', jj p l e R s m args below meth c (hA G) NX Q (cWo G d) (cnx d) nL σ' (pc + 3) lv (.ref (ha G 2) :: st) (K σ' = some res)) : jj p l e R s m args below meth c (hA G) NX Q (cWo G d) (cnx d) nL σ pc lv (.ref (ha G 0) :: st) ((some (sI σ 72 (σ.1 42))).bind K = some res) := by
  refine jj_run (σ1 := sI σ 72 (σ.1 42)) (v := some (.ref (ha G 2))) (Ψ1 := jUo (ha G 2) (sI σ 72 (σ.1 42))) (idx := 261) (a1 := (Value.ref (ha G 0) :: []).toArray) hk (Nat.le_refl _) (fun o σ' h => ⟨by have h1 := h.1; cases h1; rfl, h.2⟩) (fun H locs ls hW hn hS hlv hle => ?_) (kk _)
  exact va_runV (As := []) (rest := st) hk.1 (cc_faultHere l hH d σ) (cwV 0 hk.1.2.2.2.2 (lw_V q734 q736 qs11 q118 q737) rfl rfl rfl (by decide +kernel) (by rw [hk.2.1]; exact hr)) ⟨cblind hH.1, (cRv_at (q := (RX0, TX0, 32)) (ci := 1) (q0 := 0) hH hK rfl rfl) H hW, fun U hU hWm => ⟨rfl, by rw [hU]; exact hW, by rw [hU]; exact hn, hH.1 _ _ hWm hK⟩⟩ rfl rfl hlv.1 rfl (lv_room hw) hd (by rw [hk.2.1]; have : d.2 ≤ NX := hle; constructor <;> (show _ ≤ _; dsimp only [cnx]; omega))
end
