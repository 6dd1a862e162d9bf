/-! CALLS OF METHODS THAT MAY THROW WHAT THE MACHINE THROWS -/
set_option maxRecDepth 100000
theorem yW_eq {G : cG} {x : Nat × SS × DS} {t t2 : State} (h : yW G x t) (e : t2.heap = t.heap) : yW G x t2 := by
  unfold yW at h ⊢
  rw [e]; exact h
/-- behind a callee, in a method with handlers: a throw goes to Hh, an answer to K -/
def ym {τ1 : Type} (Hh : Nat × SS × DS → Option (Int32 × SS)) (K : τ1 → Option (Int32 × SS × DS)) (r1 : XR τ1) : Option (Int32 × SS × DS) := match r1 with
  | .inl y => (Hh y).map fun z => (z.1, z.2, y.2.2)
  | .inr r => K r
def yh {τ1 : Type} (nf1 : τ1 → Nat) (d : DS) (F : Option (XR τ1)) (Hh : Nat × SS × DS → Option (Int32 × SS)) (K : τ1 → Option (Int32 × SS × DS)) : Option (Int32 × SS × DS) := F.bind fun r1 => if d.2 ≤ ynx nf1 r1 then ym Hh K r1 else none
/-- the end of a method with handlers: the heap may have grown by three cells more -/
def jUs (res : Int32 × SS × DS) : Outcome → SS × DS → Prop := fun o z => o = .returned (some (.int res.1)) ∧ z.1 = res.2.1 ∧ z.2.1 = res.2.2.1 ∧ res.2.2.2 ≤ z.2.2 ∧ z.2.2 ≤ res.2.2.2 + 3
/-- a callee's run, behind an instruction of len bytes -/
def yRun (len : Nat) (p : Program) (l : Launch) (e : Env) (R : Room) (s : State) (m : MethodId) (args : Array Value) (below : List Frame) (meth : Method) (c : Code) (H : Heap) (locs : List Loc) (cells slots mc ms : Nat) (g : JFrame) (rest : List Value) (Qa : State → Outcome → State → Prop) (XC : Nat → String → State → State → Prop) (free : Addr → Prop) : Prop :=
  ∀ T : State, T.heap = H → Stand p l e R s m args below meth c T locs cells slots →
    (∃ (v : Option Value) (st₀ t T' : State) (L : List Loc), st₀.heap = H ∧ Stand p l e R s m args below meth c T' (locs ++ L) (cells + mc) (slots + ms) ∧ (∀ q ∈ L, free q.base) ∧ T'.heap = t.heap ∧ T'.vm = t.vm ∧ Qa st₀ (.returned v) t ∧
      Goes p e below T g T' { g with pc := g.pc + len, stack := v.toList ++ rest }) ∨
    (∃ (q : Addr) (st₀ t T' : State) (L : List Loc) (E : String) (ce : Cell), st₀.heap = H ∧ Stand p l e R s m args below meth c T' (locs ++ L) (cells + mc) (slots + ms) ∧ (∀ z ∈ L, free z.base) ∧ T'.heap = t.heap ∧ T'.vm = t.vm ∧ XC q E st₀ t ∧ t.heap[q]? = some ce ∧ ce.vm = .none ∧ s.vm.findClass E = some ce.cls ∧
      Steps p.tables e below (T.setTop g) ((T'.setTop { g with stack := rest }).pushFrame (.throwing q)))
/-- which row of the table takes what is thrown at pc -/
def jCatch (s : State) (c : Code) (own E : String) (args : Array Value) (pc h : Nat) : Prop := ∃ (pre : List ExceptionTableEntry) (x : ExceptionTableEntry) (suf : List ExceptionTableEntry) (name : String), c.exceptionTable.toList = pre ++ x :: suf ∧ (∀ z ∈ pre, covers z pc = false ∨ (z.catchType ≠ 0 ∧ ∃ nm : String, (Cond.classLink own z.catchType nm).before args s = true ∧ va_Nc E nm s)) ∧ covers x pc = true ∧ x.catchType ≠ 0 ∧ Cond.classLink own x.catchType name ∈ lw_all ∧ Cond.castable E name ∈ cNw ∧ x.handlerPc = h
section
variable {p : Program} {l : Launch} {e : Env} {R : Room} {s : State} {m : MethodId} {args : Array Value} {below : List Frame} {meth : Method} {c : Code}
variable {NX : Nat} {nL : Nat} {cc : ByteArray} {fr lo : Nat} {ret : Option FieldType} {own : String}
variable {pc : Nat} {σ : SS} {lv : List (Nat × Value)} {st : List Value} {G : cG} {d : DS} {KK : State → Prop} {τ τ1 : Type} {nf : τ → Nat} {nf1 : τ1 → Nat} {Ψ : τ → Outcome → SS × DS → Prop} {Ψ1 : τ1 → Outcome → SS × DS → Prop} {Z : Prop}
/-- the same frame from here: the rest of the walk as if the method were called anew in this heap -/
theorem jh_rebase {Ψ0 : Outcome → SS → Prop} {Ψ9 : Outcome → SS × DS → Prop} {H1 : Heap} {locs : List Loc} {ls : Array Slot} {c1 s1 : Nat} (hk : jk p R s m args meth c NX cc nL own fr lo ret) (hH : cH G KK) (hK : KK s) (hW : cWo G d σ H1) (hn : H1.size = d.2) (hS : va_S (hA G) s.heap H1 locs) (hl : lv_has ls nL lv) (hc1 : c1 ≤ NX - s.heap.size) (hs1 : s1 ≤ 41 * (NX - s.heap.size))
    (kk : ∀ (R' : Room) (s' : State), s'.heap = H1 → jk p R' s' m args meth c d.2 cc nL own fr lo ret → KK s' → jj p l e R' s' m args below meth c (hA G) d.2 (jZ below args s' (hA G) d.2 Ψ0 (cWo G d) (cnx d)) (cWo G d) (cnx d) nL σ pc lv st Z) (hz : Z) (hΨ : ∀ o z, Ψ0 o z → Ψ9 o (z, d)) :
    W p l e R s m args below meth c H1 locs c1 s1 (jZ below args s (hA G) NX Ψ9 (aWo G) anx) (F0 m pc ls st) := by
  intro T hT X
  have hW0 : s.WarmedH ((T.setVm s.vm).setFrames (.invoking m args :: below)).vm := State.WarmedH.refl s
  have hhp : ((T.setVm s.vm).setFrames (.invoking m args :: below)).heap = H1 := hT
  have hsz : ((T.setVm s.vm).setFrames (.invoking m args :: below)).heap.size = d.2 := by rw [hhp]; exact hn
  have hk' : jk p ({ frames := fr, cells := d.2 - ((T.setVm s.vm).setFrames (.invoking m args :: below)).heap.size, slots := 41 * (d.2 - ((T.setVm s.vm).setFrames (.invoking m args :: below)).heap.size), locals := lo } : Room) ((T.setVm s.vm).setFrames (.invoking m args :: below)) m args meth c d.2 cc nL own fr lo ret :=
    ⟨⟨hk.1.1, hk.1.2.1, hk.1.2.2.1, hk.1.2.2.2.1, fun w hw => vx_ot_at hW0 rfl (by unfold vx_ot; rw [(List.mem_filter.mp hw).2]; exact Bool.or_true _) (hk.1.2.2.2.2 w hw)⟩, rfl, hk.2.2.1, hk.2.2.2⟩
  have hJ := kk _ ((T.setVm s.vm).setFrames (.invoking m args :: below)) hhp hk' (hH.1 s _ hW0 hK) hz
  have hw2 := hJ.2 H1 [] ls hW hn (by rw [hhp]; exact va_S.rf) hl
  have e0 : cnx d σ - ((T.setVm s.vm).setFrames (.invoking m args :: below)).heap.size = 0 := by rw [hsz]; exact Nat.sub_self _
  have e1 : d.2 - ((T.setVm s.vm).setFrames (.invoking m args :: below)).heap.size = 0 := by rw [hsz]; exact Nat.sub_self _
  rw [e0, Nat.mul_zero] at hw2
  have Y := vx_rebase X (R' := ({ frames := fr, cells := d.2 - ((T.setVm s.vm).setFrames (.invoking m args :: below)).heap.size, slots := 41 * (d.2 - ((T.setVm s.vm).setFrames (.invoking m args :: below)).heap.size), locals := lo } : Room)) (by rw [hk.2.1]; exact Nat.le_refl _) (by rw [hk.2.1]; exact Nat.le_refl _) (by rw [hk.2.1]; show c1 + (d.2 - _) ≤ NX - s.heap.size; omega) (by rw [hk.2.1]; show s1 + 41 * (d.2 - _) ≤ 41 * (NX - s.heap.size); omega)
  obtain ⟨t, a1, o, b1, b2, ⟨⟨z, hp, hwo, hsz2⟩, hF⟩, L, ⟨hv, hWt, hsame⟩, hL⟩ := hw2 T hT Y
  refine ⟨t, a1, o, b1, b2, ⟨⟨(z, d), hΨ o z hp, hwo, hsz2⟩, ?_⟩, locs ++ L, ⟨hv, State.WarmedH.trans hW0 hWt, ?_⟩, ?_⟩
  · obtain ⟨f1, f2⟩ := hF
    rw [hhp] at f1 f2
    exact ⟨Nat.le_trans hS.1 f1, fun q h1 h2 => (f2 q (Nat.lt_of_lt_of_le h1 hS.1) h2).trans (hS.2.1 q h1 h2)⟩
  · obtain ⟨g1, g2⟩ := hsame
    rw [State.setFrames_setFrames] at g1
    have h2 : (T.setVm s.vm).sameButNew ({ t with vm := s.vm } : State) L (d.2 - ((T.setVm s.vm).setFrames (.invoking m args :: below)).heap.size) (41 * (d.2 - ((T.setVm s.vm).setFrames (.invoking m args :: below)).heap.size)) := ⟨g1, g2⟩
    exact (X.same.trans h2).mono (by omega) (by omega)
  · intro q hq
    rcases List.mem_append.mp hq with h | h
    · exact hS.2.2 q h
    · exact hL q h
/-- behind a callee that may throw, no handler here -/
theorem jy_run {st0 : List Value} {r1 : XR τ1} {res : XR τ} {v : τ1 → Option Value} {sg : τ1 → SS} {dd : τ1 → DS} {a1 : Array Value} {K : τ1 → Option (XR τ)} {len : Nat} (hk : jk p R s m args meth c (ynx nf res) cc nL own fr lo ret) (hH : cH G KK) (ht : ∀ x ∈ c.exceptionTable.toList, False) (hmono : d.2 ≤ ynx nf1 r1) (hv : ∀ (r : τ1) (o : Option Value) (z : SS × DS), Ψ1 r (.returned o) z → o = v r ∧ z = (sg r, dd r)) (hnf : ∀ r, nf1 r = (dd r).2)
    (hrun : ∀ (H : Heap) (locs : List Loc) (ls : Array Slot), cWo G d σ H → H.size = d.2 → va_S (hA G) s.heap H locs → lv_has ls nL lv → ynx nf1 r1 ≤ ynx nf res → yRun len p l e R s m args below meth c H locs (d.2 - s.heap.size) (41 * (d.2 - s.heap.size)) (ynx nf1 r1 - d.2) (41 * (ynx nf1 r1 - d.2)) (F0 m pc ls st0) st (jj_Q (xP Ψ1 r1) (aWo G) anx (hA G) a1) (yC G r1) (hA G))
    (kk : ∀ r, jj p l e R s m args below meth c (hA G) (ynx nf res) (jZY below args s G nf Ψ res) (cWo G (dd r)) (cnx (dd r)) nL (sg r) (pc + len) lv ((v r).toList ++ st) (K r = some res)) : jj p l e R s m args below meth c (hA G) (ynx nf res) (jZY below args s G nf Ψ res) (cWo G d) (cnx d) nL σ pc lv st0 (xk K r1 = some res) := by
  intro hz
  cases r1 with
  | inl x =>
    cases hz
    refine ⟨hmono, fun H locs ls hW hn hS hl => ?_⟩
    intro T hT X
    have hs0 : s.heap.size ≤ d.2 := by have h := hS.1; rw [hn] at h; exact h
    have hm2 : d.2 ≤ x.2.2.2 + 25 := hmono
    rcases hrun H locs ls hW hn hS hl (Nat.le_refl _) T hT X with ⟨v', st₀, t, T', L, h0, X', hL, e1, e2, ⟨⟨z, ⟨r, hr, -⟩, -⟩, -⟩, -⟩ | ⟨q, st₀, t, T', L, E, ce, h0, X', hL, e1, e2, ⟨x', hx', hE, hq, hyw, hF⟩, hce, hcv, hcl, st'⟩
    · cases hr
    · cases hx'
      obtain ⟨k1, k2, k3⟩ := vx_keep h0 e1 hS (fun _ _ h => h) (fun _ h => h) hL hF
      obtain ⟨t2, a2, b2⟩ := vx_out (p := p) (l := l) (e := e) (R := R) (below := below) (c := c) (rest := st) (ls := ls) (pc := pc) (m := m) (args := args) (Qc := jj_Q (xP Ψ (Sum.inl x)) (aWo G) anx (hA G)) (XC := yC G (Sum.inl x : XR τ)) (H := T'.heap) (locs := locs ++ L) (cells := d.2 - s.heap.size + (ynx nf1 (Sum.inl x) - d.2)) (slots := 41 * (d.2 - s.heap.size) + 41 * (ynx nf1 (Sum.inl x) - d.2)) (mc := ynx nf (Sum.inl x : XR τ) - s.heap.size) (ms := 41 * (ynx nf (Sum.inl x : XR τ) - s.heap.size)) (free := hA G) (fun x hx => absurd (ht x hx) id) hk.2.2.2 (by rw [e1]; exact hce) hcv hcl (fun t2 ht2 hal => ⟨x, rfl, hE, hq, yW_eq hyw (by rw [ht2, e1]), k3.F ht2⟩) k3.2.2 (by show d.2 - s.heap.size + (x.2.2.2 + 25 - d.2) ≤ x.2.2.2 + 25 - s.heap.size; omega) (by show 41 * (d.2 - s.heap.size) + 41 * (x.2.2.2 + 25 - d.2) ≤ 41 * (x.2.2.2 + 25 - s.heap.size); omega) T' rfl X'
      exact ⟨t2, st'.trans a2, b2⟩
  | inr r =>
    obtain ⟨hle, hw⟩ := kk r hz
    have hle' : (dd r).2 ≤ ynx nf res := hle
    have hm2 : d.2 ≤ (dd r).2 := by rw [← hnf r]; exact hmono
    refine ⟨Nat.le_trans hm2 hle', fun H locs ls hW hn hS hl => ?_⟩
    intro T hT X
    have hs0 : s.heap.size ≤ d.2 := by have h := hS.1; rw [hn] at h; exact h
    rcases hrun H locs ls hW hn hS hl (by show nf1 r ≤ _; rw [hnf]; exact hle') T hT X with ⟨v', st₀, t, T', L, h0, X', hL, e1, e2, ⟨⟨z, ⟨r', hr, hp⟩, hw1, hn1⟩, hzz, hkk⟩, st'⟩ | ⟨q, st₀, t, T', L, E, ce, h0, X', hL, e1, e2, ⟨x', hx', -⟩, -⟩
    · cases hr
      obtain ⟨rfl, rfl⟩ := hv r v' z hp
      rw [h0] at hzz hkk
      have hx9 : ynx nf1 (Sum.inr r : XR τ1) = (dd r).2 := hnf r
      rw [hx9] at X'
      have ec : d.2 - s.heap.size + ((dd r).2 - d.2) = (dd r).2 - s.heap.size := by omega
      have es : 41 * (d.2 - s.heap.size) + 41 * ((dd r).2 - d.2) = 41 * ((dd r).2 - s.heap.size) := by omega
      rw [ec, es] at X'
      obtain ⟨t2, a2, b2⟩ := hw T'.heap (locs ++ L) ls (by rw [e1]; exact hw1) (by rw [e1]; exact hn1) ⟨Nat.le_trans hS.1 (by rw [e1]; exact hzz), fun q h1 h2 => by rw [e1, hkk q (Nat.lt_of_lt_of_le h1 hS.1) h2]; exact hS.2.1 q h1 h2, fun q hq => by
          rcases List.mem_append.mp hq with h | h
          · exact hS.2.2 q h
          · exact hL q h⟩ hl T' rfl X'
      exact ⟨t2, st' t2 a2, b2⟩
    · cases hx'
/-- behind a callee that may throw, in a method whose table takes what is thrown -/
theorem jy_runH {len : Nat} {st0 : List Value} {r1 : XR τ1} {res : Int32 × SS × DS} {v : τ1 → Option Value} {sg : τ1 → SS} {dd : τ1 → DS} {a1 : Array Value} {Hh : Nat × SS × DS → Option (Int32 × SS)} {K : τ1 → Option (Int32 × SS × DS)} (hk : jk p R s m args meth c (res.2.2.2 + 25) cc nL own fr lo ret) (hH : cH G KK) (hK : KK s) (hmono : d.2 ≤ ynx nf1 r1) (hv : ∀ (r : τ1) (o : Option Value) (z : SS × DS), Ψ1 r (.returned o) z → o = v r ∧ z = (sg r, dd r)) (hnf : ∀ r, nf1 r = (dd r).2)
    (hrun : ∀ (H : Heap) (locs : List Loc) (ls : Array Slot), cWo G d σ H → H.size = d.2 → va_S (hA G) s.heap H locs → lv_has ls nL lv → ynx nf1 r1 ≤ res.2.2.2 + 25 → yRun len p l e R s m args below meth c H locs (d.2 - s.heap.size) (41 * (d.2 - s.heap.size)) (ynx nf1 r1 - d.2) (41 * (ynx nf1 r1 - d.2)) (F0 m pc ls st0) st (jj_Q (xP Ψ1 r1) (aWo G) anx (hA G) a1) (yC G r1) (hA G))
    (kx : ∀ (y : Nat × SS × DS) (r' : Int32 × SS), Hh y = some r' → ∃ h, jCatch s c own (yE y.1) args pc h ∧ ∀ (R : Room) (s : State) (q : Nat) (d' : DS), (y.1 ≤ 2 → q = ha G y.1) → jk p R s m args meth c d'.2 cc nL own fr lo ret → KK s → jj p l e R s m args below meth c (hA G) d'.2 (jZ below args s (hA G) d'.2 (jU r') (cWo G d') (cnx d')) (cWo G d') (cnx d') nL y.2.1 h lv [.ref q] (Hh y = some r'))
    (kk : ∀ r, jj p l e R s m args below meth c (hA G) (res.2.2.2 + 25) (jZ below args s (hA G) (res.2.2.2 + 25) (jUs res) (aWo G) anx) (cWo G (dd r)) (cnx (dd r)) nL (sg r) (pc + len) lv ((v r).toList ++ st) (K r = some res)) : jj p l e R s m args below meth c (hA G) (res.2.2.2 + 25) (jZ below args s (hA G) (res.2.2.2 + 25) (jUs res) (aWo G) anx) (cWo G d) (cnx d) nL σ pc lv st0 (ym Hh K r1 = some res) := by
  intro hz
  cases r1 with
  | inl y =>
    cases hy : Hh y with
    | none => unfold ym at hz; simp only [hy] at hz; cases hz
    | some r' =>
    have hres : res = (r'.1, r'.2, y.2.2) := by unfold ym at hz; simp only [hy] at hz; exact (Option.some.inj hz).symm
    subst hres
    obtain ⟨h, ⟨pre, x, suf, name, hsplit, hpass, hcov, hct, hlink, hcast, hh⟩, hj⟩ := kx y r' hy
    have hm2 : d.2 ≤ y.2.2.2 + 25 := hmono
    refine ⟨hm2, fun H locs ls hW hn hS hl => ?_⟩
    intro T hT X
    have hs0 : s.heap.size ≤ d.2 := by have h := hS.1; rw [hn] at h; exact h
    rcases hrun H locs ls hW hn hS hl (Nat.le_refl _) T hT X with ⟨v', st₀, t, T', L, h0', X', hL, e1, e2, ⟨⟨z, ⟨r, hr, -⟩, -⟩, -⟩, -⟩ | ⟨q, st₀, t, T', L, E, ce, h0', X', hL, e1, e2, ⟨x', hx', hE, hq, ⟨n, n1, n2, n3, hw1, hn1⟩, hF⟩, hce, hcv, hcl, st'⟩
    · cases hr
    · cases hx'
      subst hE
      obtain ⟨k1, k2, k3⟩ := vx_keep h0' e1 hS (fun _ _ h => h) (fun _ h => h) hL hF
      have hwl := jh_rebase (Ψ0 := jU r') (Ψ9 := jUs (r'.1, r'.2, y.2.2)) (d := (y.2.2.1, n)) (H1 := T'.heap) (locs := locs ++ L) (ls := ls) (pc := h) (st := [.ref q]) (e := e) (below := below) (c1 := d.2 - s.heap.size + (ynx nf1 (Sum.inl y) - d.2)) (s1 := 41 * (d.2 - s.heap.size) + 41 * (ynx nf1 (Sum.inl y) - d.2)) hk hH hK (by rw [e1]; exact hw1) (by rw [e1]; exact hn1) k3 hl (by show d.2 - s.heap.size + (y.2.2.2 + 25 - d.2) ≤ y.2.2.2 + 25 - s.heap.size; omega) (by show 41 * (d.2 - s.heap.size) + 41 * (y.2.2.2 + 25 - d.2) ≤ 41 * (y.2.2.2 + 25 - s.heap.size); omega) (fun R' s' _ hk' hK' => hj R' s' q (y.2.2.1, n) hq hk' hK') hy (fun o z hp => ⟨hp.1, hp.2, rfl, n1, n2⟩)
      obtain ⟨t2, a2, b2⟩ := vx_catch (ls := ls) (rest := st) (pc := pc) (m := m) (H := T'.heap) (locs := locs ++ L) hk.1.2.2.2.1 pre x suf hsplit hpass hcov hct (hk.1.2.2.2.2 _ hlink) (va_Nw.use rfl ((hH.2.1 s hK).2.1 _ hcast)) (by rw [e1]; exact hce) hcv hcl (by rw [hh]; exact hwl) T' rfl X'
      exact ⟨t2, st'.trans a2, b2⟩
  | inr r =>
    have hz' : K r = some res := hz
    obtain ⟨hle, hw⟩ := kk r hz'
    have hle' : (dd r).2 ≤ res.2.2.2 + 25 := hle
    have hm2 : d.2 ≤ (dd r).2 := by rw [← hnf r]; exact hmono
    refine ⟨Nat.le_trans hm2 hle', fun H locs ls hW hn hS hl => ?_⟩
    intro T hT X
    have hs0 : s.heap.size ≤ d.2 := by have h := hS.1; rw [hn] at h; exact h
    rcases hrun H locs ls hW hn hS hl (by show nf1 r ≤ _; rw [hnf]; exact hle') T hT X with ⟨v', st₀, t, T', L, h0', X', hL, e1, e2, ⟨⟨z, ⟨r', hr, hp⟩, hw1, hn1⟩, hzz, hkk⟩, st'⟩ | ⟨q, st₀, t, T', L, E, ce, h0', X', hL, e1, e2, ⟨x', hx', -⟩, -⟩
    · cases hr
      obtain ⟨rfl, rfl⟩ := hv r v' z hp
      rw [h0'] at hzz hkk
      have hx9 : ynx nf1 (Sum.inr r : XR τ1) = (dd r).2 := hnf r
      rw [hx9] at X'
      have ec : d.2 - s.heap.size + ((dd r).2 - d.2) = (dd r).2 - s.heap.size := by omega
      have es : 41 * (d.2 - s.heap.size) + 41 * ((dd r).2 - d.2) = 41 * ((dd r).2 - s.heap.size) := by omega
      rw [ec, es] at X'
      obtain ⟨t2, a2, b2⟩ := hw T'.heap (locs ++ L) ls (by rw [e1]; exact hw1) (by rw [e1]; exact hn1) ⟨Nat.le_trans hS.1 (by rw [e1]; exact hzz), fun q h1 h2 => by rw [e1, hkk q (Nat.lt_of_lt_of_le h1 hS.1) h2]; exact hS.2.1 q h1 h2, fun q hq => by
          rcases List.mem_append.mp hq with h | h
          · exact hS.2.2 q h
          · exact hL q h⟩ hl T' rfl X'
      exact ⟨t2, st' t2 a2, b2⟩
    · cases hx'
/-- the end of a method with handlers -/
theorem jy_retUs {res : Int32 × SS × DS} {x : Int32} (hk : jk p R s m args meth c (res.2.2.2 + 25) cc nL own fr lo (some .int)) (hd : decode cc pc = .ok (.ireturn, 1)) : jj p l e R s m args below meth c (hA G) (res.2.2.2 + 25) (jZ below args s (hA G) (res.2.2.2 + 25) (jUs res) (aWo G) anx) (cWo G d) (cnx d) nL σ pc lv [.int x] (some (x, σ, d) = some res) := by
  intro hz
  cases hz
  refine ⟨Nat.le_add_right _ _, fun H locs ls hW hn hS hl => ?_⟩
  have hs0 : s.heap.size ≤ d.2 := by have h := hS.1; rw [hn] at h; exact h
  exact W.widen (k := d.2 + 25 - s.heap.size) (n := 41 * (d.2 + 25 - s.heap.size)) (by show d.2 - _ ≤ _; omega) (by show 41 * (d.2 - _) ≤ _; omega) (W.zret hk.1.1 hk.1.2.1 hk.2.2.1 (vp_nar_int x) (fun t ht hWm => ⟨⟨(σ, d), ⟨rfl, rfl, rfl, Nat.le_refl _, Nat.le_add_right _ _⟩, by rw [ht]; exact hW, by rw [ht]; exact hn⟩, hS.F ht⟩) hS.2.2 hd hk.2.2.2)
theorem jy_retUo {res : XR (Option Nat × SS × DS)} {x : Option Nat} {rty : FieldType} (hk : jk p R s m args meth c (ynx xnA res) cc nL own fr lo (some rty)) (hrt : (∃ n, rty = .object n) ∨ ∃ t, rty = .array t) (hd : decode cc pc = .ok (.areturn, 1)) : jj p l e R s m args below meth c (hA G) (ynx xnA res) (jZY below args s G xnA (jUa va_rf) res) (cWo G d) (cnx d) nL σ pc lv [va_rf x] (some (Sum.inr (x, σ, d)) = some res) := by
  intro hz
  cases hz
  exact ⟨Nat.le_refl _, fun H locs ls hW hn hS hl => vx_ret (W.aret hk.1.1 hk.1.2.1 hk.2.2.1 hrt (by cases x with | none => exact Or.inl rfl | some q => exact Or.inr ⟨q, rfl⟩) (fun t ht hWm => ⟨⟨(σ, d), ⟨_, rfl, rfl, rfl⟩, by rw [ht]; exact hW, by rw [ht]; exact hn⟩, hS.F ht⟩) hS.2.2 hd hk.2.2.2)⟩
theorem jy_retV {res : XR (SS × DS)} (hk : jk p R s m args meth c (ynx xnV res) cc nL own fr lo none) (hd : decode cc pc = .ok (.return_, 1)) : jj p l e R s m args below meth c (hA G) (ynx xnV res) (jZY below args s G xnV jVa res) (cWo G d) (cnx d) nL σ pc lv [] (some (Sum.inr (σ, d)) = some res) := by
  intro hz
  cases hz
  exact ⟨Nat.le_refl _, fun H locs ls hW hn hS hl => vx_ret (W.vret hk.1.1 hk.1.2.1 hk.2.2.1 (fun t ht hWm => ⟨⟨(σ, d), ⟨_, rfl, rfl, rfl⟩, by rw [ht]; exact hW, by rw [ht]; exact hn⟩, hS.F ht⟩) hS.2.2 hd hk.2.2.2)⟩
/-- the throw of a kept exception -/
theorem jy_athrow {res : XR τ} (hk : jk p R s m args meth c (ynx nf res) cc nL own fr lo ret) (hH : cH G KK) (hK : KK s) (ht : ∀ x ∈ c.exceptionTable.toList, False) {i : Nat} (hi : i = 1 ∨ i = 2) (hd : decode cc pc = .ok (.athrow, 1)) : jj p l e R s m args below meth c (hA G) (ynx nf res) (jZY below args s G nf Ψ res) (cWo G d) (cnx d) nL σ pc lv (.ref (ha G i) :: st) (some (Sum.inl (i, σ, d)) = some res) := by
  intro hz
  cases hz
  refine ⟨Nat.le_add_right _ _, fun H locs ls hW hn hS hl => ?_⟩
  have hn' : H.size = d.2 := hn
  have hs0 : s.heap.size ≤ d.2 := by have h := hS.1; rw [hn] at h; exact h
  obtain ⟨ce, h1, h2, h3⟩ := va_cX hH hK hW hi
  have h3' : s.vm.findClass (yE i) = some ce.cls := by rcases hi with rfl | rfl <;> exact h3
  exact vx_athrow hk.1.1 hk.1.2.1 hd (vx_out (E := yE i) (fun x hx => absurd (ht x hx) id) hk.2.2.2 h1 h2 h3' (fun t ht2 hal => ⟨(i, σ, d), rfl, rfl, fun _ => rfl, ⟨d.2, Nat.le_refl _, Nat.le_add_right _ _, fun _ => rfl, by rw [ht2]; exact hW, by rw [ht2]; exact hn'⟩, hS.F ht2⟩) hS.2.2 (by show d.2 - _ ≤ d.2 + 25 - _; omega) (by show 41 * (d.2 - _) ≤ 41 * (d.2 + 25 - _); omega))
end
