/-! METHODS THAT MAY THROW ALSO WHAT THE MACHINE THROWS: 1 the refusal, 2 the fault (kept), 3 NegativeArraySize, 4 ClassCast, 5 NullPointer, 6 Arithmetic (made by the machine: up to three cells, 25 are accounted) -/
set_option maxRecDepth 100000
def yE (i : Nat) : String := if i = 1 then "LeftUndoes$Refusal" else if i = 2 then "LeftUndoes$Fault" else if i = 3 then "java/lang/NegativeArraySizeException" else if i = 4 then "java/lang/ClassCastException" else if i = 5 then "java/lang/NullPointerException" else "java/lang/ArithmeticException"
def ynx {τ : Type} (nf : τ → Nat) (res : XR τ) : Nat := match res with
  | .inl x => x.2.2.2 + 25
  | .inr r => nf r
/-- the heap shows the picture, grown by no more than three cells -/
def yW (G : cG) (x : Nat × SS × DS) (t : State) : Prop := ∃ n : Nat, x.2.2.2 ≤ n ∧ n ≤ x.2.2.2 + 3 ∧ (x.1 ≤ 2 → n = x.2.2.2) ∧ cWo G (x.2.2.1, n) x.2.1 t.heap ∧ t.heap.size = n
def yC (G : cG) {τ : Type} (res : XR τ) : Nat → String → State → State → Prop := fun q E st t => ∃ x : Nat × SS × DS, res = .inl x ∧ E = yE x.1 ∧ (x.1 ≤ 2 → q = ha G x.1) ∧ yW G x t ∧ va_F (hA G) st t
def jMY (l : Launch) (y : MethodName) (ws : List Cond) (fr lo : Nat) (av : List Value) (G : cG) (KK : State → Prop) (z : SS × DS) {τ : Type} (nf : τ → Nat) (Ψ : τ → Outcome → SS × DS → Prop) (res : XR τ) : Prop :=
  vx_Met l y ws ({ frames := fr, cells := ynx nf res - anx z, slots := 41 * (ynx nf res - anx z), locals := lo } : Room) (va_Pc av (fun U => aWo G z U.heap ∧ U.heap.size = anx z ∧ KK U)) (jj_Q (xP Ψ res) (aWo G) anx (hA G)) (yC G res) (ynx nf res - anx z) (41 * (ynx nf res - anx z)) (hA G)
def jZY (below : List Frame) (args : Array Value) (s : State) (G : cG) {τ : Type} (nf : τ → Nat) (Ψ : τ → Outcome → SS × DS → Prop) (res : XR τ) : State → Prop := vx_MQ below (jj_Q (xP Ψ res) (aWo G) anx (hA G)) (yC G res) args s (ynx nf res - s.heap.size) (41 * (ynx nf res - s.heap.size)) (hA G)
def yb {τ τ1 : Type} (nf1 : τ1 → Nat) (d : DS) (F : Option (XR τ1)) (K : τ1 → Option (XR τ)) : Option (XR τ) := F.bind fun r1 => if d.2 ≤ ynx nf1 r1 then xk K r1 else none
theorem jy_start {l : Launch} {y : MethodName} {cc : ByteArray} {nL : Nat} {ret : Option FieldType} {fr lo : Nat} {av : List Value} {G : cG} {KK : State → Prop} {σ : SS} {d : DS} {τ : Type} {nf : τ → Nat} {Ψ : τ → Outcome → SS × DS → Prop} {res : XR τ} {Z : Prop} (lv0 : List (Nat × Value)) (hpl : plainName y.cls = true) (hl0 : (lg_sl av).length ≤ nL) (hlv : lv_args 0 av = lv0)
    (body : ∀ (p : Program) (e : Env) (R : Room) (s : State) (m : MethodId) (args : Array Value) (below : List Frame) (meth : Method) (c : Code), jk p R s m args meth c (ynx nf res) cc nL y.cls fr lo ret → KK s → cWo G d σ s.heap → (∀ x ∈ c.exceptionTable.toList, False) → jj p l e R s m args below meth c (hA G) (ynx nf res) (jZY below args s G nf Ψ res) (cWo G d) (cnx d) nL σ 0 lv0 [] Z) (hZ : Z) : jMY l y (ws_ y cc nL ret) fr lo av G KK (σ, d) nf Ψ res := by
  refine vx_ofW (cc := cc) (maxL := nL) (ret := ret) hpl rfl ?_
  intro p e s m args below meth c s₁ B hml hxt hv
  obtain ⟨rfl, hWo, hsz, hK⟩ := hv
  have hts := atoms_spec (ws := ws_ y cc nL ret) B.pre
  have hts : ∀ w ∈ lw_all, w.before _ s = true := fun w h => hts w (List.mem_cons_of_mem _ h)
  have hown : s.vm.findClass y.cls = some m.cls := findClass_of_methodNamed B.named
  have hl := lv_entry av (n := nL) hl0
  rw [lg_entry_eq]
  generalize (lg_sl av ++ List.replicate (nL - (lg_sl av).length) Slot.unset).toArray = ls at hl ⊢
  rw [hlv] at hl
  have hsz' : s.heap.size = d.2 := hsz
  have hJ := (body p e ({ frames := fr, cells := ynx nf res - s.heap.size, slots := 41 * (ynx nf res - s.heap.size), locals := lo } : Room) s m av.toArray below meth c ⟨⟨B.exec, B.bytes, hml, hown, hts⟩, rfl, B.returns, B.notSynchronized⟩ hK hWo hxt hZ).2 s.heap [] ls hWo hsz va_S.rf hl
  unfold jZY at hJ
  have e1 : cnx d σ = s.heap.size := hsz'.symm
  rw [e1, Nat.sub_self, Nat.mul_zero] at hJ
  show W p l e ({ frames := fr, cells := ynx nf res - d.2, slots := 41 * (ynx nf res - d.2), locals := lo } : Room) s m av.toArray below meth c s.heap [] 0 0 (vx_MQ below (jj_Q (xP Ψ res) (aWo G) anx (hA G)) (yC G res) av.toArray s (ynx nf res - d.2) (41 * (ynx nf res - d.2)) (hA G)) _
  rw [← hsz']
  exact hJ
/-- names of what may be cast: their text is short -/
theorem cNo_ok : ∀ C ∈ cNoS ++ cNoT, castPackages_1.contains (packageOf C) = true ∧ (dotted C).toList.length ≤ 19 := by decide +kernel
section
variable {p : Program} {l : Launch} {e : Env} {R : Room} {s : State} {m : MethodId} {args : Array Value} {below : List Frame} {meth : Method} {c : Code}
variable {nL : Nat} {cc : ByteArray} {fr lo : Nat} {ret : Option FieldType} {own : String}
variable {pc : Nat} {σ : SS} {lv : List (Nat × Value)} {st : List Value} {G : cG} {d : DS} {KK : State → Prop} {τ : Type} {nf : τ → Nat} {Ψ : τ → Outcome → SS × DS → Prop} {res : XR τ}
theorem jy_retUi {res : XR (Int32 × SS × DS)} {x : Int32} (hk : jk p R s m args meth c (ynx xnA res) cc nL own fr lo (some .int)) (hd : decode cc pc = .ok (.ireturn, 1)) : jj p l e R s m args below meth c (hA G) (ynx xnA res) (jZY below args s G xnA (jUa (fun x : Int32 => .int x)) res) (cWo G d) (cnx d) nL σ pc lv [.int x] (some (Sum.inr (x, σ, d)) = some res) := by
  intro hz
  cases hz
  exact ⟨Nat.le_refl _, fun H locs ls hW hn hS hl => vx_ret (W.zret hk.1.1 hk.1.2.1 hk.2.2.1 (vp_nar_int x) (fun t ht hWm => ⟨⟨(σ, d), ⟨_, rfl, rfl, rfl⟩, by rw [ht]; exact hW, by rw [ht]; exact hn⟩, hS.F ht⟩) hS.2.2 hd hk.2.2.2)⟩
theorem jy_retUa {res : XR (Nat × SS × DS)} {x : Nat} {rty : FieldType} (hk : jk p R s m args meth c (ynx xnA res) cc nL own fr lo (some rty)) (hrt : (∃ n, rty = .object n) ∨ ∃ t, rty = .array t) (hd : decode cc pc = .ok (.areturn, 1)) : jj p l e R s m args below meth c (hA G) (ynx xnA res) (jZY below args s G xnA (jUa (fun x : Nat => .ref x)) res) (cWo G d) (cnx d) nL σ pc lv [.ref x] (some (Sum.inr (x, σ, d)) = some res) := by
  intro hz
  cases hz
  exact ⟨Nat.le_refl _, fun H locs ls hW hn hS hl => vx_ret (W.aret hk.1.1 hk.1.2.1 hk.2.2.1 hrt (Or.inr ⟨x, rfl⟩) (fun t ht hWm => ⟨⟨(σ, d), ⟨_, rfl, rfl, rfl⟩, by rw [ht]; exact hW, by rw [ht]; exact hn⟩, hS.F ht⟩) hS.2.2 hd hk.2.2.2)⟩
end
