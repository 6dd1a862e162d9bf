/-! CONSTRUCTORS: a world by list, the judgement ke with its own counts of cells and slots -/
set_option maxRecDepth 100000
/-- the world of a list of cells -/
def kS (G : cG) (E : va_W) (H : Heap) : Prop := va_P (hD G) jcl E H ∧ va_D (hA G) E ∧ hX G H
/-- the same run, seen from the address a on -/
def gz (G : cG) (a : Nat) : cG := (G.1, G.2.1, G.2.2.1, (fun x => a ≤ x ∧ hA G x), G.2.2.2.2.1, G.2.2.2.2.2.1, fun H => hX G H ∧ a ≤ H.size)
theorem cH_gz {G : cG} {KK : State → Prop} (h : cH G KK) (a : Nat) : cH (gz G a) KK := by
  refine ⟨h.1, fun U hU => h.2.1 U hU, fun H H1 hz hq hX => ⟨h.2.2.1 H H1 hz (fun q h1 h2 => hq q h1 (fun h3 => h2 h3.2)) hX.1, Nat.le_trans hX.2 hz⟩, fun H q hX hq => ⟨Nat.le_trans hX.2 hq, h.2.2.2.1 H q hX.1 hq⟩, fun U H hU hX => ?_, fun U hU => h.2.2.2.2.2 U hU⟩
  obtain ⟨h1, h2, h3, h4, h5⟩ := h.2.2.2.2.1 U H hU hX.1
  exact ⟨vk_S.narrow h1 (fun _ h => h.2), va_Z.narrow h2 (fun _ h => h.2), va_Zq.narrow h3 (fun _ h => h.2), vx_Zq.narrow h4 (fun _ h => h.2), vx_Zq.narrow h5 (fun _ h => h.2)⟩
/-- what is fixed in a constructor's walk; z: the heap's size at its start -/
def kx (p : Program) (R : Room) (s : State) (m : MethodId) (args : Array Value) (meth : Method) (c : Code) (cc : ByteArray) (nL : Nat) (own : String) (fr lo kc sc z : Nat) : Prop :=
  CallFix p m c cc nL s args lw_all own ∧ R = ({ frames := fr, cells := kc, slots := sc, locals := lo } : Room) ∧ meth.sig.returnType = none ∧ meth.locks = false ∧ meth.name = "<init>" ∧ s.heap.size = z
def ke (p : Program) (l : Launch) (e : Env) (R : Room) (s : State) (m : MethodId) (args : Array Value) (below : List Frame) (meth : Method) (c : Code) (G : cG) (Q : State → Prop) (nL z k n : Nat) (E : va_W) (pc : Nat) (lv : List (Nat × Value)) (st : List Value) : Prop :=
  ∀ (H : Heap) (locs : List Loc) (ls : Array Slot), kS G E H → H.size = z + k → va_S (hA G) s.heap H locs → lv_has ls nL lv → W p l e R s m args below meth c H locs k n Q (F0 m pc ls st)
def kQ (G : cG) (E' : va_W) (z kc : Nat) : Array Value → State → Outcome → State → Prop := fun _ st o t => (o = .returned none ∧ kS G E' t.heap ∧ t.heap.size = z + kc) ∧ va_F (hA G) st t
/-- a constructor's contract: world E before, E' behind, kc cells and sc slots -/
def kM (l : Launch) (y : MethodName) (ws : List Cond) (fr lo : Nat) (av : List Value) (G : cG) (KK : State → Prop) (E E' : va_W) (z kc sc : Nat) : Prop :=
  Met l y ws ({ frames := fr, cells := kc, slots := sc, locals := lo } : Room) (va_Pc av (fun U => kS G E U.heap ∧ U.heap.size = z ∧ KK U)) (kQ G E' z kc) kc sc (hA G)
section KE
variable {p : Program} {l : Launch} {e : Env} {R : Room} {s : State} {m : MethodId} {args : Array Value} {below : List Frame} {meth : Method} {c : Code}
variable {Q : State → Prop} {nL : Nat} {cc : ByteArray} {fr lo kc sc z k n : Nat} {own : String}
variable {pc pc' : Nat} {E E' : va_W} {lv lv' : List (Nat × Value)} {st st' : List Value} {G : cG} {KK : State → Prop}
theorem ke_iconst (hk : kx p R s m args meth c cc nL own fr lo kc sc z) {i : Int} {v : Int32} (hd : decode cc pc = .ok (.iconst i, 1)) (hv : Int32.ofInt i = v) (kk : ke p l e R s m args below meth c G Q nL z k n E (pc + 1) lv (.int v :: st)) : ke p l e R s m args below meth c G Q nL z k n E pc lv st :=
  fun H locs ls hW hn hS hl => lv_iconst hk.1.1 hk.1.2.1 hd hv (kk H locs ls hW hn hS hl)
theorem ke_bipush (hk : kx p R s m args meth c cc nL own fr lo kc sc z) {i : Int} {v : Int32} (hd : decode cc pc = .ok (.bipush i, 2)) (hv : (Int8.ofInt i).toInt32 = v) (kk : ke p l e R s m args below meth c G Q nL z k n E (pc + 2) lv (.int v :: st)) : ke p l e R s m args below meth c G Q nL z k n E pc lv st :=
  fun H locs ls hW hn hS hl => lv_bipush hk.1.1 hk.1.2.1 hd hv (kk H locs ls hW hn hS hl)
theorem ke_sipush (hk : kx p R s m args meth c cc nL own fr lo kc sc z) {i : Int} {v : Int32} (hd : decode cc pc = .ok (.sipush i, 3)) (hv : (Int16.ofInt i).toInt32 = v) (kk : ke p l e R s m args below meth c G Q nL z k n E (pc + 3) lv (.int v :: st)) : ke p l e R s m args below meth c G Q nL z k n E pc lv st :=
  fun H locs ls hW hn hS hl => lv_sipush hk.1.1 hk.1.2.1 hd hv (kk H locs ls hW hn hS hl)
theorem ke_null (hk : kx p R s m args meth c cc nL own fr lo kc sc z) (hd : decode cc pc = .ok (.aconst_null, 1)) (kk : ke p l e R s m args below meth c G Q nL z k n E (pc + 1) lv (.null :: st)) : ke p l e R s m args below meth c G Q nL z k n E pc lv st :=
  fun H locs ls hW hn hS hl => lv_null hk.1.1 hk.1.2.1 hd (kk H locs ls hW hn hS hl)
theorem ke_aload_n (hk : kx p R s m args meth c cc nL own fr lo kc sc z) {a : Fin 4} {i x : Nat} (hd : decode cc pc = .ok (.aload_n a, 1)) (q : Nat) (hi : (a : Nat) = i) (hq : lv[q]? = some (i, .ref x)) (kk : ke p l e R s m args below meth c G Q nL z k n E (pc + 1) lv (.ref x :: st)) : ke p l e R s m args below meth c G Q nL z k n E pc lv st :=
  fun H locs ls hW hn hS hl => lv_aload_n hk.1.1 hk.1.2.1 hd hi (lv_at hl q hq) (kk H locs ls hW hn hS hl)
theorem ke_aload_nN (hk : kx p R s m args meth c cc nL own fr lo kc sc z) {a : Fin 4} {i : Nat} (hd : decode cc pc = .ok (.aload_n a, 1)) (q : Nat) (hi : (a : Nat) = i) (hq : lv[q]? = some (i, .null)) (kk : ke p l e R s m args below meth c G Q nL z k n E (pc + 1) lv (.null :: st)) : ke p l e R s m args below meth c G Q nL z k n E pc lv st :=
  fun H locs ls hW hn hS hl => lv_aload_nN hk.1.1 hk.1.2.1 hd hi (lv_at hl q hq) (kk H locs ls hW hn hS hl)
theorem ke_iload_n (hk : kx p R s m args meth c cc nL own fr lo kc sc z) {a : Fin 4} {i : Nat} {x : Int32} (hd : decode cc pc = .ok (.iload_n a, 1)) (q : Nat) (hi : (a : Nat) = i) (hq : lv[q]? = some (i, .int x)) (kk : ke p l e R s m args below meth c G Q nL z k n E (pc + 1) lv (.int x :: st)) : ke p l e R s m args below meth c G Q nL z k n E pc lv st :=
  fun H locs ls hW hn hS hl => lv_iload_n hk.1.1 hk.1.2.1 hd hi (lv_at hl q hq) (kk H locs ls hW hn hS hl)
theorem ke_iload (hk : kx p R s m args meth c cc nL own fr lo kc sc z) {i : Nat} {x : Int32} (hd : decode cc pc = .ok (.iload i, 2)) (q : Nat) (hq : lv[q]? = some (i, .int x)) (kk : ke p l e R s m args below meth c G Q nL z k n E (pc + 2) lv (.int x :: st)) : ke p l e R s m args below meth c G Q nL z k n E pc lv st :=
  fun H locs ls hW hn hS hl => lv_iload hk.1.1 hk.1.2.1 hd (lv_at hl q hq) (kk H locs ls hW hn hS hl)
theorem ke_istore_n (hk : kx p R s m args meth c cc nL own fr lo kc sc z) {a : Fin 4} {i : Nat} {x : Int32} (lv' : List (Nat × Value)) (hd : decode cc pc = .ok (.istore_n a, 1)) (hi : (a : Nat) = i) (hin : i < nL) (hl : (i, Value.int x) :: lv.filter (fun q => !(q.1 == i) && !(q.1 + 1 == i && q.2.category == 2)) = lv') (kk : ke p l e R s m args below meth c G Q nL z k n E (pc + 1) lv' st) : ke p l e R s m args below meth c G Q nL z k n E pc lv (.int x :: st) :=
  fun H locs ls hW hn hS hl2 => lv_istore_n hk.1.1 hk.1.2.1 hd hi hl2 hin hl (fun ls' h' => kk H locs ls' hW hn hS h')
theorem ke_iinc (hk : kx p R s m args meth c cc nL own fr lo kc sc z) {i : Nat} {j : Int} {x v : Int32} (lv' : List (Nat × Value)) (hd : decode cc pc = .ok (.iinc i j, 3)) (q : Nat) (hq : lv[q]? = some (i, .int x)) (hv : x + Int32.ofInt j = v) (hin : i < nL) (hl : (i, Value.int v) :: lv.filter (fun q => !(q.1 == i) && !(q.1 + 1 == i && q.2.category == 2)) = lv') (kk : ke p l e R s m args below meth c G Q nL z k n E (pc + 3) lv' st) : ke p l e R s m args below meth c G Q nL z k n E pc lv st :=
  fun H locs ls hW hn hS hl2 => lv_iinc hk.1.1 hk.1.2.1 hd hl2 hq hv hin hl (fun ls' h' => kk H locs ls' hW hn hS h')
theorem ke_dup (hk : kx p R s m args meth c cc nL own fr lo kc sc z) {v : Value} (hd : decode cc pc = .ok (.dup, 1)) (hv : v.category = 1) (kk : ke p l e R s m args below meth c G Q nL z k n E (pc + 1) lv (v :: v :: st)) : ke p l e R s m args below meth c G Q nL z k n E pc lv (v :: st) :=
  fun H locs ls hW hn hS hl => lv_dup hk.1.1 hk.1.2.1 hd hv (kk H locs ls hW hn hS hl)
theorem ke_goto (hk : kx p R s m args meth c cc nL own fr lo kc sc z) {off : Int} {tgt : Nat} (hd : decode cc pc = .ok (.goto off, 3)) (ht : (pc : Int) + off = (tgt : Int)) (kk : ke p l e R s m args below meth c G Q nL z k n E tgt lv st) : ke p l e R s m args below meth c G Q nL z k n E pc lv st :=
  fun H locs ls hW hn hS hl => lv_goto hk.1.1 hk.1.2.1 hd ht (kk H locs ls hW hn hS hl)
theorem ke_ifeqT (hk : kx p R s m args meth c cc nL own fr lo kc sc z) {off : Int} {x : Int32} (tgt : Nat) (hd : decode cc pc = .ok (.ifCond .eq off, 3)) (ht : (pc : Int) + off = (tgt : Int)) (hb : x = 0) (kk : ke p l e R s m args below meth c G Q nL z k n E tgt lv st) : ke p l e R s m args below meth c G Q nL z k n E pc lv (.int x :: st) :=
  fun H locs ls hW hn hS hl => lv_if_eq hk.1.1 hk.1.2.1 hd ht (fun _ => kk H locs ls hW hn hS hl) (fun h => absurd hb h)
theorem ke_ifneF (hk : kx p R s m args meth c cc nL own fr lo kc sc z) {off : Int} {x : Int32} (tgt : Nat) (hd : decode cc pc = .ok (.ifCond .ne off, 3)) (ht : (pc : Int) + off = (tgt : Int)) (hb : x = 0) (kk : ke p l e R s m args below meth c G Q nL z k n E (pc + 3) lv st) : ke p l e R s m args below meth c G Q nL z k n E pc lv (.int x :: st) :=
  fun H locs ls hW hn hS hl => lv_if_ne hk.1.1 hk.1.2.1 hd ht (fun h => absurd hb h) (fun _ => kk H locs ls hW hn hS hl)
theorem ke_icmpgeT (hk : kx p R s m args meth c cc nL own fr lo kc sc z) {off : Int} {x y : Int32} (tgt : Nat) (hd : decode cc pc = .ok (.if_icmp .ge off, 3)) (ht : (pc : Int) + off = (tgt : Int)) (hb : y ≤ x) (kk : ke p l e R s m args below meth c G Q nL z k n E tgt lv st) : ke p l e R s m args below meth c G Q nL z k n E pc lv (.int y :: .int x :: st) :=
  fun H locs ls hW hn hS hl => lv_icmp_ge hk.1.1 hk.1.2.1 hd ht (fun _ => kk H locs ls hW hn hS hl) (fun h => absurd hb h)
theorem ke_icmpgeF (hk : kx p R s m args meth c cc nL own fr lo kc sc z) {off : Int} {x y : Int32} (tgt : Nat) (hd : decode cc pc = .ok (.if_icmp .ge off, 3)) (ht : (pc : Int) + off = (tgt : Int)) (hb : ¬ y ≤ x) (kk : ke p l e R s m args below meth c G Q nL z k n E (pc + 3) lv st) : ke p l e R s m args below meth c G Q nL z k n E pc lv (.int y :: .int x :: st) :=
  fun H locs ls hW hn hS hl => lv_icmp_ge hk.1.1 hk.1.2.1 hd ht (fun h => absurd h hb) (fun _ => kk H locs ls hW hn hS hl)
theorem ke_norm (h : E = E') (kk : ke p l e R s m args below meth c G Q nL z k n E' pc lv st) : ke p l e R s m args below meth c G Q nL z k n E pc lv st := by rw [h]; exact kk
theorem ke_num {k1 n1 : Nat} (h1 : k = k1) (h2 : n = n1) (kk : ke p l e R s m args below meth c G Q nL z k1 n1 E pc lv st) : ke p l e R s m args below meth c G Q nL z k n E pc lv st := by rw [h1, h2]; exact kk
/-- a step of the kit that writes and makes nothing -/
theorem ke_step (hk : kx p R s m args meth c cc nL own fr lo kc sc z) (hH : cH G KK) (kk : ke p l e R s m args below meth c G Q nL z k n E' pc' lv' st') (row : ∀ (H : Heap) (locs : List Loc) (ls : Array Slot), va_P (hD G) jcl E H → va_D (hA G) E → va_S (hA G) s.heap H locs → va_S (hA G) H H locs → lv_has ls nL lv → (∀ (H1 : Heap) (locs1 : List Loc), va_P (hD G) jcl E' H1 → va_D (hA G) E' → va_S (hA G) H H1 locs1 → W p l e R s m args below meth c H1 locs1 k n Q (F0 m pc' ls st')) → W p l e R s m args below meth c H locs k n Q (F0 m pc ls st)) (hlv : lv' = lv) : ke p l e R s m args below meth c G Q nL z k n E pc lv st := by
  subst hlv
  intro H locs ls hW hn hS hl
  refine row H locs ls hW.1 hW.2.1 hS ⟨Nat.le_refl _, fun _ _ _ => rfl, hS.2.2⟩ hl (fun H1 locs1 hP1 hD1 hS1 => ?_)
  intro T hT X
  have hup : T.heap.size ≤ s.heap.size + k := X.heapSize
  rw [hT, hk.2.2.2.2.2] at hup
  have hsz : H1.size = z + k := by have h1 := hS1.1; rw [hn] at h1; omega
  exact kk H1 locs1 ls ⟨hP1, hD1, hH.2.2.1 H H1 hS1.1 hS1.2.1 hW.2.2⟩ hsz ⟨Nat.le_trans hS.1 hS1.1, fun q h1 h2 => (hS1.2.1 q (Nat.lt_of_lt_of_le h1 hS.1) h2).trans (hS.2.1 q h1 h2), hS1.2.2⟩ hl T hT X
theorem ke_put (hk : kx p R s m args meth c cc nL own fr lo kc sc z) (hH : cH G KK) (hK : KK s) {C ref : String} {T : u_T} {N ci i index q q0 : Nat} {v : Value} {ty : FieldType} {fs : List Value} (hin : ∀ w ∈ u_ws C T N, w ∈ lw_all) (ty0 : Nat → FieldType) (hty : ∀ k, k < N → parseFieldDescriptor (T k).2.2.1 = some (ty0 k)) (hnm : ∀ a, a < N → ∀ b, b < N → a ≠ b → (T a).2.1 ≠ (T b).2.1) (hc : jcl[ci]? = some (C, T, N)) (he : E[q0]? = some (q, .inr (ci, fs))) (hi : i < N) (hlink : Cond.fieldLink own index ref (T i).2.1 (T i).2.2.1 ∈ lw_all) (href : ref = (T i).1) (hfin : (T i).2.2.2 = false) (htyk : parseFieldDescriptor (T i).2.2.1 = some ty) (hnar : narrow ty v = v) (hfit : fits ty v = true) (hl2 : i < fs.length) (hd : decode cc pc = .ok (.putfield index, 3)) (kk : ke p l e R s m args below meth c G Q nL z k n (E.set q0 (q, .inr (ci, fs.set i v))) (pc + 3) lv st) : ke p l e R s m args below meth c G Q nL z k n E pc lv (v :: .ref q :: st) :=
  ke_step hk hH kk (fun H locs ls hP hD _ hS hl go => va_put hk.1.1 hk.1.2.1 hk.1.2.2.2.2 hin ty0 hty hnm hk.1.2.2.2.1 (hH.2.1 s hK).1 hP hD hS q0 he hc i hi (hk.1.2.2.2.2 _ hlink) (fun _ h => by rw [href]; exact h) hfin htyk hnar hfit hl2 hd (fun H1 locs1 h1 h2 h3 => go H1 locs1 h1 h2 h3)) rfl
theorem ke_putF (hk : kx p R s m args meth c cc nL own fr lo kc sc z) (hH : cH G KK) (hK : KK s) {C ref : String} {T : u_T} {N ci i index q q0 : Nat} {v : Value} {ty : FieldType} {fs : List Value} (hin : ∀ w ∈ u_ws C T N, w ∈ lw_all) (ty0 : Nat → FieldType) (hty : ∀ k, k < N → parseFieldDescriptor (T k).2.2.1 = some (ty0 k)) (hnm : ∀ a, a < N → ∀ b, b < N → a ≠ b → (T a).2.1 ≠ (T b).2.1) (hc : jcl[ci]? = some (C, T, N)) (he : E[q0]? = some (q, .inr (ci, fs))) (hi : i < N) (hlink : Cond.fieldLink own index ref (T i).2.1 (T i).2.2.1 ∈ lw_all) (href : ref = (T i).1) (hfin : (T i).2.2.2 = true) (hdecl : (T i).1 = own) (htyk : parseFieldDescriptor (T i).2.2.1 = some ty) (hnar : narrow ty v = v) (hfit : fits ty v = true) (hl2 : i < fs.length) (hd : decode cc pc = .ok (.putfield index, 3)) (kk : ke p l e R s m args below meth c G Q nL z k n (E.set q0 (q, .inr (ci, fs.set i v))) (pc + 3) lv st) : ke p l e R s m args below meth c G Q nL z k n E pc lv (v :: .ref q :: st) :=
  ke_step hk hH kk (fun H locs ls hP hD _ hS hl go => va_putF hk.1.1 hk.1.2.1 hk.1.2.2.2.2 hin ty0 hty hnm hk.1.2.2.2.1 (hH.2.1 s hK).1 hP hD hS q0 he hc i hi (hk.1.2.2.2.2 _ hlink) (fun _ h => by rw [href]; exact h) hfin hk.2.2.2.2.1 hdecl htyk hnar hfit hl2 hd (fun H1 locs1 h1 h2 h3 => go H1 locs1 h1 h2 h3)) rfl
theorem ke_get (hk : kx p R s m args meth c cc nL own fr lo kc sc z) (hH : cH G KK) (hK : KK s) {C ref : String} {T : u_T} {N ci i index q q0 : Nat} {v : Value} {fs : List Value} (hin : ∀ w ∈ u_ws C T N, w ∈ lw_all) (hc : jcl[ci]? = some (C, T, N)) (he : E[q0]? = some (q, .inr (ci, fs))) (hi : i < N) (hlink : Cond.fieldLink own index ref (T i).2.1 (T i).2.2.1 ∈ lw_all) (href : ref = (T i).1) (hv : fs[i]? = some v) (hd : decode cc pc = .ok (.getfield index, 3)) (kk : ke p l e R s m args below meth c G Q nL z k n E (pc + 3) lv (v :: st)) : ke p l e R s m args below meth c G Q nL z k n E pc lv (.ref q :: st) :=
  fun H locs ls hW hn hS hl => va_get hk.1.1 hk.1.2.1 hk.1.2.2.2.2 hin hk.1.2.2.2.1 (hH.2.1 s hK).1 hW.1 q0 he hc i hi (hk.1.2.2.2.2 _ hlink) (fun _ h => by rw [href]; exact h) hv hd (kk H locs ls hW hn hS hl)
theorem ke_iast (hk : kx p R s m args meth c cc nL own fr lo kc sc z) (hH : cH G KK) (hK : KK s) {q q0 N : Nat} {f : Nat → Int32} {i x : Int32} (he : E[q0]? = some (q, .inl (hT G 0, N, .inl f))) (hin : vp_in i N) (hd : decode cc pc = .ok (.iastore, 1)) (kk : ke p l e R s m args below meth c G Q nL z k n (E.set q0 (q, .inl (hT G 0, N, .inl (upd f i.toNatClampNeg x)))) (pc + 1) lv st) : ke p l e R s m args below meth c G Q nL z k n E pc lv (.int x :: .int i :: .ref q :: st) :=
  ke_step hk hH kk (fun H locs ls hP hD _ hS hl go => va_iast hk.1.1 hk.1.2.1 (hH.2.1 s hK).1 hP hD hS q0 0 he rfl hin hd (fun H1 locs1 h1 h2 h3 => go H1 locs1 h1 h2 h3)) rfl
/-- a shelf laid into an array of shelves -/
theorem ke_astS (hk : kx p R s m args meth c cc nL own fr lo kc sc z) (hH : cH G KK) (hK : KK s) {q q0 qk v N : Nat} {f : Nat → Option Nat} {vs : List Value} {i : Int32} (he : E[q0]? = some (q, .inl (hT G 7, N, .inr (.inr (.inr (.inr f)))))) (hv : E[qk]? = some (v, .inr (4, vs))) (hin : vp_in i N) (hd : decode cc pc = .ok (.aastore, 1)) (kk : ke p l e R s m args below meth c G Q nL z k n (E.set q0 (q, .inl (hT G 7, N, .inr (.inr (.inr (.inr (va_up f i.toNatClampNeg (some v)))))))) (pc + 1) lv st) : ke p l e R s m args below meth c G Q nL z k n E pc lv (.ref v :: .int i :: .ref q :: st) :=
  ke_step hk hH kk (fun H locs ls hP hD _ hS hl go => va_astq hk.1.1 hk.1.2.1 (hH.2.1 s hK).1 hP hD hS q0 7 qk 4 (r := (RX5, TX5, 1)) he rfl hv rfl hin hd (fun H1 locs1 h1 h2 h3 => go H1 locs1 h1 h2 h3)) rfl
/-- a text laid into an array of texts -/
theorem ke_astT (hk : kx p R s m args meth c cc nL own fr lo kc sc z) (hH : cH G KK) (hK : KK s) (hX0 : hX G s.heap) {q q0 N j : Nat} {f : Nat → Option Nat} {i : Int32} (hj : j < 21) (he : E[q0]? = some (q, .inl (hT G 6, N, .inr (.inr (.inr (.inr f)))))) (hin : vp_in i N) (hd : decode cc pc = .ok (.aastore, 1)) (kk : ke p l e R s m args below meth c G Q nL z k n (E.set q0 (q, .inl (hT G 6, N, .inr (.inr (.inr (.inr (va_up f i.toNatClampNeg (some (hs G j))))))))) (pc + 1) lv st) : ke p l e R s m args below meth c G Q nL z k n E pc lv (.ref (hs G j) :: .int i :: .ref q :: st) :=
  ke_step hk hH kk (fun H locs ls hP hD hS0 hS hl go => vb_astq (E := "java/lang/String") (C := "java/lang/String") hk.1.1 hk.1.2.1 (hH.2.1 s hK).1 hP hD hS q0 6 he rfl (vk_recv (hH.2.2.2.2.1 s s.heap hK hX0).1 hj hS0) (fun a b h1 h2 => by rw [h1] at h2; cases h2; exact Vm.assignable_self _ _) hin hd (fun H1 locs1 h1 h2 h3 => go H1 locs1 h1 h2 h3)) rfl
theorem ke_ldc (hk : kx p R s m args meth c cc nL "LeftUndoes" fr lo kc sc z) (hH : cH G KK) (hK : KK s) (i : Nat) {index : Nat} (hi : i < 21) (hx : ixS.getD i 0 = index) (hd : decode cc pc = .ok (.ldc index, 2)) (kk : ke p l e R s m args below meth c G Q nL z k n E (pc + 2) lv (.ref (hs G i) :: st)) : ke p l e R s m args below meth c G Q nL z k n E pc lv st :=
  fun H locs ls hW hn hS hl => by
    have hR := (hH.2.2.2.2.2 s hK).1 i hi
    rw [hx] at hR
    intro T hT X
    obtain ⟨t, a1, b1⟩ := kk H locs ls hW hn hS hl T hT X
    exact ⟨t, X.ldcString hk.1.1 hk.1.2.2.2.1 (text := txS.getD i "") (a := hs G i) hR.1 hR.2 (g := F0 m pc ls st) rfl (by rw [hk.1.2.1]; exact hd) t a1, b1⟩
theorem ke_gets (hk : kx p R s m args meth c cc nL own fr lo kc sc z) {C nm ds ref : String} {index : Nat} (hZ : vx_Zq C nm ds (hA G) s s.heap) (hlink : Cond.fieldLink own index ref nm ds ∈ lw_all) (href : ref = C) (hd : decode cc pc = .ok (.getstatic index, 3)) (kk : ∀ f, ke p l e R s m args below meth c G Q nL z k n E (pc + 3) lv (va_rf f :: st)) : ke p l e R s m args below meth c G Q nL z k n E pc lv st :=
  fun H locs ls hW hn hS hl => by
    rcases hZ.1 with h | ⟨t, h⟩
    · exact va_gets hk.1.1 hk.1.2.1 h hS hk.1.2.2.2.1 (hk.1.2.2.2.2 _ hlink) (fun _ h => by rw [href]; exact h) hd (kk none H locs ls hW hn hS hl)
    · exact va_gets hk.1.1 hk.1.2.1 h hS hk.1.2.2.2.1 (hk.1.2.2.2.2 _ hlink) (fun _ h => by rw [href]; exact h) hd (kk (some t) H locs ls hW hn hS hl)
theorem ke_objInit (hk : kx p R s m args meth c cc nL own fr lo kc sc z) {idx q : Nat} (hlk : Cond.methodLink own idx Lib.objectInit ∈ lw_all) (hins : Cond.instanceMethod Lib.objectInit ∈ lw_all) (hcd : Cond.code Lib.objectInit ⟨#[0xb1]⟩ 1 none ∈ lw_all) (hd : decode cc pc = .ok (.invokespecial idx, 3)) (hr : 1 ≤ fr ∧ 40 ≤ lo) (hw : (st.map fun v => v.category).sum ≤ 8) (kk : ke p l e R s m args below meth c G Q nL z k n E (pc + 3) lv st) : ke p l e R s m args below meth c G Q nL z k n E pc lv (.ref q :: st) :=
  fun H locs ls hW hn hS hl => W.objInit hk.1.1 hk.1.2.1 hk.1.2.2.2.1 (hk.1.2.2.2.2 _ hlk) (hk.1.2.2.2.2 _ hins) (hk.1.2.2.2.2 _ hcd) rfl (by rw [hk.1.2.2.1]; exact hl.1) rfl hd (by rw [hk.2.1]; exact hr.1) (by rw [hk.2.1]; show _ ≤ lo; have := lv_room (m := m) (pc := pc) (ls := ls) (rest := .ref q :: st) hw; omega) (kk H locs ls hW hn hS hl)
theorem ke_new (hk : kx p R s m args meth c cc nL own fr lo kc sc z) (hH : cH G KK) (hK : KK s) {C : String} {T : u_T} {N ci index : Nat} (fs : List Value) (hin : ∀ w ∈ u_ws C T N, w ∈ lw_all) (ty : Nat → FieldType) (hty : ∀ k, k < N → parseFieldDescriptor (T k).2.2.1 = some (ty k)) (hcl : Cond.classLink own index C ∈ lw_all) (hins : Cond.instantiable C N ∈ lw_all) (hini : Cond.initialized C ∈ lw_all) (hc : jcl[ci]? = some (C, T, N)) (hfs : ∀ j, j < N → defaultValue (ty j) = vp_V fs j) (hkc : k + 1 ≤ kc) (hsc : n + N ≤ sc) (hd : decode cc pc = .ok (.new index, 3)) (kk : ke p l e R s m args below meth c G Q nL z (k + 1) (n + N) (E ++ [(z + k, .inr (ci, fs))]) (pc + 3) lv (.ref (z + k) :: st)) : ke p l e R s m args below meth c G Q nL z k n E pc lv st := by
  intro H locs ls hW hn hS hl
  have hKn := (hH.2.1 s hK).1.1 ci _ hc
  refine W.newcK hk.1.1 hk.1.2.1 hk.1.2.2.2.1 (hk.1.2.2.2.2 _ hcl) (hk.1.2.2.2.2 _ hins) (hk.1.2.2.2.2 _ hini) rfl hd (by rw [hk.2.1]; exact hkc) (by rw [hk.2.1]; exact hsc) hKn.2.1 hn fun H1 kC hkC e1 z1 o1 => ?_
  have hq : ∀ (k : Nat) (x : Nat × va_E), E[k]? = some x → H1[x.1]? = H[x.1]? := fun k x hx => o1 x.1 (by have h := (hW.1 k x hx).lt; rw [hn] at h; exact h)
  have hfresh : hA G (z + k) := hH.2.2.2.1 H _ hW.2.2 (Nat.le_of_eq hn)
  have hkeep : ∀ q, q < H.size → H1[q]? = H[q]? := fun q h => o1 q (by rw [hn] at h; exact h)
  have hgrow : H.size ≤ H1.size := by rw [z1, hn]; exact Nat.le_succ _
  exact kk H1 locs ls ⟨(hW.1.kept hq).app (fun k x hx => by
      have hz1 : k < 1 := (List.getElem?_eq_some_iff.mp hx).1
      rw [show k = 0 by omega] at hx
      cases hx
      exact ⟨_, hc, (u_born ty hk.1.2.2.2.2 hin hKn hkC e1 hty).to hfs⟩), hW.2.1.push hW.1 hn.symm hfresh, hH.2.2.1 H H1 hgrow (fun q h _ => hkeep q h) hW.2.2⟩ z1 ⟨Nat.le_trans hS.1 hgrow, fun q h1 h2 => (hkeep q (Nat.lt_of_lt_of_le h1 hS.1)).trans (hS.2.1 q h1 h2), hS.2.2⟩ hl
theorem ke_born (hH : cH G KK) (a : va_E) (kk : ke p l e R s m args below meth c G Q nL z (k + 1) n (E ++ [(z + k, a)]) pc lv st) {H H1 : Heap} {locs : List Loc} {ls : Array Slot} (hW : kS G E H) (hn : H.size = z + k) (hS : va_S (hA G) s.heap H locs) (hl : lv_has ls nL lv) (z1 : H1.size = z + k + 1) (o1 : ∀ q, q < z + k → H1[q]? = H[q]?) (ha : va_at (hD G) jcl (z + k, a) H1) : W p l e R s m args below meth c H1 locs (k + 1) n Q (F0 m pc ls st) := by
  have hq : ∀ (k : Nat) (x : Nat × va_E), E[k]? = some x → H1[x.1]? = H[x.1]? := fun k x hx => o1 x.1 (by have h := (hW.1 k x hx).lt; rw [hn] at h; exact h)
  have hfresh : hA G (z + k) := hH.2.2.2.1 H _ hW.2.2 (Nat.le_of_eq hn)
  have hkeep : ∀ q, q < H.size → H1[q]? = H[q]? := fun q h => o1 q (by rw [hn] at h; exact h)
  have hgrow : H.size ≤ H1.size := by rw [z1, hn]; exact Nat.le_succ _
  exact kk H1 locs ls ⟨(hW.1.kept hq).app (fun k x hx => by
      have hz1 : k < 1 := (List.getElem?_eq_some_iff.mp hx).1
      rw [show k = 0 by omega] at hx
      cases hx
      exact ha), hW.2.1.push hW.1 hn.symm hfresh, hH.2.2.1 H H1 hgrow (fun q h _ => hkeep q h) hW.2.2⟩ z1 ⟨Nat.le_trans hS.1 hgrow, fun q h1 h2 => (hkeep q (Nat.lt_of_lt_of_le h1 hS.1)).trans (hS.2.1 q h1 h2), hS.2.2⟩ hl
theorem ke_newI (hk : kx p R s m args meth c cc nL own fr lo kc sc z) (hH : cH G KK) (hK : KK s) {i : Int32} {N : Nat} (hi : ¬ i < 0) (hN : i.toNatClampNeg = N) (hN2 : N * 8 ≤ 536870912) (hkc : k + 1 ≤ kc) (hsc : n + N ≤ sc) (hd : decode cc pc = .ok (.newarray .int, 2)) (kk : ke p l e R s m args below meth c G Q nL z (k + 1) (n + N) (E ++ [(z + k, .inl (hT G 0, N, .inl (fun _ => 0)))]) (pc + 2) lv (.ref (z + k) :: st)) : ke p l e R s m args below meth c G Q nL z k n E pc lv (.int i :: st) := by
  intro H locs ls hW hn hS hl
  refine va_newaK (N := N) hk.1.1 hk.1.2.1 (atype := .int) (hk.1.2.2.2.2 _ q359) rfl hd rfl hi hN ?_ (by rw [hk.2.1]; exact hkc) (by rw [hk.2.1]; exact hsc) hn fun H1 cA e1 z1 o1 hAr hNm => ?_
  · have : componentBytes (newarray.typeOf .int) ≤ 8 := by decide
    exact Nat.le_trans (Nat.mul_le_mul_left N this) hN2
  have hcA : cA = hT G 0 := Option.some.inj (hNm.symm.trans ((hH.2.1 s hK).1.2 0 (hT G 0, .int) rfl).2)
  exact ke_born hH _ kk hW hn hS hl z1 o1 (by show H1[z + k]? = some _; rw [e1, hcA]; rfl)
theorem ke_newB (hk : kx p R s m args meth c cc nL own fr lo kc sc z) (hH : cH G KK) (hK : KK s) {i : Int32} {N : Nat} (hi : ¬ i < 0) (hN : i.toNatClampNeg = N) (hN2 : N * 8 ≤ 536870912) (hkc : k + 1 ≤ kc) (hsc : n + N ≤ sc) (hd : decode cc pc = .ok (.newarray .byte, 2)) (kk : ke p l e R s m args below meth c G Q nL z (k + 1) (n + N) (E ++ [(z + k, .inl (hT G 1, N, .inl (fun _ => 0)))]) (pc + 2) lv (.ref (z + k) :: st)) : ke p l e R s m args below meth c G Q nL z k n E pc lv (.int i :: st) := by
  intro H locs ls hW hn hS hl
  refine va_newaK (N := N) hk.1.1 hk.1.2.1 (atype := .byte) (hk.1.2.2.2.2 _ q395) rfl hd rfl hi hN ?_ (by rw [hk.2.1]; exact hkc) (by rw [hk.2.1]; exact hsc) hn fun H1 cA e1 z1 o1 hAr hNm => ?_
  · have : componentBytes (newarray.typeOf .byte) ≤ 8 := by decide
    exact Nat.le_trans (Nat.mul_le_mul_left N this) hN2
  have hcA : cA = hT G 1 := Option.some.inj (hNm.symm.trans ((hH.2.1 s hK).1.2 1 (hT G 1, .byte) rfl).2)
  exact ke_born hH _ kk hW hn hS hl z1 o1 (by show H1[z + k]? = some _; rw [e1, hcA]; rfl)
theorem ke_newR (hk : kx p R s m args meth c cc nL own fr lo kc sc z) (hH : cH G KK) (hK : KK s) {i : Int32} {N index : Nat} (C : String) (t0 : Nat) {cT : ClassId} (hC : C ∈ cAO) (ht : (ctys G)[t0]? = some (cT, .object C)) (hcl : Cond.classLink own index C ∈ lw_all) (hi : ¬ i < 0) (hN : i.toNatClampNeg = N) (hN2 : N * 4 ≤ 536870912) (hkc : k + 1 ≤ kc) (hsc : n + N ≤ sc) (hd : decode cc pc = .ok (.anewarray index, 3)) (kk : ke p l e R s m args below meth c G Q nL z (k + 1) (n + N) (E ++ [(z + k, .inl (cT, N, .inr (.inr (.inr (.inr (fun _ => none))))))]) (pc + 3) lv (.ref (z + k) :: st)) : ke p l e R s m args below meth c G Q nL z k n E pc lv (.int i :: st) := by
  subst hN
  intro H locs ls hW hn hS hl
  refine W.anew hk.1.1 hk.1.2.1 hk.1.2.2.2.1 (hk.1.2.2.2.2 _ hcl) (va_AO.use ((hH.2.1 s hK).2.2 C hC)) rfl hd rfl hi hN2 (by rw [hk.2.1]; exact hkc) (by rw [hk.2.1]; exact hsc) fun cA kA comp f1 f2 f3 f4 => ?_
  generalize hH1 : H.push ({ cls := cA, slots := Array.replicate i.toNatClampNeg .null, vm := .none } : Cell) = H1
  have hcA : cA = cT := by
    obtain ⟨-, kA', comp', -, -, -, f9⟩ := (hH.2.1 s hK).1.2 t0 (cT, .object C) ht
    exact Option.some.inj (f1.symm.trans f9)
  have z1 : H1.size = z + k + 1 := by rw [← hH1, Array.size_push, hn]
  have e1 : H1[z + k]? = some (arrV cA i.toNatClampNeg (fun _ => .null)) := by rw [← hn, ← hH1, Array.getElem?_push_size, ← arrV_new]
  have o1 : ∀ q : Nat, q < z + k → H1[q]? = H[q]? := fun q hq => by rw [← hH1, Array.getElem?_push, if_neg (Nat.ne_of_lt (by rw [hn]; exact hq))]
  have := ke_born hH _ kk hW hn hS hl z1 o1 (by show H1[z + k]? = some _; rw [e1, hcA]; rfl)
  rw [hn]
  exact this
/-- the address behind all of a world's -/
theorem kS_lt {G : cG} {E : va_W} {H : Heap} (h : kS G E H) (k : Nat) (x : Nat × va_E) (hx : E[k]? = some x) : x.1 < H.size := (h.1 k x hx).lt
theorem ke_retV (hk : kx p R s m args meth c cc nL own fr lo kc sc z) (hd : decode cc pc = .ok (.return_, 1)) : ke p l e R s m args below meth c G (MQ below (kQ G E z kc) args s kc sc (hA G)) nL z kc sc E pc lv [] :=
  fun H locs ls hW hn hS hl => W.vret hk.1.1 hk.1.2.1 hk.2.2.1 (fun t ht hWm => ⟨⟨rfl, by rw [ht]; exact hW, by rw [ht]; exact hn⟩, hS.F ht⟩) hS.2.2 hd hk.2.2.2.1
theorem kblind {G : cG} {KK : State → Prop} (hA' : jA KK) {av : List Value} {E : va_W} {z : Nat} : FrameBlind (va_Pc av (fun U => kS G E U.heap ∧ U.heap.size = z ∧ KK U)) :=
  fun a U g mk q => ⟨q.1, q.2.1, q.2.2.1, hA' U (U.calling g mk a) (State.WarmedH.refl U) q.2.2.2⟩
/-- behind a constructor's call: the callee saw the last cells alone -/
theorem ke_run {kc1 sc1 q : Nat} {E0 E1 E2 : va_W} {av : List Value} {st0 : List Value} (hH : cH G KK) (hK : KK s)
    (hE0 : ∀ (H : Heap), kS G (E0 ++ E1) H → H.size = z + k → ∀ x ∈ E0, x.1 < q) (hE1 : ∀ x ∈ E1, q ≤ x.1) (hq : ∀ (H : Heap), kS G (E0 ++ E1) H → H.size = z + k → q ≤ H.size)
    (hrun : ∀ (H : Heap) (locs : List Loc) (ls : Array Slot), kS (gz G q) E1 H → H.size = z + k → lv_has ls nL lv → va_Run p l e R s m args below meth c H locs k n kc1 sc1 (F0 m pc ls st0) st (kQ (gz G q) E2 (z + k) kc1 av.toArray) (hA (gz G q)))
    (kk : ke p l e R s m args below meth c G Q nL z (k + kc1) (n + sc1) (E0 ++ E2) (pc + 3) lv st) : ke p l e R s m args below meth c G Q nL z k n (E0 ++ E1) pc lv st0 := by
  intro H locs ls hW hn hS hl
  have hW1 : kS (gz G q) E1 H := by
    refine ⟨fun i x hx => hW.1 (E0.length + i) x (by rw [List.getElem?_append_right (Nat.le_add_right _ _), Nat.add_sub_cancel_left]; exact hx), ⟨fun i j a b hi hj hab => ?_, fun i x hx => ⟨hE1 x (List.mem_of_getElem? hx), hW.2.1.2 (E0.length + i) x (by rw [List.getElem?_append_right (Nat.le_add_right _ _), Nat.add_sub_cancel_left]; exact hx)⟩⟩, hW.2.2, hq H hW hn⟩
    have := hW.2.1.1 (E0.length + i) (E0.length + j) a b (by rw [List.getElem?_append_right (Nat.le_add_right _ _), Nat.add_sub_cancel_left]; exact hi) (by rw [List.getElem?_append_right (Nat.le_add_right _ _), Nat.add_sub_cancel_left]; exact hj) hab
    omega
  have hlt := hE0 H hW hn
  intro T hT X
  obtain ⟨v', st₀, t, T', L, h0, X', hL, e1, e2, ⟨⟨ho, hW2, hz2⟩, hzz, hkk⟩, st'⟩ := hrun H locs ls hW1 hn hl T hT X
  cases ho
  rw [h0] at hzz hkk
  have hag : ∀ x ∈ E0, t.heap[x.1]? = H[x.1]? := fun x hx => hkk x.1 (by obtain ⟨i, hi⟩ := List.getElem?_of_mem hx; exact (hW.1 i x (by rw [List.getElem?_append_left (List.getElem?_eq_some_iff.mp hi).1]; exact hi)).lt) (fun h => absurd (hlt x hx) (Nat.not_lt.mpr h.1))
  have hP0 : va_P (hD G) jcl E0 t.heap := fun i x hx => (hW.1 i x (by rw [List.getElem?_append_left (List.getElem?_eq_some_iff.mp hx).1]; exact hx)).kept (hag x (List.mem_of_getElem? hx))
  have hD0 : va_D (hA G) E0 := ⟨fun i j a b hi hj hab => hW.2.1.1 i j a b (by rw [List.getElem?_append_left (List.getElem?_eq_some_iff.mp hi).1]; exact hi) (by rw [List.getElem?_append_left (List.getElem?_eq_some_iff.mp hj).1]; exact hj) hab, fun i x hx => hW.2.1.2 i x (by rw [List.getElem?_append_left (List.getElem?_eq_some_iff.mp hx).1]; exact hx)⟩
  have hD2 : va_D (hA G) E2 := hW2.2.1.weaken (fun _ _ _ h => h.2)
  have hWn : kS G (E0 ++ E2) t.heap := ⟨hP0.app hW2.1, hD0.app hD2 (fun i j a b hi hj hab => by
      have h1 := hlt a (List.mem_of_getElem? hi)
      have h2 := (hW2.2.1.2 j b hj).1
      omega), hW2.2.2.1⟩
  obtain ⟨t2, a2, b2⟩ := kk T'.heap (locs ++ L) ls (by rw [e1]; exact hWn) (by rw [e1, hz2, Nat.add_assoc]) ⟨Nat.le_trans hS.1 (by rw [e1]; exact hzz), fun q h1 h2 => by rw [e1, hkk q (Nat.lt_of_lt_of_le h1 hS.1) (fun h => h2 h.2)]; exact hS.2.1 q h1 h2, fun q hq => by
      rcases List.mem_append.mp hq with h | h
      · exact hS.2.2 q h
      · exact (hL q h).2⟩ hl T' rfl X'
  exact ⟨t2, st' t2 a2, b2⟩
/-- a constructor of a new object (the last cell) is called -/
theorem ke_I (hk : kx p R s m args meth c cc nL own fr lo kc sc z) (hH : cH G KK) (hK : KK s) {y : MethodName} {bytes : ByteArray} {kc1 sc1 k' nLc frc loc idx np : Nat} {a : va_E} {E0 E2 : va_W} (As : List Value) {st0 : List Value} (hkk : k = k' + 1)
    (hM : kM l y (ws_ y bytes nLc none) frc loc (.ref (z + k') :: As) (gz G (z + k')) KK [(z + k', a)] E2 (z + k) kc1 sc1)
    (hcd : Cond.code y bytes nLc none ∈ lw_all) (hini : Cond.initialized y.cls ∈ lw_all) (hlk : Cond.methodLink own idx y ∈ lw_all) (him : Cond.instanceMethod y ∈ lw_all) (hyn : y.name = "<init>") (hy : y.cls ≠ "java/lang/invoke/MethodHandle" ∧ y.cls ≠ "java/lang/invoke/VarHandle" ∧ (parseMethodDescriptor y.desc).map (fun d => d.parameters.length) = some np) (hlen : As.length = np) (hst : st0 = (As.reverse ++ .ref (z + k') :: st)) (hd : decode cc pc = .ok (.invokespecial idx, 3)) (hr : frc + 1 ≤ fr ∧ 8 + (nLc + 11) + loc ≤ lo) (hkc : k + kc1 ≤ kc) (hsc : n + sc1 ≤ sc) (hw : (st.map fun v => v.category).sum ≤ 8)
    (kk : ke p l e R s m args below meth c G Q nL z (k + kc1) (n + sc1) (E0 ++ E2) (pc + 3) lv st) : ke p l e R s m args below meth c G Q nL z k n (E0 ++ [(z + k', a)]) pc lv st0 := by
  subst hst
  subst hkk
  refine ke_run (q := z + k') (av := .ref (z + k') :: As) hH hK (fun H hW hn x hx => ?_) (fun x hx => by rw [List.mem_singleton.mp hx]; exact Nat.le_refl _) (fun H hW hn => by omega) (fun H locs ls hW hn hl => ?_) kk
  · obtain ⟨i, hi⟩ := List.getElem?_of_mem hx
    have hil := (List.getElem?_eq_some_iff.mp hi).1
    have h1 := kS_lt hW i x (by rw [List.getElem?_append_left hil]; exact hi)
    have h2 : x.1 ≠ z + k' := fun h => by
      have := hW.2.1.1 i E0.length x (z + k', a) (by rw [List.getElem?_append_left hil]; exact hi) (by rw [List.getElem?_append_right (Nat.le_refl _), Nat.sub_self]; rfl) h
      omega
    omega
  · exact va_runI (As := As) (rest := st) hk.1 hM (cwI np hk.1.2.2.2.2 (lw_meth hcd) rfl rfl rfl (hk.1.2.2.2.2 _ hini) (hk.1.2.2.2.2 _ hlk) (hk.1.2.2.2.2 _ him) hyn hy (by rw [hk.2.1]; exact hr)) ⟨kblind hH.1, fun U hU hWm => ⟨rfl, by rw [hU]; exact hW, by rw [hU]; exact hn, hH.1 _ _ hWm hK⟩⟩ rfl hlen hl.1 rfl (lv_room hw) hd (by rw [hk.2.1]; exact ⟨hkc, hsc⟩)
theorem ke_IN (hk : kx p R s m args meth c cc nL own fr lo kc sc z) (hH : cH G KK) (hK : KK s) {y : MethodName} {bytes : ByteArray} {kc1 sc1 k' nLc frc loc idx np : Nat} {a : va_E} {E0 E2 : va_W} (As : List Value) {st0 : List Value} (hkk : k = k' + 1)
    (hM : kM l y (ws_ y bytes nLc none) frc loc (.ref (z + k') :: As) (gz G (z + k')) KK [(z + k', a)] E2 (z + k) kc1 sc1)
    {host : String} (hcd : Cond.code y bytes nLc none ∈ lw_all) (hini : Cond.initialized y.cls ∈ lw_all) (hlk : Cond.methodLinkNest own idx y host ∈ cNw) (him : Cond.instanceMethod y ∈ lw_all) (hyn : y.name = "<init>") (hy : y.cls ≠ "java/lang/invoke/MethodHandle" ∧ y.cls ≠ "java/lang/invoke/VarHandle" ∧ (parseMethodDescriptor y.desc).map (fun d => d.parameters.length) = some np) (hlen : As.length = np) (hst : st0 = (As.reverse ++ .ref (z + k') :: st)) (hd : decode cc pc = .ok (.invokespecial idx, 3)) (hr : frc + 1 ≤ fr ∧ 8 + (nLc + 11) + loc ≤ lo) (hkc : k + kc1 ≤ kc) (hsc : n + sc1 ≤ sc) (hw : (st.map fun v => v.category).sum ≤ 8)
    (kk : ke p l e R s m args below meth c G Q nL z (k + kc1) (n + sc1) (E0 ++ E2) (pc + 3) lv st) : ke p l e R s m args below meth c G Q nL z k n (E0 ++ [(z + k', a)]) pc lv st0 := by
  subst hst
  subst hkk
  refine ke_run (q := z + k') (av := .ref (z + k') :: As) hH hK (fun H hW hn x hx => ?_) (fun x hx => by rw [List.mem_singleton.mp hx]; exact Nat.le_refl _) (fun H hW hn => by omega) (fun H locs ls hW hn hl => ?_) kk
  · obtain ⟨i, hi⟩ := List.getElem?_of_mem hx
    have hil := (List.getElem?_eq_some_iff.mp hi).1
    have h1 := kS_lt hW i x (by rw [List.getElem?_append_left hil]; exact hi)
    have h2 : x.1 ≠ z + k' := fun h => by
      have := hW.2.1.1 i E0.length x (z + k', a) (by rw [List.getElem?_append_left hil]; exact hi) (by rw [List.getElem?_append_right (Nat.le_refl _), Nat.sub_self]; rfl) h
      omega
    omega
  · exact va_runIN (As := As) (rest := st) hk.1 hM ⟨va_cnB np hk.1.2.2.2.2 (lw_meth hcd) rfl rfl rfl ((hH.2.1 s hK).2.1 _ hlk) (hk.1.2.2.2.2 _ hini) hy (by rw [hk.2.1]; exact hr), hyn, hk.1.2.2.2.2 _ him⟩ ⟨kblind hH.1, fun U hU hWm => ⟨rfl, by rw [hU]; exact hW, by rw [hU]; exact hn, hH.1 _ _ hWm hK⟩⟩ rfl hlen hl.1 rfl (lv_room hw) hd (by rw [hk.2.1]; exact ⟨hkc, hsc⟩)
/-- the constructor above, of the same object -/
theorem ke_super (hk : kx p R s m args meth c cc nL own fr lo kc sc z) (hH : cH G KK) (hK : KK s) {y : MethodName} {bytes : ByteArray} {q nLc frc loc idx np : Nat} {a a2 : va_E} (As : List Value) {st0 : List Value}
    (hM : kM l y (ws_ y bytes nLc none) frc loc (.ref q :: As) (gz G q) KK [(q, a)] [(q, a2)] (z + k) 0 0)
    (hcd : Cond.code y bytes nLc none ∈ lw_all) (hini : Cond.initialized y.cls ∈ lw_all) (hlk : Cond.methodLink own idx y ∈ lw_all) (him : Cond.instanceMethod y ∈ lw_all) (hyn : y.name = "<init>") (hy : y.cls ≠ "java/lang/invoke/MethodHandle" ∧ y.cls ≠ "java/lang/invoke/VarHandle" ∧ (parseMethodDescriptor y.desc).map (fun d => d.parameters.length) = some np) (hlen : As.length = np) (hst : st0 = (As.reverse ++ .ref q :: st)) (hd : decode cc pc = .ok (.invokespecial idx, 3)) (hr : frc + 1 ≤ fr ∧ 8 + (nLc + 11) + loc ≤ lo) (hkc : k + 0 ≤ kc) (hsc : n + 0 ≤ sc) (hw : (st.map fun v => v.category).sum ≤ 8)
    (kk : ke p l e R s m args below meth c G Q nL z k n [(q, a2)] (pc + 3) lv st) : ke p l e R s m args below meth c G Q nL z k n [(q, a)] pc lv st0 := by
  subst hst
  refine ke_run (E0 := []) (E1 := [(q, a)]) (E2 := [(q, a2)]) (kc1 := 0) (sc1 := 0) (q := q) (av := .ref q :: As) hH hK (fun H hW hn x hx => by cases hx) (fun x hx => by rw [List.mem_singleton.mp hx]; exact Nat.le_refl _) (fun H hW hn => Nat.le_of_lt (kS_lt hW 0 _ rfl)) (fun H locs ls hW hn hl => ?_) kk
  exact va_runI (As := As) (rest := st) hk.1 hM (cwI np hk.1.2.2.2.2 (lw_meth hcd) rfl rfl rfl (hk.1.2.2.2.2 _ hini) (hk.1.2.2.2.2 _ hlk) (hk.1.2.2.2.2 _ him) hyn hy (by rw [hk.2.1]; exact hr)) ⟨kblind hH.1, fun U hU hWm => ⟨rfl, by rw [hU]; exact hW, by rw [hU]; exact hn, hH.1 _ _ hWm hK⟩⟩ rfl hlen hl.1 rfl (lv_room hw) hd (by rw [hk.2.1]; exact ⟨hkc, hsc⟩)
end KE
theorem ke_start {l : Launch} {y : MethodName} {cc : ByteArray} {nL fr lo z kc sc : Nat} {av : List Value} {KK : State → Prop} {G : cG} {E E' : va_W} (lv0 : List (Nat × Value)) (hpl : plainName y.cls = true) (hyn : y.name = "<init>") (hl0 : (lg_sl av).length ≤ nL) (hlv : lv_args 0 av = lv0)
    (body : ∀ (p : Program) (e : Env) (R : Room) (s : State) (m : MethodId) (args : Array Value) (below : List Frame) (meth : Method) (c : Code), kx p R s m args meth c cc nL y.cls fr lo kc sc z → KK s → hX G s.heap → ke p l e R s m args below meth c G (MQ below (kQ G E' z kc) args s kc sc (hA G)) nL z 0 0 E 0 lv0 []) : kM l y (ws_ y cc nL none) fr lo av G KK E E' z kc sc := by
  refine Met.ofW (cc := cc) (maxL := nL) (ret := none) hpl rfl ?_
  intro p e s m args below meth c s₁ B hml hv
  obtain ⟨rfl, hWo, hsz, hK⟩ := hv
  have hts := atoms_spec (ws := ws_ y cc nL none) B.pre
  have hts : ∀ w ∈ lw_all, w.before _ s = true := fun w h => hts w (List.mem_cons_of_mem _ h)
  have hown : s.vm.findClass y.cls = some m.cls := findClass_of_methodNamed B.named
  have hl := lv_entry av (n := nL) hl0
  rw [lg_entry_eq]
  generalize (lg_sl av ++ List.replicate (nL - (lg_sl av).length) Slot.unset).toArray = ls at hl ⊢
  rw [hlv] at hl
  exact body p e ({ frames := fr, cells := kc, slots := sc, locals := lo } : Room) s m av.toArray below meth c ⟨⟨B.exec, B.bytes, hml, hown, hts⟩, rfl, B.returns, B.notSynchronized, (name_of_methodNamed B.named B.method).1.trans hyn, hsz⟩ hK hWo.2.2 s.heap [] ls hWo hsz va_S.rf hl
