/-! THE FRAME: jj: from this place, with this picture, the machine does what the pure text says. A row an instruction; no row asks for facts: all that must hold is asked by the pure text. -/
set_option maxRecDepth 100000
/-- a truth value as an int -/
def bI (b : Bool) : Int32 := if b then 1 else 0
theorem bI_t : bI true = 1 := rfl
theorem bI_f : bI false = 0 := rfl
theorem bI_0 (b : Bool) : (bI b = 0) ↔ b = false := by cases b <;> decide
/-- how a method ends: with an outcome and a picture that Ψ allows, the heap showing that picture -/
def jj_Q {S : Type} (Ψ : Outcome → S → Prop) (Wo : S → Heap → Prop) (nx : S → Nat) (A : Nat → Prop) : Array Value → State → Outcome → State → Prop := fun _ st o t => (∃ σ : S, Ψ o σ ∧ Wo σ t.heap ∧ t.heap.size = nx σ) ∧ va_F A st t
/-- the judgement: with the picture σ, at pc, with these locals and this stack -/
def jj (p : Program) (l : Launch) (e : Env) (R : Room) (s : State) (m : MethodId) (args : Array Value) (below : List Frame) (meth : Method) (c : Code) {S : Type} (A : Nat → Prop) (NX : Nat) (Q : State → Prop) (Wo : S → Heap → Prop) (nx : S → Nat) (nL : Nat) (σ : S) (pc : Nat) (lv : List (Nat × Value)) (st : List Value) (Z : Prop) : Prop :=
  Z → nx σ ≤ NX ∧ ∀ (H : Heap) (locs : List Loc) (ls : Array Slot), Wo σ H → H.size = nx σ → va_S A s.heap H locs → lv_has ls nL lv →
    W p l e R s m args below meth c H locs (nx σ - s.heap.size) (41 * (nx σ - s.heap.size)) Q (F0 m pc ls st)
/-- the end of a method that returns -/
def jZ (below : List Frame) (args : Array Value) (s : State) {S : Type} (A : Nat → Prop) (NX : Nat) (Ψ : Outcome → S → Prop) (Wo : S → Heap → Prop) (nx : S → Nat) : State → Prop := MQ below (jj_Q Ψ Wo nx A) args s (NX - s.heap.size) (41 * (NX - s.heap.size)) A
/-- what is fixed in a method's walk: the machine, its code, its room, its answer's type -/
def jk (p : Program) (R : Room) (s : State) (m : MethodId) (args : Array Value) (meth : Method) (c : Code) (NX : Nat) (cc : ByteArray) (nL : Nat) (own : String) (fr lo : Nat) (ret : Option FieldType) : Prop :=
  CallFix p m c cc nL s args lw_all own ∧ R = ({ frames := fr, cells := NX - s.heap.size, slots := 41 * (NX - s.heap.size), locals := lo } : Room) ∧ meth.sig.returnType = ret ∧ meth.locks = false
/-- a fact of the tables that stays while classes are linked -/
def jA (KK : State → Prop) : Prop := ∀ u U : State, u.WarmedH U.vm → KK u → KK U
/-- a method's contract in one world -/
def jM (l : Launch) (y : MethodName) (ws : List Cond) (fr lo : Nat) (av : List Value) {S : Type} (Wo : S → Heap → Prop) (nx : S → Nat) (KK : State → Prop) (σ : S) (Ψ : Outcome → S → Prop) (A : Nat → Prop) (NX : Nat) : Prop :=
  Met l y ws ({ frames := fr, cells := NX - nx σ, slots := 41 * (NX - nx σ), locals := lo } : Room) (va_Pc av (fun U => Wo σ U.heap ∧ U.heap.size = nx σ ∧ KK U)) (jj_Q Ψ Wo nx A) (NX - nx σ) (41 * (NX - nx σ)) A
section JJ
variable {p : Program} {l : Launch} {e : Env} {R : Room} {s : State} {m : MethodId} {args : Array Value} {below : List Frame} {meth : Method} {c : Code}
variable {S : Type} {A : Nat → Prop} {NX : Nat} {Ψ : Outcome → S → Prop} {Q : State → Prop} {Wo : S → Heap → Prop} {nx : S → Nat} {nL : Nat}
variable {cc : ByteArray} {own : String} {fr lo : Nat} {ret : Option FieldType}
variable {pc : Nat} {σ : S} {lv : List (Nat × Value)} {st : List Value} {Z : Prop}
theorem jj_iconst (hk : jk p R s m args meth c NX cc nL own fr lo ret) {n : Int} {v : Int32} (hd : decode cc pc = .ok (.iconst n, 1)) (hv : Int32.ofInt n = v)
    (k : jj p l e R s m args below meth c A NX Q Wo nx nL σ (pc + 1) lv (.int v :: st) Z) : jj p l e R s m args below meth c A NX Q Wo nx nL σ pc lv st Z :=
  fun hz => ⟨(k hz).1, fun H locs ls hW hn hS hl => lv_iconst hk.1.1 hk.1.2.1 hd hv ((k hz).2 H locs ls hW hn hS hl)⟩
theorem jj_bipush (hk : jk p R s m args meth c NX cc nL own fr lo ret) {n : Int} {v : Int32} (hd : decode cc pc = .ok (.bipush n, 2)) (hv : (Int8.ofInt n).toInt32 = v)
    (k : jj p l e R s m args below meth c A NX Q Wo nx nL σ (pc + 2) lv (.int v :: st) Z) : jj p l e R s m args below meth c A NX Q Wo nx nL σ pc lv st Z :=
  fun hz => ⟨(k hz).1, fun H locs ls hW hn hS hl => lv_bipush hk.1.1 hk.1.2.1 hd hv ((k hz).2 H locs ls hW hn hS hl)⟩
theorem jj_sipush (hk : jk p R s m args meth c NX cc nL own fr lo ret) {n : Int} {v : Int32} (hd : decode cc pc = .ok (.sipush n, 3)) (hv : (Int16.ofInt n).toInt32 = v)
    (k : jj p l e R s m args below meth c A NX Q Wo nx nL σ (pc + 3) lv (.int v :: st) Z) : jj p l e R s m args below meth c A NX Q Wo nx nL σ pc lv st Z :=
  fun hz => ⟨(k hz).1, fun H locs ls hW hn hS hl => lv_sipush hk.1.1 hk.1.2.1 hd hv ((k hz).2 H locs ls hW hn hS hl)⟩
theorem jj_lconst (hk : jk p R s m args meth c NX cc nL own fr lo ret) {n : Fin 2} {v : Int64} (hd : decode cc pc = .ok (.lconst n, 1)) (hv : Int64.ofNat (n : Nat) = v)
    (k : jj p l e R s m args below meth c A NX Q Wo nx nL σ (pc + 1) lv (.long v :: st) Z) : jj p l e R s m args below meth c A NX Q Wo nx nL σ pc lv st Z :=
  fun hz => ⟨(k hz).1, fun H locs ls hW hn hS hl => lv_lconst hk.1.1 hk.1.2.1 hd hv ((k hz).2 H locs ls hW hn hS hl)⟩
theorem jj_iload_n (hk : jk p R s m args meth c NX cc nL own fr lo ret) {k : Fin 4} {i : Nat} {x : Int32} (hd : decode cc pc = .ok (.iload_n k, 1)) (q : Nat) (hi : (k : Nat) = i) (hq : lv[q]? = some (i, .int x))
    (kk : jj p l e R s m args below meth c A NX Q Wo nx nL σ (pc + 1) lv (.int x :: st) Z) : jj p l e R s m args below meth c A NX Q Wo nx nL σ pc lv st Z :=
  fun hz => ⟨(kk hz).1, fun H locs ls hW hn hS hl => lv_iload_n hk.1.1 hk.1.2.1 hd hi (lv_at hl q hq) ((kk hz).2 H locs ls hW hn hS hl)⟩
theorem jj_iload (hk : jk p R s m args meth c NX cc nL own fr lo ret) {i : Nat} {x : Int32} (hd : decode cc pc = .ok (.iload i, 2)) (q : Nat) (hq : lv[q]? = some (i, .int x))
    (kk : jj p l e R s m args below meth c A NX Q Wo nx nL σ (pc + 2) lv (.int x :: st) Z) : jj p l e R s m args below meth c A NX Q Wo nx nL σ pc lv st Z :=
  fun hz => ⟨(kk hz).1, fun H locs ls hW hn hS hl => lv_iload hk.1.1 hk.1.2.1 hd (lv_at hl q hq) ((kk hz).2 H locs ls hW hn hS hl)⟩
theorem jj_lload_n (hk : jk p R s m args meth c NX cc nL own fr lo ret) {k : Fin 4} {i : Nat} {x : Int64} (hd : decode cc pc = .ok (.lload_n k, 1)) (q : Nat) (hi : (k : Nat) = i) (hq : lv[q]? = some (i, .long x))
    (kk : jj p l e R s m args below meth c A NX Q Wo nx nL σ (pc + 1) lv (.long x :: st) Z) : jj p l e R s m args below meth c A NX Q Wo nx nL σ pc lv st Z :=
  fun hz => ⟨(kk hz).1, fun H locs ls hW hn hS hl => lv_lload_n hk.1.1 hk.1.2.1 hd hi (lv_at hl q hq) ((kk hz).2 H locs ls hW hn hS hl)⟩
theorem jj_lload (hk : jk p R s m args meth c NX cc nL own fr lo ret) {i : Nat} {x : Int64} (hd : decode cc pc = .ok (.lload i, 2)) (q : Nat) (hq : lv[q]? = some (i, .long x))
    (kk : jj p l e R s m args below meth c A NX Q Wo nx nL σ (pc + 2) lv (.long x :: st) Z) : jj p l e R s m args below meth c A NX Q Wo nx nL σ pc lv st Z :=
  fun hz => ⟨(kk hz).1, fun H locs ls hW hn hS hl => lv_lload hk.1.1 hk.1.2.1 hd (lv_at hl q hq) ((kk hz).2 H locs ls hW hn hS hl)⟩
theorem jj_aload_n (hk : jk p R s m args meth c NX cc nL own fr lo ret) {k : Fin 4} {i : Nat} {x : Nat} (hd : decode cc pc = .ok (.aload_n k, 1)) (q : Nat) (hi : (k : Nat) = i) (hq : lv[q]? = some (i, .ref x))
    (kk : jj p l e R s m args below meth c A NX Q Wo nx nL σ (pc + 1) lv (.ref x :: st) Z) : jj p l e R s m args below meth c A NX Q Wo nx nL σ pc lv st Z :=
  fun hz => ⟨(kk hz).1, fun H locs ls hW hn hS hl => lv_aload_n hk.1.1 hk.1.2.1 hd hi (lv_at hl q hq) ((kk hz).2 H locs ls hW hn hS hl)⟩
theorem jj_aload (hk : jk p R s m args meth c NX cc nL own fr lo ret) {i : Nat} {x : Nat} (hd : decode cc pc = .ok (.aload i, 2)) (q : Nat) (hq : lv[q]? = some (i, .ref x))
    (kk : jj p l e R s m args below meth c A NX Q Wo nx nL σ (pc + 2) lv (.ref x :: st) Z) : jj p l e R s m args below meth c A NX Q Wo nx nL σ pc lv st Z :=
  fun hz => ⟨(kk hz).1, fun H locs ls hW hn hS hl => lv_aload hk.1.1 hk.1.2.1 hd (lv_at hl q hq) ((kk hz).2 H locs ls hW hn hS hl)⟩
theorem jj_istore_n (hk : jk p R s m args meth c NX cc nL own fr lo ret) {k : Fin 4} {i : Nat} {x : Int32} (lv' : List (Nat × Value)) (hd : decode cc pc = .ok (.istore_n k, 1)) (hi : (k : Nat) = i) (hin : i < nL) (hl : (i, Value.int x) :: lv.filter (fun q => !(q.1 == i) && !(q.1 + 1 == i && q.2.category == 2)) = lv')
    (kk : jj p l e R s m args below meth c A NX Q Wo nx nL σ (pc + 1) lv' st Z) : jj p l e R s m args below meth c A NX Q Wo nx nL σ pc lv (.int x :: st) Z :=
  fun hz => ⟨(kk hz).1, fun H locs ls hW hn hS hl2 => lv_istore_n hk.1.1 hk.1.2.1 hd hi hl2 hin hl (fun ls' h' => (kk hz).2 H locs ls' hW hn hS h')⟩
theorem jj_istore (hk : jk p R s m args meth c NX cc nL own fr lo ret) {i : Nat} {x : Int32} (lv' : List (Nat × Value)) (hd : decode cc pc = .ok (.istore i, 2)) (hin : i < nL) (hl : (i, Value.int x) :: lv.filter (fun q => !(q.1 == i) && !(q.1 + 1 == i && q.2.category == 2)) = lv')
    (kk : jj p l e R s m args below meth c A NX Q Wo nx nL σ (pc + 2) lv' st Z) : jj p l e R s m args below meth c A NX Q Wo nx nL σ pc lv (.int x :: st) Z :=
  fun hz => ⟨(kk hz).1, fun H locs ls hW hn hS hl2 => lv_istore hk.1.1 hk.1.2.1 hd hl2 hin hl (fun ls' h' => (kk hz).2 H locs ls' hW hn hS h')⟩
theorem jj_lstore_n (hk : jk p R s m args meth c NX cc nL own fr lo ret) {k : Fin 4} {i : Nat} {x : Int64} (lv' : List (Nat × Value)) (hd : decode cc pc = .ok (.lstore_n k, 1)) (hi : (k : Nat) = i) (hin : i + 1 < nL) (hl : (i, Value.long x) :: lv.filter (fun q => !(q.1 == i) && (!(q.1 == i + 1) && !(q.1 + 1 == i && q.2.category == 2))) = lv')
    (kk : jj p l e R s m args below meth c A NX Q Wo nx nL σ (pc + 1) lv' st Z) : jj p l e R s m args below meth c A NX Q Wo nx nL σ pc lv (.long x :: st) Z :=
  fun hz => ⟨(kk hz).1, fun H locs ls hW hn hS hl2 => lv_lstore_n hk.1.1 hk.1.2.1 hd hi hl2 hin hl (fun ls' h' => (kk hz).2 H locs ls' hW hn hS h')⟩
theorem jj_lstore (hk : jk p R s m args meth c NX cc nL own fr lo ret) {i : Nat} {x : Int64} (lv' : List (Nat × Value)) (hd : decode cc pc = .ok (.lstore i, 2)) (hin : i + 1 < nL) (hl : (i, Value.long x) :: lv.filter (fun q => !(q.1 == i) && (!(q.1 == i + 1) && !(q.1 + 1 == i && q.2.category == 2))) = lv')
    (kk : jj p l e R s m args below meth c A NX Q Wo nx nL σ (pc + 2) lv' st Z) : jj p l e R s m args below meth c A NX Q Wo nx nL σ pc lv (.long x :: st) Z :=
  fun hz => ⟨(kk hz).1, fun H locs ls hW hn hS hl2 => lv_lstore hk.1.1 hk.1.2.1 hd hl2 hin hl (fun ls' h' => (kk hz).2 H locs ls' hW hn hS h')⟩
theorem jj_astore_n (hk : jk p R s m args meth c NX cc nL own fr lo ret) {k : Fin 4} {i : Nat} {x : Nat} (lv' : List (Nat × Value)) (hd : decode cc pc = .ok (.astore_n k, 1)) (hi : (k : Nat) = i) (hin : i < nL) (hl : (i, Value.ref x) :: lv.filter (fun q => !(q.1 == i) && !(q.1 + 1 == i && q.2.category == 2)) = lv')
    (kk : jj p l e R s m args below meth c A NX Q Wo nx nL σ (pc + 1) lv' st Z) : jj p l e R s m args below meth c A NX Q Wo nx nL σ pc lv (.ref x :: st) Z :=
  fun hz => ⟨(kk hz).1, fun H locs ls hW hn hS hl2 => lv_astore_n hk.1.1 hk.1.2.1 hd hi hl2 hin hl (fun ls' h' => (kk hz).2 H locs ls' hW hn hS h')⟩
theorem jj_astore (hk : jk p R s m args meth c NX cc nL own fr lo ret) {i : Nat} {x : Nat} (lv' : List (Nat × Value)) (hd : decode cc pc = .ok (.astore i, 2)) (hin : i < nL) (hl : (i, Value.ref x) :: lv.filter (fun q => !(q.1 == i) && !(q.1 + 1 == i && q.2.category == 2)) = lv')
    (kk : jj p l e R s m args below meth c A NX Q Wo nx nL σ (pc + 2) lv' st Z) : jj p l e R s m args below meth c A NX Q Wo nx nL σ pc lv (.ref x :: st) Z :=
  fun hz => ⟨(kk hz).1, fun H locs ls hW hn hS hl2 => lv_astore hk.1.1 hk.1.2.1 hd hl2 hin hl (fun ls' h' => (kk hz).2 H locs ls' hW hn hS h')⟩
theorem jj_iinc (hk : jk p R s m args meth c NX cc nL own fr lo ret) {i : Nat} {n : Int} {x v : Int32} (lv' : List (Nat × Value)) (hd : decode cc pc = .ok (.iinc i n, 3)) (q : Nat) (hq : lv[q]? = some (i, .int x)) (hv : x + Int32.ofInt n = v) (hin : i < nL) (hl : (i, Value.int v) :: lv.filter (fun q => !(q.1 == i) && !(q.1 + 1 == i && q.2.category == 2)) = lv')
    (kk : jj p l e R s m args below meth c A NX Q Wo nx nL σ (pc + 3) lv' st Z) : jj p l e R s m args below meth c A NX Q Wo nx nL σ pc lv st Z :=
  fun hz => ⟨(kk hz).1, fun H locs ls hW hn hS hl2 => lv_iinc hk.1.1 hk.1.2.1 hd hl2 hq hv hin hl (fun ls' h' => (kk hz).2 H locs ls' hW hn hS h')⟩
theorem jj_iadd (hk : jk p R s m args meth c NX cc nL own fr lo ret) {x y : Int32} (hd : decode cc pc = .ok (.iadd, 1)) 
    (k : jj p l e R s m args below meth c A NX Q Wo nx nL σ (pc + 1) lv (.int (x + y) :: st) Z) : jj p l e R s m args below meth c A NX Q Wo nx nL σ pc lv (.int y :: .int x :: st) Z :=
  fun hz => ⟨(k hz).1, fun H locs ls hW hn hS hl => lv_iadd hk.1.1 hk.1.2.1 hd  ((k hz).2 H locs ls hW hn hS hl)⟩
theorem jj_isub (hk : jk p R s m args meth c NX cc nL own fr lo ret) {x y : Int32} (hd : decode cc pc = .ok (.isub, 1)) 
    (k : jj p l e R s m args below meth c A NX Q Wo nx nL σ (pc + 1) lv (.int (x - y) :: st) Z) : jj p l e R s m args below meth c A NX Q Wo nx nL σ pc lv (.int y :: .int x :: st) Z :=
  fun hz => ⟨(k hz).1, fun H locs ls hW hn hS hl => lv_isub hk.1.1 hk.1.2.1 hd  ((k hz).2 H locs ls hW hn hS hl)⟩
theorem jj_imul (hk : jk p R s m args meth c NX cc nL own fr lo ret) {x y : Int32} (hd : decode cc pc = .ok (.imul, 1)) 
    (k : jj p l e R s m args below meth c A NX Q Wo nx nL σ (pc + 1) lv (.int (x * y) :: st) Z) : jj p l e R s m args below meth c A NX Q Wo nx nL σ pc lv (.int y :: .int x :: st) Z :=
  fun hz => ⟨(k hz).1, fun H locs ls hW hn hS hl => lv_imul hk.1.1 hk.1.2.1 hd  ((k hz).2 H locs ls hW hn hS hl)⟩
theorem jj_iand (hk : jk p R s m args meth c NX cc nL own fr lo ret) {x y : Int32} (hd : decode cc pc = .ok (.iand, 1)) 
    (k : jj p l e R s m args below meth c A NX Q Wo nx nL σ (pc + 1) lv (.int (x &&& y) :: st) Z) : jj p l e R s m args below meth c A NX Q Wo nx nL σ pc lv (.int y :: .int x :: st) Z :=
  fun hz => ⟨(k hz).1, fun H locs ls hW hn hS hl => lv_iand hk.1.1 hk.1.2.1 hd  ((k hz).2 H locs ls hW hn hS hl)⟩
theorem jj_ior (hk : jk p R s m args meth c NX cc nL own fr lo ret) {x y : Int32} (hd : decode cc pc = .ok (.ior, 1)) 
    (k : jj p l e R s m args below meth c A NX Q Wo nx nL σ (pc + 1) lv (.int (x ||| y) :: st) Z) : jj p l e R s m args below meth c A NX Q Wo nx nL σ pc lv (.int y :: .int x :: st) Z :=
  fun hz => ⟨(k hz).1, fun H locs ls hW hn hS hl => lv_ior hk.1.1 hk.1.2.1 hd  ((k hz).2 H locs ls hW hn hS hl)⟩
theorem jj_ixor (hk : jk p R s m args meth c NX cc nL own fr lo ret) {x y : Int32} (hd : decode cc pc = .ok (.ixor, 1)) 
    (k : jj p l e R s m args below meth c A NX Q Wo nx nL σ (pc + 1) lv (.int (x ^^^ y) :: st) Z) : jj p l e R s m args below meth c A NX Q Wo nx nL σ pc lv (.int y :: .int x :: st) Z :=
  fun hz => ⟨(k hz).1, fun H locs ls hW hn hS hl => lv_ixor hk.1.1 hk.1.2.1 hd  ((k hz).2 H locs ls hW hn hS hl)⟩
theorem jj_ishl (hk : jk p R s m args meth c NX cc nL own fr lo ret) {x y : Int32} (hd : decode cc pc = .ok (.ishl, 1)) 
    (k : jj p l e R s m args below meth c A NX Q Wo nx nL σ (pc + 1) lv (.int (x <<< (y &&& 31)) :: st) Z) : jj p l e R s m args below meth c A NX Q Wo nx nL σ pc lv (.int y :: .int x :: st) Z :=
  fun hz => ⟨(k hz).1, fun H locs ls hW hn hS hl => lv_ishl hk.1.1 hk.1.2.1 hd  ((k hz).2 H locs ls hW hn hS hl)⟩
theorem jj_ishr (hk : jk p R s m args meth c NX cc nL own fr lo ret) {x y : Int32} (hd : decode cc pc = .ok (.ishr, 1)) 
    (k : jj p l e R s m args below meth c A NX Q Wo nx nL σ (pc + 1) lv (.int (x >>> (y &&& 31)) :: st) Z) : jj p l e R s m args below meth c A NX Q Wo nx nL σ pc lv (.int y :: .int x :: st) Z :=
  fun hz => ⟨(k hz).1, fun H locs ls hW hn hS hl => lv_ishr hk.1.1 hk.1.2.1 hd  ((k hz).2 H locs ls hW hn hS hl)⟩
theorem jj_idiv (hk : jk p R s m args meth c NX cc nL own fr lo ret) {x y : Int32} (hd : decode cc pc = .ok (.idiv, 1)) (hne : ¬ y = 0)
    (k : jj p l e R s m args below meth c A NX Q Wo nx nL σ (pc + 1) lv (.int (x / y) :: st) Z) : jj p l e R s m args below meth c A NX Q Wo nx nL σ pc lv (.int y :: .int x :: st) Z :=
  fun hz => ⟨(k hz).1, fun H locs ls hW hn hS hl => lv_idiv hk.1.1 hk.1.2.1 hd hne ((k hz).2 H locs ls hW hn hS hl)⟩
theorem jj_irem (hk : jk p R s m args meth c NX cc nL own fr lo ret) {x y : Int32} (hd : decode cc pc = .ok (.irem, 1)) (hne : ¬ y = 0)
    (k : jj p l e R s m args below meth c A NX Q Wo nx nL σ (pc + 1) lv (.int (x - x / y * y) :: st) Z) : jj p l e R s m args below meth c A NX Q Wo nx nL σ pc lv (.int y :: .int x :: st) Z :=
  fun hz => ⟨(k hz).1, fun H locs ls hW hn hS hl => lv_irem hk.1.1 hk.1.2.1 hd hne ((k hz).2 H locs ls hW hn hS hl)⟩
theorem jj_ladd (hk : jk p R s m args meth c NX cc nL own fr lo ret) {x y : Int64} (hd : decode cc pc = .ok (.ladd, 1)) 
    (k : jj p l e R s m args below meth c A NX Q Wo nx nL σ (pc + 1) lv (.long (x + y) :: st) Z) : jj p l e R s m args below meth c A NX Q Wo nx nL σ pc lv (.long y :: .long x :: st) Z :=
  fun hz => ⟨(k hz).1, fun H locs ls hW hn hS hl => lv_ladd hk.1.1 hk.1.2.1 hd  ((k hz).2 H locs ls hW hn hS hl)⟩
theorem jj_lmul (hk : jk p R s m args meth c NX cc nL own fr lo ret) {x y : Int64} (hd : decode cc pc = .ok (.lmul, 1)) 
    (k : jj p l e R s m args below meth c A NX Q Wo nx nL σ (pc + 1) lv (.long (x * y) :: st) Z) : jj p l e R s m args below meth c A NX Q Wo nx nL σ pc lv (.long y :: .long x :: st) Z :=
  fun hz => ⟨(k hz).1, fun H locs ls hW hn hS hl => lv_lmul hk.1.1 hk.1.2.1 hd  ((k hz).2 H locs ls hW hn hS hl)⟩
theorem jj_land (hk : jk p R s m args meth c NX cc nL own fr lo ret) {x y : Int64} (hd : decode cc pc = .ok (.land, 1)) 
    (k : jj p l e R s m args below meth c A NX Q Wo nx nL σ (pc + 1) lv (.long (x &&& y) :: st) Z) : jj p l e R s m args below meth c A NX Q Wo nx nL σ pc lv (.long y :: .long x :: st) Z :=
  fun hz => ⟨(k hz).1, fun H locs ls hW hn hS hl => lv_land hk.1.1 hk.1.2.1 hd  ((k hz).2 H locs ls hW hn hS hl)⟩
theorem jj_lor (hk : jk p R s m args meth c NX cc nL own fr lo ret) {x y : Int64} (hd : decode cc pc = .ok (.lor, 1)) 
    (k : jj p l e R s m args below meth c A NX Q Wo nx nL σ (pc + 1) lv (.long (x ||| y) :: st) Z) : jj p l e R s m args below meth c A NX Q Wo nx nL σ pc lv (.long y :: .long x :: st) Z :=
  fun hz => ⟨(k hz).1, fun H locs ls hW hn hS hl => lv_lor hk.1.1 hk.1.2.1 hd  ((k hz).2 H locs ls hW hn hS hl)⟩
theorem jj_ineg (hk : jk p R s m args meth c NX cc nL own fr lo ret) {x : Int32} (hd : decode cc pc = .ok (.ineg, 1)) 
    (k : jj p l e R s m args below meth c A NX Q Wo nx nL σ (pc + 1) lv (.int (-x) :: st) Z) : jj p l e R s m args below meth c A NX Q Wo nx nL σ pc lv (.int x :: st) Z :=
  fun hz => ⟨(k hz).1, fun H locs ls hW hn hS hl => lv_ineg hk.1.1 hk.1.2.1 hd  ((k hz).2 H locs ls hW hn hS hl)⟩
theorem jj_lshl (hk : jk p R s m args meth c NX cc nL own fr lo ret) {x : Int64} {y : Int32} (hd : decode cc pc = .ok (.lshl, 1)) 
    (k : jj p l e R s m args below meth c A NX Q Wo nx nL σ (pc + 1) lv (.long (x <<< (y.toInt64 &&& 63)) :: st) Z) : jj p l e R s m args below meth c A NX Q Wo nx nL σ pc lv (.int y :: .long x :: st) Z :=
  fun hz => ⟨(k hz).1, fun H locs ls hW hn hS hl => lv_lshl hk.1.1 hk.1.2.1 hd rfl ((k hz).2 H locs ls hW hn hS hl)⟩
theorem jj_lshr (hk : jk p R s m args meth c NX cc nL own fr lo ret) {x : Int64} {y : Int32} (hd : decode cc pc = .ok (.lshr, 1)) 
    (k : jj p l e R s m args below meth c A NX Q Wo nx nL σ (pc + 1) lv (.long (x >>> (y.toInt64 &&& 63)) :: st) Z) : jj p l e R s m args below meth c A NX Q Wo nx nL σ pc lv (.int y :: .long x :: st) Z :=
  fun hz => ⟨(k hz).1, fun H locs ls hW hn hS hl => lv_lshr hk.1.1 hk.1.2.1 hd rfl ((k hz).2 H locs ls hW hn hS hl)⟩
theorem jj_iushr (hk : jk p R s m args meth c NX cc nL own fr lo ret) {x y : Int32} (hd : decode cc pc = .ok (.iushr, 1)) 
    (k : jj p l e R s m args below meth c A NX Q Wo nx nL σ (pc + 1) lv (.int (x.toUInt32 >>> (y.toUInt32 &&& Int32.toUInt32 31)).toInt32 :: st) Z) : jj p l e R s m args below meth c A NX Q Wo nx nL σ pc lv (.int y :: .int x :: st) Z :=
  fun hz => ⟨(k hz).1, fun H locs ls hW hn hS hl => lv_iushr hk.1.1 hk.1.2.1 hd rfl ((k hz).2 H locs ls hW hn hS hl)⟩
theorem jj_i2l (hk : jk p R s m args meth c NX cc nL own fr lo ret) {x : Int32} (hd : decode cc pc = .ok (.i2l, 1)) 
    (k : jj p l e R s m args below meth c A NX Q Wo nx nL σ (pc + 1) lv (.long x.toInt64 :: st) Z) : jj p l e R s m args below meth c A NX Q Wo nx nL σ pc lv (.int x :: st) Z :=
  fun hz => ⟨(k hz).1, fun H locs ls hW hn hS hl => lv_i2l hk.1.1 hk.1.2.1 hd rfl ((k hz).2 H locs ls hW hn hS hl)⟩
theorem jj_l2i (hk : jk p R s m args meth c NX cc nL own fr lo ret) {x : Int64} (hd : decode cc pc = .ok (.l2i, 1)) 
    (k : jj p l e R s m args below meth c A NX Q Wo nx nL σ (pc + 1) lv (.int x.toInt32 :: st) Z) : jj p l e R s m args below meth c A NX Q Wo nx nL σ pc lv (.long x :: st) Z :=
  fun hz => ⟨(k hz).1, fun H locs ls hW hn hS hl => lv_l2i hk.1.1 hk.1.2.1 hd rfl ((k hz).2 H locs ls hW hn hS hl)⟩
theorem jj_i2b (hk : jk p R s m args meth c NX cc nL own fr lo ret) {x : Int32} (hd : decode cc pc = .ok (.i2b, 1)) 
    (k : jj p l e R s m args below meth c A NX Q Wo nx nL σ (pc + 1) lv (.int x.toInt8.toInt32 :: st) Z) : jj p l e R s m args below meth c A NX Q Wo nx nL σ pc lv (.int x :: st) Z :=
  fun hz => ⟨(k hz).1, fun H locs ls hW hn hS hl => lv_i2b hk.1.1 hk.1.2.1 hd rfl ((k hz).2 H locs ls hW hn hS hl)⟩
theorem jj_i2s (hk : jk p R s m args meth c NX cc nL own fr lo ret) {x : Int32} (hd : decode cc pc = .ok (.i2s, 1)) 
    (k : jj p l e R s m args below meth c A NX Q Wo nx nL σ (pc + 1) lv (.int x.toInt16.toInt32 :: st) Z) : jj p l e R s m args below meth c A NX Q Wo nx nL σ pc lv (.int x :: st) Z :=
  fun hz => ⟨(k hz).1, fun H locs ls hW hn hS hl => lv_i2s hk.1.1 hk.1.2.1 hd rfl ((k hz).2 H locs ls hW hn hS hl)⟩
theorem jj_lcmp (hk : jk p R s m args meth c NX cc nL own fr lo ret) {x y : Int64} (hd : decode cc pc = .ok (.lcmp, 1)) 
    (k : jj p l e R s m args below meth c A NX Q Wo nx nL σ (pc + 1) lv (.int (lg_cmp x y) :: st) Z) : jj p l e R s m args below meth c A NX Q Wo nx nL σ pc lv (.long y :: .long x :: st) Z :=
  fun hz => ⟨(k hz).1, fun H locs ls hW hn hS hl => W.lcmp hk.1.1 hk.1.2.1 hd  ((k hz).2 H locs ls hW hn hS hl)⟩
theorem jj_dup (hk : jk p R s m args meth c NX cc nL own fr lo ret) {va : Value} (hd : decode cc pc = .ok (.dup, 1)) (hva : va.category = 1)
    (k : jj p l e R s m args below meth c A NX Q Wo nx nL σ (pc + 1) lv (va :: va :: st) Z) : jj p l e R s m args below meth c A NX Q Wo nx nL σ pc lv (va :: st) Z :=
  fun hz => ⟨(k hz).1, fun H locs ls hW hn hS hl => lv_dup hk.1.1 hk.1.2.1 hd hva ((k hz).2 H locs ls hW hn hS hl)⟩
theorem jj_pop (hk : jk p R s m args meth c NX cc nL own fr lo ret) {va : Value} (hd : decode cc pc = .ok (.pop, 1)) (hva : va.category = 1)
    (k : jj p l e R s m args below meth c A NX Q Wo nx nL σ (pc + 1) lv st Z) : jj p l e R s m args below meth c A NX Q Wo nx nL σ pc lv (va :: st) Z :=
  fun hz => ⟨(k hz).1, fun H locs ls hW hn hS hl => lv_pop hk.1.1 hk.1.2.1 hd hva ((k hz).2 H locs ls hW hn hS hl)⟩
theorem jj_dup2 (hk : jk p R s m args meth c NX cc nL own fr lo ret) {va vb : Value} (hd : decode cc pc = .ok (.dup2, 1)) (hva : va.category = 1) (hvb : vb.category = 1)
    (k : jj p l e R s m args below meth c A NX Q Wo nx nL σ (pc + 1) lv (va :: vb :: va :: vb :: st) Z) : jj p l e R s m args below meth c A NX Q Wo nx nL σ pc lv (va :: vb :: st) Z :=
  fun hz => ⟨(k hz).1, fun H locs ls hW hn hS hl => lv_dup2_11 hk.1.1 hk.1.2.1 hd hva hvb ((k hz).2 H locs ls hW hn hS hl)⟩
theorem jj_ldc (hk : jk p R s m args meth c NX cc nL own fr lo ret) {index : Nat} {v : Int32} (hc : Cond.constant own index v ∈ lw_all) (hd : decode cc pc = .ok (.ldc index, 2))
    (k : jj p l e R s m args below meth c A NX Q Wo nx nL σ (pc + 2) lv (.int v :: st) Z) : jj p l e R s m args below meth c A NX Q Wo nx nL σ pc lv st Z :=
  fun hz => ⟨(k hz).1, fun H locs ls hW hn hS hl => lv_ldc hk.1.1 hk.1.2.1 hk.1.2.2.2.1 (hk.1.2.2.2.2 _ hc) hd ((k hz).2 H locs ls hW hn hS hl)⟩
theorem jj_ldc_w (hk : jk p R s m args meth c NX cc nL own fr lo ret) {index : Nat} {v : Int32} (hc : Cond.constant own index v ∈ lw_all) (hd : decode cc pc = .ok (.ldc_w index, 3))
    (k : jj p l e R s m args below meth c A NX Q Wo nx nL σ (pc + 3) lv (.int v :: st) Z) : jj p l e R s m args below meth c A NX Q Wo nx nL σ pc lv st Z :=
  fun hz => ⟨(k hz).1, fun H locs ls hW hn hS hl => lv_ldcw hk.1.1 hk.1.2.1 hk.1.2.2.2.1 (hk.1.2.2.2.2 _ hc) hd ((k hz).2 H locs ls hW hn hS hl)⟩
theorem jj_ldc2_w (hk : jk p R s m args meth c NX cc nL own fr lo ret) {index : Nat} {v : Int64} (hc : Cond.constantLong own index v ∈ lw_all) (hd : decode cc pc = .ok (.ldc2_w index, 3))
    (k : jj p l e R s m args below meth c A NX Q Wo nx nL σ (pc + 3) lv (.long v :: st) Z) : jj p l e R s m args below meth c A NX Q Wo nx nL σ pc lv st Z :=
  fun hz => ⟨(k hz).1, fun H locs ls hW hn hS hl => lv_ldc2 hk.1.1 hk.1.2.1 hk.1.2.2.2.1 (hk.1.2.2.2.2 _ hc) hd ((k hz).2 H locs ls hW hn hS hl)⟩
theorem jj_null (hk : jk p R s m args meth c NX cc nL own fr lo ret) (hd : decode cc pc = .ok (.aconst_null, 1)) (k : jj p l e R s m args below meth c A NX Q Wo nx nL σ (pc + 1) lv (.null :: st) Z) : jj p l e R s m args below meth c A NX Q Wo nx nL σ pc lv st Z :=
  fun hz => ⟨(k hz).1, fun H locs ls hW hn hS hl => lv_null hk.1.1 hk.1.2.1 hd ((k hz).2 H locs ls hW hn hS hl)⟩
theorem jj_goto (hk : jk p R s m args meth c NX cc nL own fr lo ret) {off : Int} (tgt : Nat) (hd : decode cc pc = .ok (.goto off, 3)) (ht : (pc : Int) + off = (tgt : Int)) (k : jj p l e R s m args below meth c A NX Q Wo nx nL σ tgt lv st Z) : jj p l e R s m args below meth c A NX Q Wo nx nL σ pc lv st Z :=
  fun hz => ⟨(k hz).1, fun H locs ls hW hn hS hl => lv_goto hk.1.1 hk.1.2.1 hd ht ((k hz).2 H locs ls hW hn hS hl)⟩
/-- fewer locals, in another order -/
theorem jj_loc (lv' : List (Nat × Value)) (ks : List Nat) (h : lv_pick lv ks = lv') (k : jj p l e R s m args below meth c A NX Q Wo nx nL σ pc lv' st Z) : jj p l e R s m args below meth c A NX Q Wo nx nL σ pc lv st Z :=
  fun hz => ⟨(k hz).1, fun H locs ls hW hn hS hl => (k hz).2 H locs ls hW hn hS (lv_sub hl ks h)⟩
/-- the same place, the pure text in another form -/
theorem jj_eq {Z' : Prop} (h : Z → Z') (k : jj p l e R s m args below meth c A NX Q Wo nx nL σ pc lv st Z') : jj p l e R s m args below meth c A NX Q Wo nx nL σ pc lv st Z := fun hz => k (h hz)
theorem jj_no {ρ : Type} {res : ρ} : jj p l e R s m args below meth c A NX Q Wo nx nL σ pc lv st ((none : Option ρ) = some res) := fun hz => absurd hz (fun h => by cases h)
variable {ρ : Type} {F1 F2 : Option ρ} {res : ρ}
/-- a choice of the pure text alone -/
theorem jj_ite {C : Prop} [Decidable C] (k1 : C → jj p l e R s m args below meth c A NX Q Wo nx nL σ pc lv st (F1 = some res)) (k2 : ¬ C → jj p l e R s m args below meth c A NX Q Wo nx nL σ pc lv st (F2 = some res)) : jj p l e R s m args below meth c A NX Q Wo nx nL σ pc lv st ((if C then F1 else F2) = some res) := by
  intro hz
  by_cases h : C
  · rw [if_pos h] at hz; exact k1 h hz
  · rw [if_neg h] at hz; exact k2 h hz
theorem jj_if_eq (hk : jk p R s m args meth c NX cc nL own fr lo ret) {x : Int32} {off : Int} (tgt : Nat) (hd : decode cc pc = .ok (.ifCond .eq off, 3)) (ht : (pc : Int) + off = (tgt : Int)) (kt : jj p l e R s m args below meth c A NX Q Wo nx nL σ tgt lv st (F1 = some res)) (kf : jj p l e R s m args below meth c A NX Q Wo nx nL σ (pc + 3) lv st (F2 = some res)) : jj p l e R s m args below meth c A NX Q Wo nx nL σ pc lv (.int x :: st) ((if x = 0 then F1 else F2) = some res) := by
  intro hz
  by_cases h : x = 0
  · rw [if_pos h] at hz
    exact ⟨(kt hz).1, fun H locs ls hW hn hS hl => lv_if_eq hk.1.1 hk.1.2.1 hd ht (fun h2 => (kt hz).2 H locs ls hW hn hS hl) (fun h2 => absurd h h2)⟩
  · rw [if_neg h] at hz
    exact ⟨(kf hz).1, fun H locs ls hW hn hS hl => lv_if_eq hk.1.1 hk.1.2.1 hd ht (fun h2 => absurd h2 h) (fun h2 => (kf hz).2 H locs ls hW hn hS hl)⟩
theorem jj_if_eq_T (hk : jk p R s m args meth c NX cc nL own fr lo ret) {x : Int32} {off : Int} (tgt : Nat) (hd : decode cc pc = .ok (.ifCond .eq off, 3)) (ht : (pc : Int) + off = (tgt : Int)) (hc : (x = 0)) (k : jj p l e R s m args below meth c A NX Q Wo nx nL σ tgt lv st Z) : jj p l e R s m args below meth c A NX Q Wo nx nL σ pc lv (.int x :: st) Z :=
  fun hz => ⟨(k hz).1, fun H locs ls hW hn hS hl => lv_if_eq hk.1.1 hk.1.2.1 hd ht (fun _ => (k hz).2 H locs ls hW hn hS hl) (fun h2 => absurd hc h2)⟩
theorem jj_if_eq_F (hk : jk p R s m args meth c NX cc nL own fr lo ret) {x : Int32} {off : Int} (hd : decode cc pc = .ok (.ifCond .eq off, 3)) (tgt : Nat) (ht : (pc : Int) + off = (tgt : Int)) (hc : ¬ (x = 0)) (k : jj p l e R s m args below meth c A NX Q Wo nx nL σ (pc + 3) lv st Z) : jj p l e R s m args below meth c A NX Q Wo nx nL σ pc lv (.int x :: st) Z :=
  fun hz => ⟨(k hz).1, fun H locs ls hW hn hS hl => lv_if_eq hk.1.1 hk.1.2.1 hd ht (fun h2 => absurd h2 hc) (fun _ => (k hz).2 H locs ls hW hn hS hl)⟩
theorem jj_icmp_eq (hk : jk p R s m args meth c NX cc nL own fr lo ret) {x y : Int32} {off : Int} (tgt : Nat) (hd : decode cc pc = .ok (.if_icmp .eq off, 3)) (ht : (pc : Int) + off = (tgt : Int)) (kt : jj p l e R s m args below meth c A NX Q Wo nx nL σ tgt lv st (F1 = some res)) (kf : jj p l e R s m args below meth c A NX Q Wo nx nL σ (pc + 3) lv st (F2 = some res)) : jj p l e R s m args below meth c A NX Q Wo nx nL σ pc lv (.int y :: .int x :: st) ((if x = y then F1 else F2) = some res) := by
  intro hz
  by_cases h : x = y
  · rw [if_pos h] at hz
    exact ⟨(kt hz).1, fun H locs ls hW hn hS hl => lv_icmp_eq hk.1.1 hk.1.2.1 hd ht (fun h2 => (kt hz).2 H locs ls hW hn hS hl) (fun h2 => absurd h h2)⟩
  · rw [if_neg h] at hz
    exact ⟨(kf hz).1, fun H locs ls hW hn hS hl => lv_icmp_eq hk.1.1 hk.1.2.1 hd ht (fun h2 => absurd h2 h) (fun h2 => (kf hz).2 H locs ls hW hn hS hl)⟩
theorem jj_icmp_eq_T (hk : jk p R s m args meth c NX cc nL own fr lo ret) {x y : Int32} {off : Int} (tgt : Nat) (hd : decode cc pc = .ok (.if_icmp .eq off, 3)) (ht : (pc : Int) + off = (tgt : Int)) (hc : (x = y)) (k : jj p l e R s m args below meth c A NX Q Wo nx nL σ tgt lv st Z) : jj p l e R s m args below meth c A NX Q Wo nx nL σ pc lv (.int y :: .int x :: st) Z :=
  fun hz => ⟨(k hz).1, fun H locs ls hW hn hS hl => lv_icmp_eq hk.1.1 hk.1.2.1 hd ht (fun _ => (k hz).2 H locs ls hW hn hS hl) (fun h2 => absurd hc h2)⟩
theorem jj_icmp_eq_F (hk : jk p R s m args meth c NX cc nL own fr lo ret) {x y : Int32} {off : Int} (hd : decode cc pc = .ok (.if_icmp .eq off, 3)) (tgt : Nat) (ht : (pc : Int) + off = (tgt : Int)) (hc : ¬ (x = y)) (k : jj p l e R s m args below meth c A NX Q Wo nx nL σ (pc + 3) lv st Z) : jj p l e R s m args below meth c A NX Q Wo nx nL σ pc lv (.int y :: .int x :: st) Z :=
  fun hz => ⟨(k hz).1, fun H locs ls hW hn hS hl => lv_icmp_eq hk.1.1 hk.1.2.1 hd ht (fun h2 => absurd h2 hc) (fun _ => (k hz).2 H locs ls hW hn hS hl)⟩
theorem jj_if_ne (hk : jk p R s m args meth c NX cc nL own fr lo ret) {x : Int32} {off : Int} (tgt : Nat) (hd : decode cc pc = .ok (.ifCond .ne off, 3)) (ht : (pc : Int) + off = (tgt : Int)) (kt : jj p l e R s m args below meth c A NX Q Wo nx nL σ tgt lv st (F2 = some res)) (kf : jj p l e R s m args below meth c A NX Q Wo nx nL σ (pc + 3) lv st (F1 = some res)) : jj p l e R s m args below meth c A NX Q Wo nx nL σ pc lv (.int x :: st) ((if x = 0 then F1 else F2) = some res) := by
  intro hz
  by_cases h : x = 0
  · rw [if_pos h] at hz
    exact ⟨(kf hz).1, fun H locs ls hW hn hS hl => lv_if_ne hk.1.1 hk.1.2.1 hd ht (fun h2 => absurd h h2) (fun h2 => (kf hz).2 H locs ls hW hn hS hl)⟩
  · rw [if_neg h] at hz
    exact ⟨(kt hz).1, fun H locs ls hW hn hS hl => lv_if_ne hk.1.1 hk.1.2.1 hd ht (fun h2 => (kt hz).2 H locs ls hW hn hS hl) (fun h2 => absurd h2 h)⟩
theorem jj_if_ne_T (hk : jk p R s m args meth c NX cc nL own fr lo ret) {x : Int32} {off : Int} (tgt : Nat) (hd : decode cc pc = .ok (.ifCond .ne off, 3)) (ht : (pc : Int) + off = (tgt : Int)) (hc : ¬ (x = 0)) (k : jj p l e R s m args below meth c A NX Q Wo nx nL σ tgt lv st Z) : jj p l e R s m args below meth c A NX Q Wo nx nL σ pc lv (.int x :: st) Z :=
  fun hz => ⟨(k hz).1, fun H locs ls hW hn hS hl => lv_if_ne hk.1.1 hk.1.2.1 hd ht (fun _ => (k hz).2 H locs ls hW hn hS hl) (fun h2 => absurd h2 hc)⟩
theorem jj_if_ne_F (hk : jk p R s m args meth c NX cc nL own fr lo ret) {x : Int32} {off : Int} (hd : decode cc pc = .ok (.ifCond .ne off, 3)) (tgt : Nat) (ht : (pc : Int) + off = (tgt : Int)) (hc : (x = 0)) (k : jj p l e R s m args below meth c A NX Q Wo nx nL σ (pc + 3) lv st Z) : jj p l e R s m args below meth c A NX Q Wo nx nL σ pc lv (.int x :: st) Z :=
  fun hz => ⟨(k hz).1, fun H locs ls hW hn hS hl => lv_if_ne hk.1.1 hk.1.2.1 hd ht (fun h2 => absurd hc h2) (fun _ => (k hz).2 H locs ls hW hn hS hl)⟩
theorem jj_icmp_ne (hk : jk p R s m args meth c NX cc nL own fr lo ret) {x y : Int32} {off : Int} (tgt : Nat) (hd : decode cc pc = .ok (.if_icmp .ne off, 3)) (ht : (pc : Int) + off = (tgt : Int)) (kt : jj p l e R s m args below meth c A NX Q Wo nx nL σ tgt lv st (F2 = some res)) (kf : jj p l e R s m args below meth c A NX Q Wo nx nL σ (pc + 3) lv st (F1 = some res)) : jj p l e R s m args below meth c A NX Q Wo nx nL σ pc lv (.int y :: .int x :: st) ((if x = y then F1 else F2) = some res) := by
  intro hz
  by_cases h : x = y
  · rw [if_pos h] at hz
    exact ⟨(kf hz).1, fun H locs ls hW hn hS hl => lv_icmp_ne hk.1.1 hk.1.2.1 hd ht (fun h2 => absurd h h2) (fun h2 => (kf hz).2 H locs ls hW hn hS hl)⟩
  · rw [if_neg h] at hz
    exact ⟨(kt hz).1, fun H locs ls hW hn hS hl => lv_icmp_ne hk.1.1 hk.1.2.1 hd ht (fun h2 => (kt hz).2 H locs ls hW hn hS hl) (fun h2 => absurd h2 h)⟩
theorem jj_icmp_ne_T (hk : jk p R s m args meth c NX cc nL own fr lo ret) {x y : Int32} {off : Int} (tgt : Nat) (hd : decode cc pc = .ok (.if_icmp .ne off, 3)) (ht : (pc : Int) + off = (tgt : Int)) (hc : ¬ (x = y)) (k : jj p l e R s m args below meth c A NX Q Wo nx nL σ tgt lv st Z) : jj p l e R s m args below meth c A NX Q Wo nx nL σ pc lv (.int y :: .int x :: st) Z :=
  fun hz => ⟨(k hz).1, fun H locs ls hW hn hS hl => lv_icmp_ne hk.1.1 hk.1.2.1 hd ht (fun _ => (k hz).2 H locs ls hW hn hS hl) (fun h2 => absurd h2 hc)⟩
theorem jj_icmp_ne_F (hk : jk p R s m args meth c NX cc nL own fr lo ret) {x y : Int32} {off : Int} (hd : decode cc pc = .ok (.if_icmp .ne off, 3)) (tgt : Nat) (ht : (pc : Int) + off = (tgt : Int)) (hc : (x = y)) (k : jj p l e R s m args below meth c A NX Q Wo nx nL σ (pc + 3) lv st Z) : jj p l e R s m args below meth c A NX Q Wo nx nL σ pc lv (.int y :: .int x :: st) Z :=
  fun hz => ⟨(k hz).1, fun H locs ls hW hn hS hl => lv_icmp_ne hk.1.1 hk.1.2.1 hd ht (fun h2 => absurd hc h2) (fun _ => (k hz).2 H locs ls hW hn hS hl)⟩
theorem jj_if_lt (hk : jk p R s m args meth c NX cc nL own fr lo ret) {x : Int32} {off : Int} (tgt : Nat) (hd : decode cc pc = .ok (.ifCond .lt off, 3)) (ht : (pc : Int) + off = (tgt : Int)) (kt : jj p l e R s m args below meth c A NX Q Wo nx nL σ tgt lv st (F1 = some res)) (kf : jj p l e R s m args below meth c A NX Q Wo nx nL σ (pc + 3) lv st (F2 = some res)) : jj p l e R s m args below meth c A NX Q Wo nx nL σ pc lv (.int x :: st) ((if x < 0 then F1 else F2) = some res) := by
  intro hz
  by_cases h : x < 0
  · rw [if_pos h] at hz
    exact ⟨(kt hz).1, fun H locs ls hW hn hS hl => lv_if_lt hk.1.1 hk.1.2.1 hd ht (fun h2 => (kt hz).2 H locs ls hW hn hS hl) (fun h2 => absurd h h2)⟩
  · rw [if_neg h] at hz
    exact ⟨(kf hz).1, fun H locs ls hW hn hS hl => lv_if_lt hk.1.1 hk.1.2.1 hd ht (fun h2 => absurd h2 h) (fun h2 => (kf hz).2 H locs ls hW hn hS hl)⟩
theorem jj_if_lt_T (hk : jk p R s m args meth c NX cc nL own fr lo ret) {x : Int32} {off : Int} (tgt : Nat) (hd : decode cc pc = .ok (.ifCond .lt off, 3)) (ht : (pc : Int) + off = (tgt : Int)) (hc : (x < 0)) (k : jj p l e R s m args below meth c A NX Q Wo nx nL σ tgt lv st Z) : jj p l e R s m args below meth c A NX Q Wo nx nL σ pc lv (.int x :: st) Z :=
  fun hz => ⟨(k hz).1, fun H locs ls hW hn hS hl => lv_if_lt hk.1.1 hk.1.2.1 hd ht (fun _ => (k hz).2 H locs ls hW hn hS hl) (fun h2 => absurd hc h2)⟩
theorem jj_if_lt_F (hk : jk p R s m args meth c NX cc nL own fr lo ret) {x : Int32} {off : Int} (hd : decode cc pc = .ok (.ifCond .lt off, 3)) (tgt : Nat) (ht : (pc : Int) + off = (tgt : Int)) (hc : ¬ (x < 0)) (k : jj p l e R s m args below meth c A NX Q Wo nx nL σ (pc + 3) lv st Z) : jj p l e R s m args below meth c A NX Q Wo nx nL σ pc lv (.int x :: st) Z :=
  fun hz => ⟨(k hz).1, fun H locs ls hW hn hS hl => lv_if_lt hk.1.1 hk.1.2.1 hd ht (fun h2 => absurd h2 hc) (fun _ => (k hz).2 H locs ls hW hn hS hl)⟩
theorem jj_icmp_lt (hk : jk p R s m args meth c NX cc nL own fr lo ret) {x y : Int32} {off : Int} (tgt : Nat) (hd : decode cc pc = .ok (.if_icmp .lt off, 3)) (ht : (pc : Int) + off = (tgt : Int)) (kt : jj p l e R s m args below meth c A NX Q Wo nx nL σ tgt lv st (F1 = some res)) (kf : jj p l e R s m args below meth c A NX Q Wo nx nL σ (pc + 3) lv st (F2 = some res)) : jj p l e R s m args below meth c A NX Q Wo nx nL σ pc lv (.int y :: .int x :: st) ((if x < y then F1 else F2) = some res) := by
  intro hz
  by_cases h : x < y
  · rw [if_pos h] at hz
    exact ⟨(kt hz).1, fun H locs ls hW hn hS hl => lv_icmp_lt hk.1.1 hk.1.2.1 hd ht (fun h2 => (kt hz).2 H locs ls hW hn hS hl) (fun h2 => absurd h h2)⟩
  · rw [if_neg h] at hz
    exact ⟨(kf hz).1, fun H locs ls hW hn hS hl => lv_icmp_lt hk.1.1 hk.1.2.1 hd ht (fun h2 => absurd h2 h) (fun h2 => (kf hz).2 H locs ls hW hn hS hl)⟩
theorem jj_icmp_lt_T (hk : jk p R s m args meth c NX cc nL own fr lo ret) {x y : Int32} {off : Int} (tgt : Nat) (hd : decode cc pc = .ok (.if_icmp .lt off, 3)) (ht : (pc : Int) + off = (tgt : Int)) (hc : (x < y)) (k : jj p l e R s m args below meth c A NX Q Wo nx nL σ tgt lv st Z) : jj p l e R s m args below meth c A NX Q Wo nx nL σ pc lv (.int y :: .int x :: st) Z :=
  fun hz => ⟨(k hz).1, fun H locs ls hW hn hS hl => lv_icmp_lt hk.1.1 hk.1.2.1 hd ht (fun _ => (k hz).2 H locs ls hW hn hS hl) (fun h2 => absurd hc h2)⟩
theorem jj_icmp_lt_F (hk : jk p R s m args meth c NX cc nL own fr lo ret) {x y : Int32} {off : Int} (hd : decode cc pc = .ok (.if_icmp .lt off, 3)) (tgt : Nat) (ht : (pc : Int) + off = (tgt : Int)) (hc : ¬ (x < y)) (k : jj p l e R s m args below meth c A NX Q Wo nx nL σ (pc + 3) lv st Z) : jj p l e R s m args below meth c A NX Q Wo nx nL σ pc lv (.int y :: .int x :: st) Z :=
  fun hz => ⟨(k hz).1, fun H locs ls hW hn hS hl => lv_icmp_lt hk.1.1 hk.1.2.1 hd ht (fun h2 => absurd h2 hc) (fun _ => (k hz).2 H locs ls hW hn hS hl)⟩
theorem jj_if_ge (hk : jk p R s m args meth c NX cc nL own fr lo ret) {x : Int32} {off : Int} (tgt : Nat) (hd : decode cc pc = .ok (.ifCond .ge off, 3)) (ht : (pc : Int) + off = (tgt : Int)) (kt : jj p l e R s m args below meth c A NX Q Wo nx nL σ tgt lv st (F1 = some res)) (kf : jj p l e R s m args below meth c A NX Q Wo nx nL σ (pc + 3) lv st (F2 = some res)) : jj p l e R s m args below meth c A NX Q Wo nx nL σ pc lv (.int x :: st) ((if 0 ≤ x then F1 else F2) = some res) := by
  intro hz
  by_cases h : 0 ≤ x
  · rw [if_pos h] at hz
    exact ⟨(kt hz).1, fun H locs ls hW hn hS hl => lv_if_ge hk.1.1 hk.1.2.1 hd ht (fun h2 => (kt hz).2 H locs ls hW hn hS hl) (fun h2 => absurd h h2)⟩
  · rw [if_neg h] at hz
    exact ⟨(kf hz).1, fun H locs ls hW hn hS hl => lv_if_ge hk.1.1 hk.1.2.1 hd ht (fun h2 => absurd h2 h) (fun h2 => (kf hz).2 H locs ls hW hn hS hl)⟩
theorem jj_if_ge_T (hk : jk p R s m args meth c NX cc nL own fr lo ret) {x : Int32} {off : Int} (tgt : Nat) (hd : decode cc pc = .ok (.ifCond .ge off, 3)) (ht : (pc : Int) + off = (tgt : Int)) (hc : (0 ≤ x)) (k : jj p l e R s m args below meth c A NX Q Wo nx nL σ tgt lv st Z) : jj p l e R s m args below meth c A NX Q Wo nx nL σ pc lv (.int x :: st) Z :=
  fun hz => ⟨(k hz).1, fun H locs ls hW hn hS hl => lv_if_ge hk.1.1 hk.1.2.1 hd ht (fun _ => (k hz).2 H locs ls hW hn hS hl) (fun h2 => absurd hc h2)⟩
theorem jj_if_ge_F (hk : jk p R s m args meth c NX cc nL own fr lo ret) {x : Int32} {off : Int} (hd : decode cc pc = .ok (.ifCond .ge off, 3)) (tgt : Nat) (ht : (pc : Int) + off = (tgt : Int)) (hc : ¬ (0 ≤ x)) (k : jj p l e R s m args below meth c A NX Q Wo nx nL σ (pc + 3) lv st Z) : jj p l e R s m args below meth c A NX Q Wo nx nL σ pc lv (.int x :: st) Z :=
  fun hz => ⟨(k hz).1, fun H locs ls hW hn hS hl => lv_if_ge hk.1.1 hk.1.2.1 hd ht (fun h2 => absurd h2 hc) (fun _ => (k hz).2 H locs ls hW hn hS hl)⟩
theorem jj_icmp_ge (hk : jk p R s m args meth c NX cc nL own fr lo ret) {x y : Int32} {off : Int} (tgt : Nat) (hd : decode cc pc = .ok (.if_icmp .ge off, 3)) (ht : (pc : Int) + off = (tgt : Int)) (kt : jj p l e R s m args below meth c A NX Q Wo nx nL σ tgt lv st (F1 = some res)) (kf : jj p l e R s m args below meth c A NX Q Wo nx nL σ (pc + 3) lv st (F2 = some res)) : jj p l e R s m args below meth c A NX Q Wo nx nL σ pc lv (.int y :: .int x :: st) ((if y ≤ x then F1 else F2) = some res) := by
  intro hz
  by_cases h : y ≤ x
  · rw [if_pos h] at hz
    exact ⟨(kt hz).1, fun H locs ls hW hn hS hl => lv_icmp_ge hk.1.1 hk.1.2.1 hd ht (fun h2 => (kt hz).2 H locs ls hW hn hS hl) (fun h2 => absurd h h2)⟩
  · rw [if_neg h] at hz
    exact ⟨(kf hz).1, fun H locs ls hW hn hS hl => lv_icmp_ge hk.1.1 hk.1.2.1 hd ht (fun h2 => absurd h2 h) (fun h2 => (kf hz).2 H locs ls hW hn hS hl)⟩
theorem jj_icmp_ge_T (hk : jk p R s m args meth c NX cc nL own fr lo ret) {x y : Int32} {off : Int} (tgt : Nat) (hd : decode cc pc = .ok (.if_icmp .ge off, 3)) (ht : (pc : Int) + off = (tgt : Int)) (hc : (y ≤ x)) (k : jj p l e R s m args below meth c A NX Q Wo nx nL σ tgt lv st Z) : jj p l e R s m args below meth c A NX Q Wo nx nL σ pc lv (.int y :: .int x :: st) Z :=
  fun hz => ⟨(k hz).1, fun H locs ls hW hn hS hl => lv_icmp_ge hk.1.1 hk.1.2.1 hd ht (fun _ => (k hz).2 H locs ls hW hn hS hl) (fun h2 => absurd hc h2)⟩
theorem jj_icmp_ge_F (hk : jk p R s m args meth c NX cc nL own fr lo ret) {x y : Int32} {off : Int} (hd : decode cc pc = .ok (.if_icmp .ge off, 3)) (tgt : Nat) (ht : (pc : Int) + off = (tgt : Int)) (hc : ¬ (y ≤ x)) (k : jj p l e R s m args below meth c A NX Q Wo nx nL σ (pc + 3) lv st Z) : jj p l e R s m args below meth c A NX Q Wo nx nL σ pc lv (.int y :: .int x :: st) Z :=
  fun hz => ⟨(k hz).1, fun H locs ls hW hn hS hl => lv_icmp_ge hk.1.1 hk.1.2.1 hd ht (fun h2 => absurd h2 hc) (fun _ => (k hz).2 H locs ls hW hn hS hl)⟩
theorem jj_if_gt (hk : jk p R s m args meth c NX cc nL own fr lo ret) {x : Int32} {off : Int} (tgt : Nat) (hd : decode cc pc = .ok (.ifCond .gt off, 3)) (ht : (pc : Int) + off = (tgt : Int)) (kt : jj p l e R s m args below meth c A NX Q Wo nx nL σ tgt lv st (F1 = some res)) (kf : jj p l e R s m args below meth c A NX Q Wo nx nL σ (pc + 3) lv st (F2 = some res)) : jj p l e R s m args below meth c A NX Q Wo nx nL σ pc lv (.int x :: st) ((if 0 < x then F1 else F2) = some res) := by
  intro hz
  by_cases h : 0 < x
  · rw [if_pos h] at hz
    exact ⟨(kt hz).1, fun H locs ls hW hn hS hl => lv_if_gt hk.1.1 hk.1.2.1 hd ht (fun h2 => (kt hz).2 H locs ls hW hn hS hl) (fun h2 => absurd h h2)⟩
  · rw [if_neg h] at hz
    exact ⟨(kf hz).1, fun H locs ls hW hn hS hl => lv_if_gt hk.1.1 hk.1.2.1 hd ht (fun h2 => absurd h2 h) (fun h2 => (kf hz).2 H locs ls hW hn hS hl)⟩
theorem jj_if_gt_T (hk : jk p R s m args meth c NX cc nL own fr lo ret) {x : Int32} {off : Int} (tgt : Nat) (hd : decode cc pc = .ok (.ifCond .gt off, 3)) (ht : (pc : Int) + off = (tgt : Int)) (hc : (0 < x)) (k : jj p l e R s m args below meth c A NX Q Wo nx nL σ tgt lv st Z) : jj p l e R s m args below meth c A NX Q Wo nx nL σ pc lv (.int x :: st) Z :=
  fun hz => ⟨(k hz).1, fun H locs ls hW hn hS hl => lv_if_gt hk.1.1 hk.1.2.1 hd ht (fun _ => (k hz).2 H locs ls hW hn hS hl) (fun h2 => absurd hc h2)⟩
theorem jj_if_gt_F (hk : jk p R s m args meth c NX cc nL own fr lo ret) {x : Int32} {off : Int} (hd : decode cc pc = .ok (.ifCond .gt off, 3)) (tgt : Nat) (ht : (pc : Int) + off = (tgt : Int)) (hc : ¬ (0 < x)) (k : jj p l e R s m args below meth c A NX Q Wo nx nL σ (pc + 3) lv st Z) : jj p l e R s m args below meth c A NX Q Wo nx nL σ pc lv (.int x :: st) Z :=
  fun hz => ⟨(k hz).1, fun H locs ls hW hn hS hl => lv_if_gt hk.1.1 hk.1.2.1 hd ht (fun h2 => absurd h2 hc) (fun _ => (k hz).2 H locs ls hW hn hS hl)⟩
theorem jj_icmp_gt (hk : jk p R s m args meth c NX cc nL own fr lo ret) {x y : Int32} {off : Int} (tgt : Nat) (hd : decode cc pc = .ok (.if_icmp .gt off, 3)) (ht : (pc : Int) + off = (tgt : Int)) (kt : jj p l e R s m args below meth c A NX Q Wo nx nL σ tgt lv st (F1 = some res)) (kf : jj p l e R s m args below meth c A NX Q Wo nx nL σ (pc + 3) lv st (F2 = some res)) : jj p l e R s m args below meth c A NX Q Wo nx nL σ pc lv (.int y :: .int x :: st) ((if y < x then F1 else F2) = some res) := by
  intro hz
  by_cases h : y < x
  · rw [if_pos h] at hz
    exact ⟨(kt hz).1, fun H locs ls hW hn hS hl => lv_icmp_gt hk.1.1 hk.1.2.1 hd ht (fun h2 => (kt hz).2 H locs ls hW hn hS hl) (fun h2 => absurd h h2)⟩
  · rw [if_neg h] at hz
    exact ⟨(kf hz).1, fun H locs ls hW hn hS hl => lv_icmp_gt hk.1.1 hk.1.2.1 hd ht (fun h2 => absurd h2 h) (fun h2 => (kf hz).2 H locs ls hW hn hS hl)⟩
theorem jj_icmp_gt_T (hk : jk p R s m args meth c NX cc nL own fr lo ret) {x y : Int32} {off : Int} (tgt : Nat) (hd : decode cc pc = .ok (.if_icmp .gt off, 3)) (ht : (pc : Int) + off = (tgt : Int)) (hc : (y < x)) (k : jj p l e R s m args below meth c A NX Q Wo nx nL σ tgt lv st Z) : jj p l e R s m args below meth c A NX Q Wo nx nL σ pc lv (.int y :: .int x :: st) Z :=
  fun hz => ⟨(k hz).1, fun H locs ls hW hn hS hl => lv_icmp_gt hk.1.1 hk.1.2.1 hd ht (fun _ => (k hz).2 H locs ls hW hn hS hl) (fun h2 => absurd hc h2)⟩
theorem jj_icmp_gt_F (hk : jk p R s m args meth c NX cc nL own fr lo ret) {x y : Int32} {off : Int} (hd : decode cc pc = .ok (.if_icmp .gt off, 3)) (tgt : Nat) (ht : (pc : Int) + off = (tgt : Int)) (hc : ¬ (y < x)) (k : jj p l e R s m args below meth c A NX Q Wo nx nL σ (pc + 3) lv st Z) : jj p l e R s m args below meth c A NX Q Wo nx nL σ pc lv (.int y :: .int x :: st) Z :=
  fun hz => ⟨(k hz).1, fun H locs ls hW hn hS hl => lv_icmp_gt hk.1.1 hk.1.2.1 hd ht (fun h2 => absurd h2 hc) (fun _ => (k hz).2 H locs ls hW hn hS hl)⟩
theorem jj_if_le (hk : jk p R s m args meth c NX cc nL own fr lo ret) {x : Int32} {off : Int} (tgt : Nat) (hd : decode cc pc = .ok (.ifCond .le off, 3)) (ht : (pc : Int) + off = (tgt : Int)) (kt : jj p l e R s m args below meth c A NX Q Wo nx nL σ tgt lv st (F1 = some res)) (kf : jj p l e R s m args below meth c A NX Q Wo nx nL σ (pc + 3) lv st (F2 = some res)) : jj p l e R s m args below meth c A NX Q Wo nx nL σ pc lv (.int x :: st) ((if x ≤ 0 then F1 else F2) = some res) := by
  intro hz
  by_cases h : x ≤ 0
  · rw [if_pos h] at hz
    exact ⟨(kt hz).1, fun H locs ls hW hn hS hl => lv_if_le hk.1.1 hk.1.2.1 hd ht (fun h2 => (kt hz).2 H locs ls hW hn hS hl) (fun h2 => absurd h h2)⟩
  · rw [if_neg h] at hz
    exact ⟨(kf hz).1, fun H locs ls hW hn hS hl => lv_if_le hk.1.1 hk.1.2.1 hd ht (fun h2 => absurd h2 h) (fun h2 => (kf hz).2 H locs ls hW hn hS hl)⟩
theorem jj_if_le_T (hk : jk p R s m args meth c NX cc nL own fr lo ret) {x : Int32} {off : Int} (tgt : Nat) (hd : decode cc pc = .ok (.ifCond .le off, 3)) (ht : (pc : Int) + off = (tgt : Int)) (hc : (x ≤ 0)) (k : jj p l e R s m args below meth c A NX Q Wo nx nL σ tgt lv st Z) : jj p l e R s m args below meth c A NX Q Wo nx nL σ pc lv (.int x :: st) Z :=
  fun hz => ⟨(k hz).1, fun H locs ls hW hn hS hl => lv_if_le hk.1.1 hk.1.2.1 hd ht (fun _ => (k hz).2 H locs ls hW hn hS hl) (fun h2 => absurd hc h2)⟩
theorem jj_if_le_F (hk : jk p R s m args meth c NX cc nL own fr lo ret) {x : Int32} {off : Int} (hd : decode cc pc = .ok (.ifCond .le off, 3)) (tgt : Nat) (ht : (pc : Int) + off = (tgt : Int)) (hc : ¬ (x ≤ 0)) (k : jj p l e R s m args below meth c A NX Q Wo nx nL σ (pc + 3) lv st Z) : jj p l e R s m args below meth c A NX Q Wo nx nL σ pc lv (.int x :: st) Z :=
  fun hz => ⟨(k hz).1, fun H locs ls hW hn hS hl => lv_if_le hk.1.1 hk.1.2.1 hd ht (fun h2 => absurd h2 hc) (fun _ => (k hz).2 H locs ls hW hn hS hl)⟩
theorem jj_icmp_le (hk : jk p R s m args meth c NX cc nL own fr lo ret) {x y : Int32} {off : Int} (tgt : Nat) (hd : decode cc pc = .ok (.if_icmp .le off, 3)) (ht : (pc : Int) + off = (tgt : Int)) (kt : jj p l e R s m args below meth c A NX Q Wo nx nL σ tgt lv st (F1 = some res)) (kf : jj p l e R s m args below meth c A NX Q Wo nx nL σ (pc + 3) lv st (F2 = some res)) : jj p l e R s m args below meth c A NX Q Wo nx nL σ pc lv (.int y :: .int x :: st) ((if x ≤ y then F1 else F2) = some res) := by
  intro hz
  by_cases h : x ≤ y
  · rw [if_pos h] at hz
    exact ⟨(kt hz).1, fun H locs ls hW hn hS hl => lv_icmp_le hk.1.1 hk.1.2.1 hd ht (fun h2 => (kt hz).2 H locs ls hW hn hS hl) (fun h2 => absurd h h2)⟩
  · rw [if_neg h] at hz
    exact ⟨(kf hz).1, fun H locs ls hW hn hS hl => lv_icmp_le hk.1.1 hk.1.2.1 hd ht (fun h2 => absurd h2 h) (fun h2 => (kf hz).2 H locs ls hW hn hS hl)⟩
theorem jj_icmp_le_T (hk : jk p R s m args meth c NX cc nL own fr lo ret) {x y : Int32} {off : Int} (tgt : Nat) (hd : decode cc pc = .ok (.if_icmp .le off, 3)) (ht : (pc : Int) + off = (tgt : Int)) (hc : (x ≤ y)) (k : jj p l e R s m args below meth c A NX Q Wo nx nL σ tgt lv st Z) : jj p l e R s m args below meth c A NX Q Wo nx nL σ pc lv (.int y :: .int x :: st) Z :=
  fun hz => ⟨(k hz).1, fun H locs ls hW hn hS hl => lv_icmp_le hk.1.1 hk.1.2.1 hd ht (fun _ => (k hz).2 H locs ls hW hn hS hl) (fun h2 => absurd hc h2)⟩
theorem jj_icmp_le_F (hk : jk p R s m args meth c NX cc nL own fr lo ret) {x y : Int32} {off : Int} (hd : decode cc pc = .ok (.if_icmp .le off, 3)) (tgt : Nat) (ht : (pc : Int) + off = (tgt : Int)) (hc : ¬ (x ≤ y)) (k : jj p l e R s m args below meth c A NX Q Wo nx nL σ (pc + 3) lv st Z) : jj p l e R s m args below meth c A NX Q Wo nx nL σ pc lv (.int y :: .int x :: st) Z :=
  fun hz => ⟨(k hz).1, fun H locs ls hW hn hS hl => lv_icmp_le hk.1.1 hk.1.2.1 hd ht (fun h2 => absurd h2 hc) (fun _ => (k hz).2 H locs ls hW hn hS hl)⟩
theorem jj_if_eq_b (hk : jk p R s m args meth c NX cc nL own fr lo ret) {b : Bool} {off : Int} (tgt : Nat) (hd : decode cc pc = .ok (.ifCond .eq off, 3)) (ht : (pc : Int) + off = (tgt : Int)) (kt : jj p l e R s m args below meth c A NX Q Wo nx nL σ tgt lv st (F2 = some res)) (kf : jj p l e R s m args below meth c A NX Q Wo nx nL σ (pc + 3) lv st (F1 = some res)) : jj p l e R s m args below meth c A NX Q Wo nx nL σ pc lv (.int (bI b) :: st) ((if b = true then F1 else F2) = some res) := by
  cases b
  · exact jj_if_eq_T hk tgt hd ht rfl (fun hz => kt (by simpa using hz))
  · exact jj_if_eq_F hk hd tgt ht (by decide) (fun hz => kf (by simpa using hz))
theorem jj_if_ne_b (hk : jk p R s m args meth c NX cc nL own fr lo ret) {b : Bool} {off : Int} (tgt : Nat) (hd : decode cc pc = .ok (.ifCond .ne off, 3)) (ht : (pc : Int) + off = (tgt : Int)) (kt : jj p l e R s m args below meth c A NX Q Wo nx nL σ tgt lv st (F1 = some res)) (kf : jj p l e R s m args below meth c A NX Q Wo nx nL σ (pc + 3) lv st (F2 = some res)) : jj p l e R s m args below meth c A NX Q Wo nx nL σ pc lv (.int (bI b) :: st) ((if b = true then F1 else F2) = some res) := by
  cases b
  · exact jj_if_ne_F hk hd tgt ht rfl (fun hz => kf (by simpa using hz))
  · exact jj_if_ne_T hk tgt hd ht (by decide) (fun hz => kt (by simpa using hz))
theorem jj_tIn (hk : jk p R s m args meth c NX cc nL own fr lo ret) {dflt lo' hi : Int} {offs : Array Int} {len : Nat} {x k : Int32} {off t : Int} (tgt : Nat) (hx : x = k) (hd : decode cc pc = .ok (.tableswitch dflt lo' hi offs, len)) (hkt : k.toInt = t) (h1 : decide (lo' ≤ t ∧ t ≤ hi) = true) (ho : offs[(t - lo').toNat]? = some off) (ht : (pc : Int) + off = (tgt : Int)) (kk : jj p l e R s m args below meth c A NX Q Wo nx nL σ tgt lv st Z) : jj p l e R s m args below meth c A NX Q Wo nx nL σ pc lv (.int x :: st) Z := by
  subst hx
  have h2 := of_decide_eq_true h1
  exact fun hz => ⟨(kk hz).1, fun H locs ls hW hn hS hl => lv_tableIn hk.1.1 hk.1.2.1 hd (by rw [hkt]; omega) (by rw [hkt]; omega) (by rw [hkt]; exact ho) ht ((kk hz).2 H locs ls hW hn hS hl)⟩
theorem jj_tOut (hk : jk p R s m args meth c NX cc nL own fr lo ret) {dflt lo' hi : Int} {offs : Array Int} {len : Nat} {x : Int32} (tgt : Nat) (hd : decode cc pc = .ok (.tableswitch dflt lo' hi offs, len)) (h : x.toInt < lo' ∨ hi < x.toInt) (ht : (pc : Int) + dflt = (tgt : Int)) (kk : jj p l e R s m args below meth c A NX Q Wo nx nL σ tgt lv st Z) : jj p l e R s m args below meth c A NX Q Wo nx nL σ pc lv (.int x :: st) Z :=
  fun hz => ⟨(kk hz).1, fun H locs ls hW hn hS hl => lv_tableOut hk.1.1 hk.1.2.1 hd h ht ((kk hz).2 H locs ls hW hn hS hl)⟩
theorem jj_look (hk : jk p R s m args meth c NX cc nL own fr lo ret) {dflt : Int} {ps : Array (Int × Int)} {len : Nat} {x : Int32} {off : Int} (tgt : Nat) (hd : decode cc pc = .ok (.lookupswitch dflt ps, len)) (hp : (ps.toList.zip (ps.toList.drop 1)).all (fun (a, next) => a.1 < next.1) = true) (ho : Op.lookupswitch.offset ps.toList dflt x.toInt = off) (ht : (pc : Int) + off = (tgt : Int)) (kk : jj p l e R s m args below meth c A NX Q Wo nx nL σ tgt lv st Z) : jj p l e R s m args below meth c A NX Q Wo nx nL σ pc lv (.int x :: st) Z :=
  fun hz => ⟨(kk hz).1, fun H locs ls hW hn hS hl => lv_lookup hk.1.1 hk.1.2.1 hd hp ho ht ((kk hz).2 H locs ls hW hn hS hl)⟩
theorem jj_bind_pure {α : Type} {v : α} {K : α → Option ρ} (k : ∀ v, jj p l e R s m args below meth c A NX Q Wo nx nL σ pc lv st (K v = some res)) : jj p l e R s m args below meth c A NX Q Wo nx nL σ pc lv st ((some v).bind K = some res) := k v
/-- behind a call: the callee's answer v and picture σ1 are known from the pure text -/
theorem jj_run {st0 : List Value} {σ1 : S} {v : Option Value} {Ψ1 : Outcome → S → Prop} {a1 : Array Value} {idx : Nat} (hk : jk p R s m args meth c NX cc nL own fr lo ret) (hmono : nx σ ≤ nx σ1) (hv : ∀ (o : Option Value) (σ' : S), Ψ1 (.returned o) σ' → o = v ∧ σ' = σ1)
    (hrun : ∀ (H : Heap) (locs : List Loc) (ls : Array Slot), Wo σ H → H.size = nx σ → va_S A s.heap H locs → lv_has ls nL lv → nx σ1 ≤ NX → va_Run p l e R s m args below meth c H locs (nx σ - s.heap.size) (41 * (nx σ - s.heap.size)) (nx σ1 - nx σ) (41 * (nx σ1 - nx σ)) (F0 m pc ls st0) st (jj_Q Ψ1 Wo nx A a1) A)
    (kk : jj p l e R s m args below meth c A NX Q Wo nx nL σ1 (pc + 3) lv (v.toList ++ st) Z) : jj p l e R s m args below meth c A NX Q Wo nx nL σ pc lv st0 Z := by
  intro hz
  obtain ⟨hle, hw⟩ := kk hz
  refine ⟨Nat.le_trans hmono hle, fun H locs ls hW hn hS hl => ?_⟩
  intro T hT X
  obtain ⟨v', st₀, t, T', L, h0, X', hL, e1, e2, ⟨⟨σ', hp, hw1, hn1⟩, hzz, hkk⟩, st'⟩ := hrun H locs ls hW hn hS hl hle T hT X
  obtain ⟨rfl, rfl⟩ := hv v' σ' hp
  rw [h0] at hzz hkk
  have hs0 : s.heap.size ≤ nx σ := by rw [← hn]; exact hS.1
  have ec : nx σ - s.heap.size + (nx σ' - nx σ) = nx σ' - s.heap.size := by omega
  have es : 41 * (nx σ - s.heap.size) + 41 * (nx σ' - nx σ) = 41 * (nx σ' - s.heap.size) := by omega
  rw [ec, es] at X'
  obtain ⟨t2, a2, b2⟩ := hw T'.heap (locs ++ L) ls (by rw [e1]; exact hw1) (by rw [e1]; exact hn1) ⟨Nat.le_trans hS.1 (by rw [e1]; exact hzz), fun q h1 h2 => by rw [e1, hkk q (Nat.lt_of_lt_of_le h1 hS.1) h2]; exact hS.2.1 q h1 h2, fun q hq => by
      rcases List.mem_append.mp hq with h | h
      · exact hS.2.2 q h
      · exact hL q h⟩ hl T' rfl X'
  exact ⟨t2, st' t2 a2, b2⟩
/-- an end: the outcome o and the picture σ are what Ψ allows -/
theorem jj_endI (hk : jk p R s m args meth c NX cc nL own fr lo ret) {x : Int32} {ty : FieldType} (hret : ret = some ty) (hd : decode cc pc = .ok (.ireturn, 1)) (hnar : narrow ty (.int x) = .int x) (hΨ : Z → Ψ (.returned (some (.int x))) σ ∧ NX = nx σ) : jj p l e R s m args below meth c A NX (jZ below args s A NX Ψ Wo nx) Wo nx nL σ pc lv [.int x] Z := by
  intro hz
  obtain ⟨h1, h2⟩ := hΨ hz
  subst h2
  exact ⟨Nat.le_refl _, fun H locs ls hW hn hS hl => W.zret hk.1.1 hk.1.2.1 (by rw [hk.2.2.1]; exact hret) hnar (fun t ht hWm => ⟨⟨σ, h1, by rw [ht]; exact hW, by rw [ht]; exact hn⟩, hS.F ht⟩) hS.2.2 hd hk.2.2.2⟩
theorem jj_endL (hk : jk p R s m args meth c NX cc nL own fr lo ret) {x : Int64} (hret : ret = some .long) (hd : decode cc pc = .ok (.lreturn, 1)) (hΨ : Z → Ψ (.returned (some (.long x))) σ ∧ NX = nx σ) : jj p l e R s m args below meth c A NX (jZ below args s A NX Ψ Wo nx) Wo nx nL σ pc lv [.long x] Z := by
  intro hz
  obtain ⟨h1, h2⟩ := hΨ hz
  subst h2
  exact ⟨Nat.le_refl _, fun H locs ls hW hn hS hl => W.lret hk.1.1 hk.1.2.1 (by rw [hk.2.2.1]; exact hret) (fun t ht hWm => ⟨⟨σ, h1, by rw [ht]; exact hW, by rw [ht]; exact hn⟩, hS.F ht⟩) hS.2.2 hd hk.2.2.2⟩
theorem jj_endV (hk : jk p R s m args meth c NX cc nL own fr lo ret) (hret : ret = none) (hd : decode cc pc = .ok (.return_, 1)) (hΨ : Z → Ψ (.returned none) σ ∧ NX = nx σ) : jj p l e R s m args below meth c A NX (jZ below args s A NX Ψ Wo nx) Wo nx nL σ pc lv [] Z := by
  intro hz
  obtain ⟨h1, h2⟩ := hΨ hz
  subst h2
  exact ⟨Nat.le_refl _, fun H locs ls hW hn hS hl => W.vret hk.1.1 hk.1.2.1 (by rw [hk.2.2.1]; exact hret) (fun t ht hWm => ⟨⟨σ, h1, by rw [ht]; exact hW, by rw [ht]; exact hn⟩, hS.F ht⟩) hS.2.2 hd hk.2.2.2⟩
end JJ
theorem narrow_bI (b : Bool) : narrow .boolean (.int (bI b)) = .int (bI b) := by cases b <;> rfl
/-- what a method's end says, by the kind of its pure text -/
def jU {S : Type} (r : Int32 × S) : Outcome → S → Prop := fun o σ => o = .returned (some (.int r.1)) ∧ σ = r.2
def jUz {S : Type} (r : Bool × S) : Outcome → S → Prop := fun o σ => o = .returned (some (.int (bI r.1))) ∧ σ = r.2
def jV {S : Type} (r : S) : Outcome → S → Prop := fun o σ => o = .returned none ∧ σ = r
def jR {S : Type} (σ0 : S) (r : Int32) : Outcome → S → Prop := fun o σ => o = .returned (some (.int r)) ∧ σ = σ0
def jRz {S : Type} (σ0 : S) (r : Bool) : Outcome → S → Prop := fun o σ => o = .returned (some (.int (bI r))) ∧ σ = σ0
def jRl {S : Type} (σ0 : S) (r : Int64) : Outcome → S → Prop := fun o σ => o = .returned (some (.long r)) ∧ σ = σ0
/-- a method's contract out of the walk of its body -/
theorem jj_start {l : Launch} {y : MethodName} {cc : ByteArray} {nL : Nat} {ret : Option FieldType} {fr lo : Nat} {av : List Value} {S : Type} {Wo : S → Heap → Prop} {nx : S → Nat} {KK : State → Prop} {σ : S} {Ψ : Outcome → S → Prop} {A : Nat → Prop} {NX : Nat} {Z : Prop} (lv0 : List (Nat × Value)) (hpl : plainName y.cls = true) (hl0 : (lg_sl av).length ≤ nL) (hlv : lv_args 0 av = lv0)
    (body : ∀ (p : Program) (e : Env) (R : Room) (s : State) (m : MethodId) (args : Array Value) (below : List Frame) (meth : Method) (c : Code), jk p R s m args meth c NX cc nL y.cls fr lo ret → KK s → s.heap.size = nx σ → jj p l e R s m args below meth c A NX (jZ below args s A NX Ψ Wo nx) Wo nx nL σ 0 lv0 [] Z) (hZ : Z) : jM l y (ws_ y cc nL ret) fr lo av Wo nx KK σ Ψ A NX := by
  refine Met.ofW (cc := cc) (maxL := nL) (ret := ret) hpl rfl ?_
  intro p e s m args below meth c s₁ B hml hv
  obtain ⟨rfl, hWo, hsz, hK⟩ := hv
  have hts := atoms_spec (ws := ws_ y cc nL ret) B.pre
  have hts : ∀ w ∈ lw_all, w.before _ s = true := fun w h => hts w (List.mem_cons_of_mem _ h)
  have hown : s.vm.findClass y.cls = some m.cls := findClass_of_methodNamed B.named
  have hl := lv_entry av (n := nL) hl0
  rw [lg_entry_eq]
  generalize (lg_sl av ++ List.replicate (nL - (lg_sl av).length) Slot.unset).toArray = ls at hl ⊢
  rw [hlv] at hl
  have hJ := (body p e ({ frames := fr, cells := NX - s.heap.size, slots := 41 * (NX - s.heap.size), locals := lo } : Room) s m av.toArray below meth c ⟨⟨B.exec, B.bytes, hml, hown, hts⟩, rfl, B.returns, B.notSynchronized⟩ hK hsz hZ).2 s.heap [] ls hWo hsz va_S.rf hl
  rw [← hsz] at hJ ⊢
  rw [Nat.sub_self, Nat.mul_zero] at hJ
  exact hJ
