/-! THE LAW's FRAME: both worlds side by side, the judgement jl with its own counts of cells and slots -/
set_option maxRecDepth 100000
/-- the model's picture at another heap size -/
def jn (J : jG) (n : Nat) : jG := (J.1, J.2.1, J.2.2.1, J.2.2.2.1, J.2.2.2.2.1, n, J.2.2.2.2.2.2)
/-- what is fixed in the law's walk -/
def lk (p : Program) (s : State) (m : MethodId) (b : Nat) (meth : Method) (c : Code) (G : cG) (KK : State → Prop) (J : jG) (A : Nat → Prop) (L : Nat) (xs : Nat → Int32) : Prop :=
  CallFix p m c code 4 s #[Value.ref b] lw_all "LeftUndoesLaw" ∧ cH G KK ∧ KK s ∧ mK J s ∧ (∀ q, hA G q → A q) ∧ (∀ q, gA J q → A q ∧ ¬ hA G q) ∧ (b < s.heap.size ∧ ¬ A b ∧ va_X b L xs s s.heap) ∧ (∀ H H1 : Heap, H.size ≤ H1.size → (∀ q, q < H.size → ¬ gA J q → H1[q]? = H[q]?) → hX G H → hX G H1) ∧ L ≤ 320
def jl (p : Program) (l : Launch) (e : Env) (s : State) (m : MethodId) (b : Nat) (below : List Frame) (meth : Method) (c : Code) (G : cG) (J : jG) (A : Nat → Prop) (Q : State → Prop) (k n : Nat) (σ : SS) (d : DS) (μ : MS) (pc : Nat) (lv : List (Nat × Value)) (st : List Value) : Prop :=
  ∀ (H : Heap) (locs : List Loc) (ls : Array Slot), cWo G d σ H → mWo J μ H → H.size = d.2 → va_S A s.heap H locs → lv_has ls 4 lv → W p l e room_1 s m #[Value.ref b] below meth c H locs k n Q (F0 m pc ls st)
section JL
variable {p : Program} {l : Launch} {e : Env} {s : State} {m : MethodId} {b : Nat} {below : List Frame} {meth : Method} {c : Code} {G : cG} {KK : State → Prop} {J : jG} {A : Nat → Prop} {L : Nat} {xs : Nat → Int32} {Q : State → Prop} {k n : Nat} {σ : SS} {d : DS} {μ : MS} {pc : Nat} {lv lv' : List (Nat × Value)} {st : List Value}
theorem jl_iconst (hk : lk p s m b meth c G KK J A L xs) {i : Int} {v : Int32} (hd : decode code pc = .ok (.iconst i, 1)) (hv : Int32.ofInt i = v) (kk : jl p l e s m b below meth c G J A Q k n σ d μ (pc + 1) lv (.int v :: st)) : jl p l e s m b below meth c G J A Q k n σ d μ pc lv st :=
  fun H locs ls hW hM hn hS hl => lv_iconst hk.1.1 hk.1.2.1 hd hv (kk H locs ls hW hM hn hS hl)
theorem jl_bipush (hk : lk p s m b meth c G KK J A L xs) {i : Int} {v : Int32} (hd : decode code pc = .ok (.bipush i, 2)) (hv : (Int8.ofInt i).toInt32 = v) (kk : jl p l e s m b below meth c G J A Q k n σ d μ (pc + 2) lv (.int v :: st)) : jl p l e s m b below meth c G J A Q k n σ d μ pc lv st :=
  fun H locs ls hW hM hn hS hl => lv_bipush hk.1.1 hk.1.2.1 hd hv (kk H locs ls hW hM hn hS hl)
theorem jl_aload_n (hk : lk p s m b meth c G KK J A L xs) {a : Fin 4} {i x : Nat} (hd : decode code pc = .ok (.aload_n a, 1)) (q : Nat) (hi : (a : Nat) = i) (hq : lv[q]? = some (i, .ref x)) (kk : jl p l e s m b below meth c G J A Q k n σ d μ (pc + 1) lv (.ref x :: st)) : jl p l e s m b below meth c G J A Q k n σ d μ pc lv st :=
  fun H locs ls hW hM hn hS hl => lv_aload_n hk.1.1 hk.1.2.1 hd hi (lv_at hl q hq) (kk H locs ls hW hM hn hS hl)
theorem jl_iload_n (hk : lk p s m b meth c G KK J A L xs) {a : Fin 4} {i : Nat} {x : Int32} (hd : decode code pc = .ok (.iload_n a, 1)) (q : Nat) (hi : (a : Nat) = i) (hq : lv[q]? = some (i, .int x)) (kk : jl p l e s m b below meth c G J A Q k n σ d μ (pc + 1) lv (.int x :: st)) : jl p l e s m b below meth c G J A Q k n σ d μ pc lv st :=
  fun H locs ls hW hM hn hS hl => lv_iload_n hk.1.1 hk.1.2.1 hd hi (lv_at hl q hq) (kk H locs ls hW hM hn hS hl)
theorem jl_iadd (hk : lk p s m b meth c G KK J A L xs) {x y : Int32} (hd : decode code pc = .ok (.iadd, 1)) (kk : jl p l e s m b below meth c G J A Q k n σ d μ (pc + 1) lv (.int (x + y) :: st)) : jl p l e s m b below meth c G J A Q k n σ d μ pc lv (.int y :: .int x :: st) :=
  fun H locs ls hW hM hn hS hl => lv_iadd hk.1.1 hk.1.2.1 hd (kk H locs ls hW hM hn hS hl)
theorem jl_isub (hk : lk p s m b meth c G KK J A L xs) {x y : Int32} (hd : decode code pc = .ok (.isub, 1)) (kk : jl p l e s m b below meth c G J A Q k n σ d μ (pc + 1) lv (.int (x - y) :: st)) : jl p l e s m b below meth c G J A Q k n σ d μ pc lv (.int y :: .int x :: st) :=
  fun H locs ls hW hM hn hS hl => lv_isub hk.1.1 hk.1.2.1 hd (kk H locs ls hW hM hn hS hl)
theorem jl_iand (hk : lk p s m b meth c G KK J A L xs) {x y : Int32} (hd : decode code pc = .ok (.iand, 1)) (kk : jl p l e s m b below meth c G J A Q k n σ d μ (pc + 1) lv (.int (x &&& y) :: st)) : jl p l e s m b below meth c G J A Q k n σ d μ pc lv (.int y :: .int x :: st) :=
  fun H locs ls hW hM hn hS hl => lv_iand hk.1.1 hk.1.2.1 hd (kk H locs ls hW hM hn hS hl)
theorem jl_i2l (hk : lk p s m b meth c G KK J A L xs) {x : Int32} (hd : decode code pc = .ok (.i2l, 1)) (kk : jl p l e s m b below meth c G J A Q k n σ d μ (pc + 1) lv (.long x.toInt64 :: st)) : jl p l e s m b below meth c G J A Q k n σ d μ pc lv (.int x :: st) :=
  fun H locs ls hW hM hn hS hl => lv_i2l hk.1.1 hk.1.2.1 hd rfl (kk H locs ls hW hM hn hS hl)
theorem jl_lshl (hk : lk p s m b meth c G KK J A L xs) {x : Int64} {y : Int32} (hd : decode code pc = .ok (.lshl, 1)) (kk : jl p l e s m b below meth c G J A Q k n σ d μ (pc + 1) lv (.long (x <<< (y.toInt64 &&& 63)) :: st)) : jl p l e s m b below meth c G J A Q k n σ d μ pc lv (.int y :: .long x :: st) :=
  fun H locs ls hW hM hn hS hl => lv_lshl hk.1.1 hk.1.2.1 hd rfl (kk H locs ls hW hM hn hS hl)
theorem jl_land (hk : lk p s m b meth c G KK J A L xs) {x y : Int64} (hd : decode code pc = .ok (.land, 1)) (kk : jl p l e s m b below meth c G J A Q k n σ d μ (pc + 1) lv (.long (x &&& y) :: st)) : jl p l e s m b below meth c G J A Q k n σ d μ pc lv (.long y :: .long x :: st) :=
  fun H locs ls hW hM hn hS hl => lv_land hk.1.1 hk.1.2.1 hd (kk H locs ls hW hM hn hS hl)
theorem jl_lor (hk : lk p s m b meth c G KK J A L xs) {x y : Int64} (hd : decode code pc = .ok (.lor, 1)) (kk : jl p l e s m b below meth c G J A Q k n σ d μ (pc + 1) lv (.long (x ||| y) :: st)) : jl p l e s m b below meth c G J A Q k n σ d μ pc lv (.long y :: .long x :: st) :=
  fun H locs ls hW hM hn hS hl => lv_lor hk.1.1 hk.1.2.1 hd (kk H locs ls hW hM hn hS hl)
theorem jl_ldc2 (hk : lk p s m b meth c G KK J A L xs) {index : Nat} {v : Int64} (hc : Cond.constantLong "LeftUndoesLaw" index v ∈ lw_all) (hd : decode code pc = .ok (.ldc2_w index, 3)) (kk : jl p l e s m b below meth c G J A Q k n σ d μ (pc + 3) lv (.long v :: st)) : jl p l e s m b below meth c G J A Q k n σ d μ pc lv st :=
  fun H locs ls hW hM hn hS hl => lv_ldc2 hk.1.1 hk.1.2.1 hk.1.2.2.2.1 (hk.1.2.2.2.2 _ hc) hd (kk H locs ls hW hM hn hS hl)
theorem jl_goto (hk : lk p s m b meth c G KK J A L xs) {off : Int} (tgt : Nat) (hd : decode code pc = .ok (.goto off, 3)) (ht : (pc : Int) + off = (tgt : Int)) (kk : jl p l e s m b below meth c G J A Q k n σ d μ tgt lv st) : jl p l e s m b below meth c G J A Q k n σ d μ pc lv st :=
  fun H locs ls hW hM hn hS hl => lv_goto hk.1.1 hk.1.2.1 hd ht (kk H locs ls hW hM hn hS hl)
theorem jl_eqT (hk : lk p s m b meth c G KK J A L xs) {off : Int} {x y : Int32} (tgt : Nat) (hd : decode code pc = .ok (.if_icmp .eq off, 3)) (ht : (pc : Int) + off = (tgt : Int)) (hc : x = y) (kk : jl p l e s m b below meth c G J A Q k n σ d μ tgt lv st) : jl p l e s m b below meth c G J A Q k n σ d μ pc lv (.int y :: .int x :: st) :=
  fun H locs ls hW hM hn hS hl => lv_icmp_eq hk.1.1 hk.1.2.1 hd ht (fun _ => kk H locs ls hW hM hn hS hl) (fun h => absurd hc h)
theorem jl_gtT (hk : lk p s m b meth c G KK J A L xs) {off : Int} {x y : Int32} (tgt : Nat) (hd : decode code pc = .ok (.if_icmp .gt off, 3)) (ht : (pc : Int) + off = (tgt : Int)) (hc : y < x) (kk : jl p l e s m b below meth c G J A Q k n σ d μ tgt lv st) : jl p l e s m b below meth c G J A Q k n σ d μ pc lv (.int y :: .int x :: st) :=
  fun H locs ls hW hM hn hS hl => lv_icmp_gt hk.1.1 hk.1.2.1 hd ht (fun _ => kk H locs ls hW hM hn hS hl) (fun h => absurd hc h)
theorem jl_gtF (hk : lk p s m b meth c G KK J A L xs) {off : Int} {x y : Int32} (tgt : Nat) (hd : decode code pc = .ok (.if_icmp .gt off, 3)) (ht : (pc : Int) + off = (tgt : Int)) (hc : ¬ y < x) (kk : jl p l e s m b below meth c G J A Q k n σ d μ (pc + 3) lv st) : jl p l e s m b below meth c G J A Q k n σ d μ pc lv (.int y :: .int x :: st) :=
  fun H locs ls hW hM hn hS hl => lv_icmp_gt hk.1.1 hk.1.2.1 hd ht (fun h => absurd h hc) (fun _ => kk H locs ls hW hM hn hS hl)
theorem jl_iald (hk : lk p s m b meth c G KK J A L xs) {i : Int32} (hin : vp_in i L) (hd : decode code pc = .ok (.iaload, 1)) (kk : jl p l e s m b below meth c G J A Q k n σ d μ (pc + 1) lv (.int (xs i.toNatClampNeg) :: st)) : jl p l e s m b below meth c G J A Q k n σ d μ pc lv (.int i :: .ref b :: st) :=
  fun H locs ls hW hM hn hS hl => va_sld hk.1.1 hk.1.2.1 hk.2.2.2.2.2.2.1.2.2 hk.2.2.2.2.2.2.1.1 hk.2.2.2.2.2.2.1.2.1 hS hin hd (kk H locs ls hW hM hn hS hl)
theorem jl_alen (hk : lk p s m b meth c G KK J A L xs) (hd : decode code pc = .ok (.arraylength, 1)) (kk : jl p l e s m b below meth c G J A Q k n σ d μ (pc + 1) lv (.int (Int32.ofNat L) :: st)) : jl p l e s m b below meth c G J A Q k n σ d μ pc lv (.ref b :: st) :=
  fun H locs ls hW hM hn hS hl => va_slen hk.1.1 hk.1.2.1 hk.2.2.2.2.2.2.1.2.2 hk.2.2.2.2.2.2.1.1 hk.2.2.2.2.2.2.1.2.1 hS hd (kk H locs ls hW hM hn hS hl)
theorem jl_tIn (hk : lk p s m b meth c G KK J A L xs) {dflt lo hi : Int} {offs : Array Int} {len : Nat} {x : Int32} {off : Int} (tgt : Nat) (hd : decode code pc = .ok (.tableswitch dflt lo hi offs, len)) (h1 : ¬ x.toInt < lo) (h2 : ¬ hi < x.toInt) (ho : offs[(x.toInt - lo).toNat]? = some off) (ht : (pc : Int) + off = (tgt : Int)) (kk : jl p l e s m b below meth c G J A Q k n σ d μ tgt lv st) : jl p l e s m b below meth c G J A Q k n σ d μ pc lv (.int x :: st) :=
  fun H locs ls hW hM hn hS hl => lv_tableIn hk.1.1 hk.1.2.1 hd h1 h2 ho ht (kk H locs ls hW hM hn hS hl)
theorem jl_tOut (hk : lk p s m b meth c G KK J A L xs) {dflt lo hi : Int} {offs : Array Int} {len : Nat} {x : Int32} (tgt : Nat) (hd : decode code pc = .ok (.tableswitch dflt lo hi offs, len)) (h : x.toInt < lo ∨ hi < x.toInt) (ht : (pc : Int) + dflt = (tgt : Int)) (kk : jl p l e s m b below meth c G J A Q k n σ d μ tgt lv st) : jl p l e s m b below meth c G J A Q k n σ d μ pc lv (.int x :: st) :=
  fun H locs ls hW hM hn hS hl => lv_tableOut hk.1.1 hk.1.2.1 hd h ht (kk H locs ls hW hM hn hS hl)
theorem jl_iinc (hk : lk p s m b meth c G KK J A L xs) {i : Nat} {j : Int} {x v : Int32} (lv' : List (Nat × Value)) (hd : decode code pc = .ok (.iinc i j, 3)) (q : Nat) (hq : lv[q]? = some (i, .int x)) (hv : x + Int32.ofInt j = v) (hin : i < 4) (hl : (i, Value.int v) :: lv.filter (fun q => !(q.1 == i) && !(q.1 + 1 == i && q.2.category == 2)) = lv') (kk : jl p l e s m b below meth c G J A Q k n σ d μ (pc + 3) lv' st) : jl p l e s m b below meth c G J A Q k n σ d μ pc lv st :=
  fun H locs ls hW hM hn hS hl2 => lv_iinc hk.1.1 hk.1.2.1 hd hl2 hq hv hin hl (fun ls' h' => kk H locs ls' hW hM hn hS h')
theorem jl_lv (hk : lk p s m b meth c G KK J A L xs) (hsub : ∀ q ∈ lv', q ∈ lv) (kk : jl p l e s m b below meth c G J A Q k n σ d μ pc lv' st) : jl p l e s m b below meth c G J A Q k n σ d μ pc lv st :=
  fun H locs ls hW hM hn hS hl => kk H locs ls hW hM hn hS ⟨hl.1, hl.2.1, fun q hq => hl.2.2 q (hsub q hq)⟩
theorem jl_more {k1 n1 : Nat} (h1 : k ≤ k1) (h2 : n ≤ n1) (kk : jl p l e s m b below meth c G J A Q k1 n1 σ d μ pc lv st) : jl p l e s m b below meth c G J A Q k n σ d μ pc lv st :=
  fun H locs ls hW hM hn hS hl => W.widen h1 h2 (kk H locs ls hW hM hn hS hl)
/-- a call of the component came back -/
theorem jl_runC (hk : lk p s m b meth c G KK J A L xs) {S1 : Type} {st0 : List Value} {σ' : SS} {d' : DS} {v : Value} {mc ms : Nat} {Ψ1 : Outcome → S1 → Prop} {Wo1 : S1 → Heap → Prop} {nx1 : S1 → Nat} {a1 : Array Value}
    (hv : ∀ (o : Option Value) (z : S1) (H : Heap), Ψ1 (.returned o) z → Wo1 z H → o = some v ∧ ∃ n2, d'.2 ≤ n2 ∧ n2 ≤ d'.2 + 3 ∧ cWo G (d'.1, n2) σ' H ∧ nx1 z = n2)
    (hrun : ∀ (H : Heap) (locs : List Loc) (ls : Array Slot), cWo G d σ H → H.size = d.2 → ls.size = 4 → va_Run p l e room_1 s m #[Value.ref b] below meth c H locs k n mc ms (F0 m pc ls st0) st (jj_Q Ψ1 Wo1 nx1 (hA G) a1) (hA G))
    (kk : ∀ n2, d'.2 ≤ n2 → n2 ≤ d'.2 + 3 → jl p l e s m b below meth c G J A Q (k + mc) (n + ms) σ' (d'.1, n2) μ (pc + 3) lv (v :: st)) : jl p l e s m b below meth c G J A Q k n σ d μ pc lv st0 := by
  intro H locs ls hW hM hn hS hl
  intro T hT X
  obtain ⟨v', st₀, t, T', L', h0, X', hL, e1, e2, ⟨⟨z, hp, hw1, hn1⟩, hzz, hkk⟩, st'⟩ := hrun H locs ls hW hn hl.1 T hT X
  obtain ⟨rfl, n2, g1, g2, g3, g4⟩ := hv v' z t.heap hp hw1
  rw [h0] at hzz hkk
  have hM2 : mWo J μ t.heap := ⟨hM.1.kept (fun i x hx => hkk x.1 (hM.1 i x hx).lt (hk.2.2.2.2.2.1 _ (hM.2.2 i x hx)).2), hM.2⟩
  obtain ⟨t2, a2, b2⟩ := kk n2 g1 g2 T'.heap (locs ++ L') ls (by rw [e1]; exact g3) (by rw [e1]; exact hM2) (by rw [e1, hn1, g4]) ⟨Nat.le_trans hS.1 (by rw [e1]; exact hzz), fun q h1 h2 => by rw [e1, hkk q (Nat.lt_of_lt_of_le h1 hS.1) (fun h => h2 (hk.2.2.2.2.1 q h))]; exact hS.2.1 q h1 h2, fun q hq => by
      rcases List.mem_append.mp hq with h | h
      · exact hS.2.2 q h
      · exact hk.2.2.2.2.1 _ (hL q h)⟩ hl T' rfl X'
  exact ⟨t2, st' t2 a2, b2⟩
/-- a call of the model came back -/
theorem jl_runM (hk : lk p s m b meth c G KK J A L xs) {st0 : List Value} {μ' : MS} {v : Value} {mc ms : Nat} {Ψ1 : Outcome → MS → Prop} {a1 : Array Value}
    (hv : ∀ (o : Option Value) (z : MS), Ψ1 (.returned o) z → o = some v ∧ z = μ')
    (hrun : ∀ (H : Heap) (locs : List Loc) (ls : Array Slot), mWo J μ H → H.size = d.2 → ls.size = 4 → va_Run p l e room_1 s m #[Value.ref b] below meth c H locs k n mc ms (F0 m pc ls st0) st (jj_Q Ψ1 (mWo J) (mnx (jn J d.2)) (gA J) a1) (gA J))
    (kk : jl p l e s m b below meth c G J A Q (k + mc) (n + ms) σ d μ' (pc + 3) lv (v :: st)) : jl p l e s m b below meth c G J A Q k n σ d μ pc lv st0 := by
  intro H locs ls hW hM hn hS hl
  intro T hT X
  obtain ⟨v', st₀, t, T', L', h0, X', hL, e1, e2, ⟨⟨z, hp, hw1, hn1⟩, hzz, hkk⟩, st'⟩ := hrun H locs ls hM hn hl.1 T hT X
  obtain ⟨rfl, rfl⟩ := hv v' z hp
  rw [h0] at hzz hkk
  have hn2 : t.heap.size = d.2 := hn1
  have hW2 : cWo G d σ t.heap := ⟨hW.1.kept (fun i x hx => hkk x.1 (hW.1 i x hx).lt (fun h => (hk.2.2.2.2.2.1 _ h).2 (hW.2.1.2 i x hx))), hW.2.1, hk.2.2.2.2.2.2.2.1 H t.heap hzz hkk hW.2.2⟩
  obtain ⟨t2, a2, b2⟩ := kk T'.heap (locs ++ L') ls (by rw [e1]; exact hW2) (by rw [e1]; exact hw1) (by rw [e1, hn2]) ⟨Nat.le_trans hS.1 (by rw [e1]; exact hzz), fun q h1 h2 => by rw [e1, hkk q (Nat.lt_of_lt_of_le h1 hS.1) (fun h => h2 (hk.2.2.2.2.2.1 q h).1)]; exact hS.2.1 q h1 h2, fun q hq => by
      rcases List.mem_append.mp hq with h | h
      · exact hS.2.2 q h
      · exact (hk.2.2.2.2.2.1 _ (hL q h)).1⟩ hl T' rfl X'
  exact ⟨t2, st' t2 a2, b2⟩
theorem hrvX (hk : lk p s m b meth c G KK J A L xs) : cRv G d σ s (ha G 0) "LeftUndoes" := cRv_at (q := (RX0, TX0, 32)) (ci := 1) (q0 := 0) hk.2.1 hk.2.2.1 rfl rfl

theorem jl_U (hk : lk p s m b meth c G KK J A L xs) {y : MethodName} {bytes : ByteArray} {nLc frc loc idx np : Nat} {r : Int32 × SS} (As : List Value) {st0 : List Value} (hM : jM l y (ws_ y bytes nLc (some .int)) frc loc (.ref (ha G 0) :: As) (cWo G d) (cnx d) KK σ (jU r) (hA G) d.2)
    (hlw : GoodIn lw_all (wsV "LeftUndoesLaw" idx "LeftUndoes" y (ws_ y bytes nLc (some .int)))) (hy : y.cls = "LeftUndoes" ∧ y.cls ≠ "java/lang/invoke/MethodHandle" ∧ y.cls ≠ "java/lang/invoke/VarHandle" ∧ (parseMethodDescriptor y.desc).map (fun d => d.parameters.length) = some np) (hlen : As.length = np) (hst : st0 = (As.reverse ++ .ref (ha G 0) :: st)) (hd : decode code pc = .ok (.invokevirtual idx, 3)) (hr : frc + 1 ≤ 8192 ∧ 8 + (nLc + 11) + loc ≤ 104096) (hk1 : k + (d.2 - d.2) ≤ 699883) (hk2 : n + 41 * (d.2 - d.2) ≤ 6971880) (hw : (st.map fun v => v.category).sum ≤ 8)
    (kk : ∀ n2, d.2 ≤ n2 → n2 ≤ d.2 + 3 → jl p l e s m b below meth c G J A Q (k + (d.2 - d.2)) (n + 41 * (d.2 - d.2)) r.2 (d.1, n2) μ (pc + 3) lv (.int r.1 :: st)) : jl p l e s m b below meth c G J A Q k n σ d μ pc lv st0 := by
  subst hst
  refine jl_runC (σ' := r.2) (d' := d) (v := .int r.1) (Ψ1 := (jU r)) (Wo1 := (cWo G d)) (nx1 := (cnx d)) (mc := d.2 - d.2) (ms := 41 * (d.2 - d.2)) (a1 := (Value.ref (ha G 0) :: As).toArray) hk (fun o z H h hz => ?_) (fun H locs ls hW hn hl => ?_) kk
  · have h1 := h.1; have h2 : z = r.2 := h.2; subst h2; cases h1; exact ⟨rfl, d.2, Nat.le_refl _, Nat.le_add_right _ _, hz, rfl⟩
  · exact va_runV (As := As) (rest := st) hk.1 hM (cwV np hk.1.2.2.2.2 hlw rfl rfl rfl hy hr) ⟨cblind hk.2.1.1, hrvX hk H hW, fun U hU hWm => ⟨rfl, by rw [hU]; exact hW, by rw [hU]; exact hn, hk.2.1.1 _ _ hWm hk.2.2.1⟩⟩ rfl hlen hl rfl (lv_room hw) hd ⟨hk1, hk2⟩
theorem jl_R (hk : lk p s m b meth c G KK J A L xs) {y : MethodName} {bytes : ByteArray} {nLc frc loc idx np : Nat} {r : Int32} (As : List Value) {st0 : List Value} (hM : jM l y (ws_ y bytes nLc (some .int)) frc loc (.ref (ha G 0) :: As) (cWo G d) (cnx d) KK σ (jR σ r) (hA G) d.2)
    (hlw : GoodIn lw_all (wsV "LeftUndoesLaw" idx "LeftUndoes" y (ws_ y bytes nLc (some .int)))) (hy : y.cls = "LeftUndoes" ∧ y.cls ≠ "java/lang/invoke/MethodHandle" ∧ y.cls ≠ "java/lang/invoke/VarHandle" ∧ (parseMethodDescriptor y.desc).map (fun d => d.parameters.length) = some np) (hlen : As.length = np) (hst : st0 = (As.reverse ++ .ref (ha G 0) :: st)) (hd : decode code pc = .ok (.invokevirtual idx, 3)) (hr : frc + 1 ≤ 8192 ∧ 8 + (nLc + 11) + loc ≤ 104096) (hk1 : k + (d.2 - d.2) ≤ 699883) (hk2 : n + 41 * (d.2 - d.2) ≤ 6971880) (hw : (st.map fun v => v.category).sum ≤ 8)
    (kk : ∀ n2, d.2 ≤ n2 → n2 ≤ d.2 + 3 → jl p l e s m b below meth c G J A Q (k + (d.2 - d.2)) (n + 41 * (d.2 - d.2)) σ (d.1, n2) μ (pc + 3) lv (.int r :: st)) : jl p l e s m b below meth c G J A Q k n σ d μ pc lv st0 := by
  subst hst
  refine jl_runC (σ' := σ) (d' := d) (v := .int r) (Ψ1 := (jR σ r)) (Wo1 := (cWo G d)) (nx1 := (cnx d)) (mc := d.2 - d.2) (ms := 41 * (d.2 - d.2)) (a1 := (Value.ref (ha G 0) :: As).toArray) hk (fun o z H h hz => ?_) (fun H locs ls hW hn hl => ?_) kk
  · have h1 := h.1; have h2 : z = σ := h.2; subst h2; cases h1; exact ⟨rfl, d.2, Nat.le_refl _, Nat.le_add_right _ _, hz, rfl⟩
  · exact va_runV (As := As) (rest := st) hk.1 hM (cwV np hk.1.2.2.2.2 hlw rfl rfl rfl hy hr) ⟨cblind hk.2.1.1, hrvX hk H hW, fun U hU hWm => ⟨rfl, by rw [hU]; exact hW, by rw [hU]; exact hn, hk.2.1.1 _ _ hWm hk.2.2.1⟩⟩ rfl hlen hl rfl (lv_room hw) hd ⟨hk1, hk2⟩
theorem jl_A (hk : lk p s m b meth c G KK J A L xs) {y : MethodName} {bytes : ByteArray} {nLc frc loc idx np : Nat} {r : Int32 × SS × DS} (As : List Value) {st0 : List Value} (hM : jM l y (ws_ y bytes nLc (some .int)) frc loc (.ref (ha G 0) :: As) (aWo G) anx KK (σ, d) (jUa (fun x : Int32 => .int x) r) (hA G) r.2.2.2)
    (hlw : GoodIn lw_all (wsV "LeftUndoesLaw" idx "LeftUndoes" y (ws_ y bytes nLc (some .int)))) (hy : y.cls = "LeftUndoes" ∧ y.cls ≠ "java/lang/invoke/MethodHandle" ∧ y.cls ≠ "java/lang/invoke/VarHandle" ∧ (parseMethodDescriptor y.desc).map (fun d => d.parameters.length) = some np) (hlen : As.length = np) (hst : st0 = (As.reverse ++ .ref (ha G 0) :: st)) (hd : decode code pc = .ok (.invokevirtual idx, 3)) (hr : frc + 1 ≤ 8192 ∧ 8 + (nLc + 11) + loc ≤ 104096) (hk1 : k + (r.2.2.2 - d.2) ≤ 699883) (hk2 : n + 41 * (r.2.2.2 - d.2) ≤ 6971880) (hw : (st.map fun v => v.category).sum ≤ 8)
    (kk : ∀ n2, r.2.2.2 ≤ n2 → n2 ≤ r.2.2.2 + 3 → jl p l e s m b below meth c G J A Q (k + (r.2.2.2 - d.2)) (n + 41 * (r.2.2.2 - d.2)) r.2.1 (r.2.2.1, n2) μ (pc + 3) lv (.int r.1 :: st)) : jl p l e s m b below meth c G J A Q k n σ d μ pc lv st0 := by
  subst hst
  refine jl_runC (σ' := r.2.1) (d' := r.2.2) (v := .int r.1) (Ψ1 := (jUa (fun x : Int32 => .int x) r)) (Wo1 := (aWo G)) (nx1 := anx) (mc := r.2.2.2 - d.2) (ms := 41 * (r.2.2.2 - d.2)) (a1 := (Value.ref (ha G 0) :: As).toArray) hk (fun o z H h hz => ?_) (fun H locs ls hW hn hl => ?_) kk
  · have h1 := h.1; have h2 : z = r.2 := h.2; subst h2; cases h1; exact ⟨rfl, r.2.2.2, Nat.le_refl _, Nat.le_add_right _ _, hz, rfl⟩
  · exact va_runV (As := As) (rest := st) hk.1 hM (cwV np hk.1.2.2.2.2 hlw rfl rfl rfl hy hr) ⟨ablind hk.2.1.1, hrvX hk H hW, fun U hU hWm => ⟨rfl, by rw [hU]; exact hW, by rw [hU]; exact hn, hk.2.1.1 _ _ hWm hk.2.2.1⟩⟩ rfl hlen hl rfl (lv_room hw) hd ⟨hk1, hk2⟩
theorem jl_UW (hk : lk p s m b meth c G KK J A L xs) {y : MethodName} {bytes : ByteArray} {nLc frc loc idx np : Nat} {hh : List (Nat × Nat × Nat × Nat)} {r : Int32 × SS} (As : List Value) {st0 : List Value} (hM : jM l y (wsW_ y bytes nLc (some .int) hh) frc loc (.ref (ha G 0) :: As) (cWo G d) (cnx d) KK σ (jU r) (hA G) d.2)
    (hlw : GoodIn lw_all (wsV "LeftUndoesLaw" idx "LeftUndoes" y (wsW_ y bytes nLc (some .int) hh))) (hy : y.cls = "LeftUndoes" ∧ y.cls ≠ "java/lang/invoke/MethodHandle" ∧ y.cls ≠ "java/lang/invoke/VarHandle" ∧ (parseMethodDescriptor y.desc).map (fun d => d.parameters.length) = some np) (hlen : As.length = np) (hst : st0 = (As.reverse ++ .ref (ha G 0) :: st)) (hd : decode code pc = .ok (.invokevirtual idx, 3)) (hr : frc + 1 ≤ 8192 ∧ 8 + (nLc + 11) + loc ≤ 104096) (hk1 : k + (d.2 - d.2) ≤ 699883) (hk2 : n + 41 * (d.2 - d.2) ≤ 6971880) (hw : (st.map fun v => v.category).sum ≤ 8)
    (kk : ∀ n2, d.2 ≤ n2 → n2 ≤ d.2 + 3 → jl p l e s m b below meth c G J A Q (k + (d.2 - d.2)) (n + 41 * (d.2 - d.2)) r.2 (d.1, n2) μ (pc + 3) lv (.int r.1 :: st)) : jl p l e s m b below meth c G J A Q k n σ d μ pc lv st0 := by
  subst hst
  refine jl_runC (σ' := r.2) (d' := d) (v := .int r.1) (Ψ1 := (jU r)) (Wo1 := (cWo G d)) (nx1 := (cnx d)) (mc := d.2 - d.2) (ms := 41 * (d.2 - d.2)) (a1 := (Value.ref (ha G 0) :: As).toArray) hk (fun o z H h hz => ?_) (fun H locs ls hW hn hl => ?_) kk
  · have h1 := h.1; have h2 : z = r.2 := h.2; subst h2; cases h1; exact ⟨rfl, d.2, Nat.le_refl _, Nat.le_add_right _ _, hz, rfl⟩
  · exact vx_runVW (As := As) (rest := st) hk.1 hM (vx_cwVW np hk.1.2.2.2.2 hlw rfl rfl rfl hy hr) ⟨cblind hk.2.1.1, hrvX hk H hW, fun U hU hWm => ⟨rfl, by rw [hU]; exact hW, by rw [hU]; exact hn, hk.2.1.1 _ _ hWm hk.2.2.1⟩⟩ rfl hlen hl rfl (lv_room hw) hd ⟨hk1, hk2⟩
theorem jl_AW (hk : lk p s m b meth c G KK J A L xs) {y : MethodName} {bytes : ByteArray} {nLc frc loc idx np : Nat} {hh : List (Nat × Nat × Nat × Nat)} {r : Int32 × SS × DS} (As : List Value) {st0 : List Value} (hM : jM l y (wsW_ y bytes nLc (some .int) hh) frc loc (.ref (ha G 0) :: As) (aWo G) anx KK (σ, d) (jUa (fun x : Int32 => .int x) r) (hA G) r.2.2.2)
    (hlw : GoodIn lw_all (wsV "LeftUndoesLaw" idx "LeftUndoes" y (wsW_ y bytes nLc (some .int) hh))) (hy : y.cls = "LeftUndoes" ∧ y.cls ≠ "java/lang/invoke/MethodHandle" ∧ y.cls ≠ "java/lang/invoke/VarHandle" ∧ (parseMethodDescriptor y.desc).map (fun d => d.parameters.length) = some np) (hlen : As.length = np) (hst : st0 = (As.reverse ++ .ref (ha G 0) :: st)) (hd : decode code pc = .ok (.invokevirtual idx, 3)) (hr : frc + 1 ≤ 8192 ∧ 8 + (nLc + 11) + loc ≤ 104096) (hk1 : k + (r.2.2.2 - d.2) ≤ 699883) (hk2 : n + 41 * (r.2.2.2 - d.2) ≤ 6971880) (hw : (st.map fun v => v.category).sum ≤ 8)
    (kk : ∀ n2, r.2.2.2 ≤ n2 → n2 ≤ r.2.2.2 + 3 → jl p l e s m b below meth c G J A Q (k + (r.2.2.2 - d.2)) (n + 41 * (r.2.2.2 - d.2)) r.2.1 (r.2.2.1, n2) μ (pc + 3) lv (.int r.1 :: st)) : jl p l e s m b below meth c G J A Q k n σ d μ pc lv st0 := by
  subst hst
  refine jl_runC (σ' := r.2.1) (d' := r.2.2) (v := .int r.1) (Ψ1 := (jUa (fun x : Int32 => .int x) r)) (Wo1 := (aWo G)) (nx1 := anx) (mc := r.2.2.2 - d.2) (ms := 41 * (r.2.2.2 - d.2)) (a1 := (Value.ref (ha G 0) :: As).toArray) hk (fun o z H h hz => ?_) (fun H locs ls hW hn hl => ?_) kk
  · have h1 := h.1; have h2 : z = r.2 := h.2; subst h2; cases h1; exact ⟨rfl, r.2.2.2, Nat.le_refl _, Nat.le_add_right _ _, hz, rfl⟩
  · exact vx_runVW (As := As) (rest := st) hk.1 hM (vx_cwVW np hk.1.2.2.2.2 hlw rfl rfl rfl hy hr) ⟨ablind hk.2.1.1, hrvX hk H hW, fun U hU hWm => ⟨rfl, by rw [hU]; exact hW, by rw [hU]; exact hn, hk.2.1.1 _ _ hWm hk.2.2.1⟩⟩ rfl hlen hl rfl (lv_room hw) hd ⟨hk1, hk2⟩
theorem jl_SW (hk : lk p s m b meth c G KK J A L xs) {y : MethodName} {bytes : ByteArray} {nLc frc loc idx np : Nat} {hh : List (Nat × Nat × Nat × Nat)} {r : Int32 × SS × DS} (As : List Value) {st0 : List Value} (hM : jM l y (wsW_ y bytes nLc (some .int) hh) frc loc (.ref (ha G 0) :: As) (aWo G) anx KK (σ, d) (jUs r) (hA G) (r.2.2.2 + 25))
    (hlw : GoodIn lw_all (wsV "LeftUndoesLaw" idx "LeftUndoes" y (wsW_ y bytes nLc (some .int) hh))) (hy : y.cls = "LeftUndoes" ∧ y.cls ≠ "java/lang/invoke/MethodHandle" ∧ y.cls ≠ "java/lang/invoke/VarHandle" ∧ (parseMethodDescriptor y.desc).map (fun d => d.parameters.length) = some np) (hlen : As.length = np) (hst : st0 = (As.reverse ++ .ref (ha G 0) :: st)) (hd : decode code pc = .ok (.invokevirtual idx, 3)) (hr : frc + 1 ≤ 8192 ∧ 8 + (nLc + 11) + loc ≤ 104096) (hk1 : k + ((r.2.2.2 + 25) - d.2) ≤ 699883) (hk2 : n + 41 * ((r.2.2.2 + 25) - d.2) ≤ 6971880) (hw : (st.map fun v => v.category).sum ≤ 8)
    (kk : ∀ n2, r.2.2.2 ≤ n2 → n2 ≤ r.2.2.2 + 3 → jl p l e s m b below meth c G J A Q (k + ((r.2.2.2 + 25) - d.2)) (n + 41 * ((r.2.2.2 + 25) - d.2)) r.2.1 (r.2.2.1, n2) μ (pc + 3) lv (.int r.1 :: st)) : jl p l e s m b below meth c G J A Q k n σ d μ pc lv st0 := by
  subst hst
  refine jl_runC (σ' := r.2.1) (d' := r.2.2) (v := .int r.1) (Ψ1 := (jUs r)) (Wo1 := (aWo G)) (nx1 := anx) (mc := (r.2.2.2 + 25) - d.2) (ms := 41 * ((r.2.2.2 + 25) - d.2)) (a1 := (Value.ref (ha G 0) :: As).toArray) hk (fun o z H h hz => ?_) (fun H locs ls hW hn hl => ?_) kk
  · obtain ⟨h1, h2, h3, h4, h5⟩ := h; cases h1; exact ⟨rfl, z.2.2, h4, h5, by rw [← h2, ← h3]; exact hz, rfl⟩
  · exact vx_runVW (As := As) (rest := st) hk.1 hM (vx_cwVW np hk.1.2.2.2.2 hlw rfl rfl rfl hy hr) ⟨ablind hk.2.1.1, hrvX hk H hW, fun U hU hWm => ⟨rfl, by rw [hU]; exact hW, by rw [hU]; exact hn, hk.2.1.1 _ _ hWm hk.2.2.1⟩⟩ rfl hlen hl rfl (lv_room hw) hd ⟨hk1, hk2⟩
theorem jl_mU (hk : lk p s m b meth c G KK J A L xs) {y : MethodName} {bytes : ByteArray} {nLc frc loc idx np : Nat} {r : Int32 × MS} (As : List Value) {st0 : List Value} (hM : jM l y (ws_ y bytes nLc (some .int)) frc loc (.ref (gh J) :: As) (mWo J) (mnx (jn J d.2)) (mK J) μ (jU r) (gA J) d.2)
    (hlw : GoodIn lw_all (wsV "LeftUndoesLaw" idx "LeftUndoesModel" y (ws_ y bytes nLc (some .int)))) (hy : y.cls = "LeftUndoesModel" ∧ y.cls ≠ "java/lang/invoke/MethodHandle" ∧ y.cls ≠ "java/lang/invoke/VarHandle" ∧ (parseMethodDescriptor y.desc).map (fun d => d.parameters.length) = some np) (hlen : As.length = np) (hst : st0 = (As.reverse ++ .ref (gh J) :: st)) (hd : decode code pc = .ok (.invokevirtual idx, 3)) (hr : frc + 1 ≤ 8192 ∧ 8 + (nLc + 11) + loc ≤ 104096) (hk1 : k + (d.2 - d.2) ≤ 699883) (hk2 : n + 41 * (d.2 - d.2) ≤ 6971880) (hw : (st.map fun v => v.category).sum ≤ 8)
    (kk : jl p l e s m b below meth c G J A Q (k + (d.2 - d.2)) (n + 41 * (d.2 - d.2)) σ d r.2 (pc + 3) lv (.int r.1 :: st)) : jl p l e s m b below meth c G J A Q k n σ d μ pc lv st0 := by
  subst hst
  refine jl_runM (μ' := r.2) (v := .int r.1) (Ψ1 := (jU r)) (mc := d.2 - d.2) (ms := 41 * (d.2 - d.2)) (a1 := (Value.ref (gh J) :: As).toArray) hk (fun o z h => ⟨by have h1 := h.1; cases h1; rfl, h.2⟩) (fun H locs ls hW hn hl => ?_) kk
  exact va_runV (As := As) (rest := st) hk.1 hM (cwV np hk.1.2.2.2.2 hlw rfl rfl rfl hy hr) ⟨fun a U g mk q => ⟨q.1, q.2.1, q.2.2.1, mK_A J U (U.calling g mk a) (State.WarmedH.refl U) q.2.2.2⟩, va_recv hk.2.2.2.1.1 hW.1 hk.2.2.2.1.2 (q0 := 0) rfl, fun U hU hWm => ⟨rfl, by rw [hU]; exact hW, by rw [hU]; exact hn, mK_A J _ _ hWm hk.2.2.2.1⟩⟩ rfl hlen hl rfl (lv_room hw) hd ⟨hk1, hk2⟩
theorem jl_mR (hk : lk p s m b meth c G KK J A L xs) {y : MethodName} {bytes : ByteArray} {nLc frc loc idx np : Nat} {r : Int32} (As : List Value) {st0 : List Value} (hM : jM l y (ws_ y bytes nLc (some .int)) frc loc (.ref (gh J) :: As) (mWo J) (mnx (jn J d.2)) (mK J) μ (jR μ r) (gA J) d.2)
    (hlw : GoodIn lw_all (wsV "LeftUndoesLaw" idx "LeftUndoesModel" y (ws_ y bytes nLc (some .int)))) (hy : y.cls = "LeftUndoesModel" ∧ y.cls ≠ "java/lang/invoke/MethodHandle" ∧ y.cls ≠ "java/lang/invoke/VarHandle" ∧ (parseMethodDescriptor y.desc).map (fun d => d.parameters.length) = some np) (hlen : As.length = np) (hst : st0 = (As.reverse ++ .ref (gh J) :: st)) (hd : decode code pc = .ok (.invokevirtual idx, 3)) (hr : frc + 1 ≤ 8192 ∧ 8 + (nLc + 11) + loc ≤ 104096) (hk1 : k + (d.2 - d.2) ≤ 699883) (hk2 : n + 41 * (d.2 - d.2) ≤ 6971880) (hw : (st.map fun v => v.category).sum ≤ 8)
    (kk : jl p l e s m b below meth c G J A Q (k + (d.2 - d.2)) (n + 41 * (d.2 - d.2)) σ d μ (pc + 3) lv (.int r :: st)) : jl p l e s m b below meth c G J A Q k n σ d μ pc lv st0 := by
  subst hst
  refine jl_runM (μ' := μ) (v := .int r) (Ψ1 := (jR μ r)) (mc := d.2 - d.2) (ms := 41 * (d.2 - d.2)) (a1 := (Value.ref (gh J) :: As).toArray) hk (fun o z h => ⟨by have h1 := h.1; cases h1; rfl, h.2⟩) (fun H locs ls hW hn hl => ?_) kk
  exact va_runV (As := As) (rest := st) hk.1 hM (cwV np hk.1.2.2.2.2 hlw rfl rfl rfl hy hr) ⟨fun a U g mk q => ⟨q.1, q.2.1, q.2.2.1, mK_A J U (U.calling g mk a) (State.WarmedH.refl U) q.2.2.2⟩, va_recv hk.2.2.2.1.1 hW.1 hk.2.2.2.1.2 (q0 := 0) rfl, fun U hU hWm => ⟨rfl, by rw [hU]; exact hW, by rw [hU]; exact hn, mK_A J _ _ hWm hk.2.2.2.1⟩⟩ rfl hlen hl rfl (lv_room hw) hd ⟨hk1, hk2⟩
end JL
