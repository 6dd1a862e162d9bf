/-! THE LAW's PREFIX: both constructors, then the loop -/
set_option maxRecDepth 100000
set_option maxHeartbeats 2000000
def kx0 (p : Program) (R : Room) (s : State) (m : MethodId) (args : Array Value) (c : Code) (cc : ByteArray) (nL : Nat) (own : String) (fr lo kc sc : Nat) : Prop := CallFix p m c cc nL s args lw_all own ∧ R = ({ frames := fr, cells := kc, slots := sc, locals := lo } : Room)
section KL
variable {p : Program} {l : Launch} {e : Env} {R : Room} {s : State} {m : MethodId} {args : Array Value} {below : List Frame} {meth : Method} {c : Code}
variable {Q : State → Prop} {nL : Nat} {cc : ByteArray} {fr lo kc sc z k n : Nat} {own : String}
variable {pc pc' : Nat} {E E' : va_W} {lv lv' : List (Nat × Value)} {st st' : List Value} {G : cG} {KK : State → Prop}
theorem le_iconst (hk : kx0 p R s m args c cc nL own fr lo kc sc) {i : Int} {v : Int32} (hd : decode cc pc = .ok (.iconst i, 1)) (hv : Int32.ofInt i = v) (kk : ke p l e R s m args below meth c G Q nL z k n E (pc + 1) lv (.int v :: st)) : ke p l e R s m args below meth c G Q nL z k n E pc lv st :=
  fun H locs ls hW hn hS hl => lv_iconst hk.1.1 hk.1.2.1 hd hv (kk H locs ls hW hn hS hl)
theorem le_istore_n (hk : kx0 p R s m args c cc nL own fr lo kc sc) {a : Fin 4} {i : Nat} {x : Int32} (lv' : List (Nat × Value)) (hd : decode cc pc = .ok (.istore_n a, 1)) (hi : (a : Nat) = i) (hin : i < nL) (hl : (i, Value.int x) :: lv.filter (fun q => !(q.1 == i) && !(q.1 + 1 == i && q.2.category == 2)) = lv') (kk : ke p l e R s m args below meth c G Q nL z k n E (pc + 1) lv' st) : ke p l e R s m args below meth c G Q nL z k n E pc lv (.int x :: st) :=
  fun H locs ls hW hn hS hl2 => lv_istore_n hk.1.1 hk.1.2.1 hd hi hl2 hin hl (fun ls' h' => kk H locs ls' hW hn hS h')
theorem le_dup (hk : kx0 p R s m args c cc nL own fr lo kc sc) {v : Value} (hd : decode cc pc = .ok (.dup, 1)) (hv : v.category = 1) (kk : ke p l e R s m args below meth c G Q nL z k n E (pc + 1) lv (v :: v :: st)) : ke p l e R s m args below meth c G Q nL z k n E pc lv (v :: st) :=
  fun H locs ls hW hn hS hl => lv_dup hk.1.1 hk.1.2.1 hd hv (kk H locs ls hW hn hS hl)
theorem le_new (hk : kx0 p R s m args c cc nL own fr lo kc sc) (hH : cH G KK) (hK : KK s) {C : String} {T : u_T} {N ci index : Nat} (fs : List Value) (hin : ∀ w ∈ u_ws C T N, w ∈ lw_all) (ty : Nat → FieldType) (hty : ∀ k, k < N → parseFieldDescriptor (T k).2.2.1 = some (ty k)) (hcl : Cond.classLink own index C ∈ lw_all) (hins : Cond.instantiable C N ∈ lw_all) (hini : Cond.initialized C ∈ lw_all) (hc : jcl[ci]? = some (C, T, N)) (hfs : ∀ j, j < N → defaultValue (ty j) = vp_V fs j) (hkc : k + 1 ≤ kc) (hsc : n + N ≤ sc) (hd : decode cc pc = .ok (.new index, 3)) (kk : ke p l e R s m args below meth c G Q nL z (k + 1) (n + N) (E ++ [(z + k, .inr (ci, fs))]) (pc + 3) lv (.ref (z + k) :: st)) : ke p l e R s m args below meth c G Q nL z k n E pc lv st := by
  intro H locs ls hW hn hS hl
  have hKn := (hH.2.1 s hK).1.1 ci _ hc
  refine W.newcK hk.1.1 hk.1.2.1 hk.1.2.2.2.1 (hk.1.2.2.2.2 _ hcl) (hk.1.2.2.2.2 _ hins) (hk.1.2.2.2.2 _ hini) rfl hd (by rw [hk.2]; exact hkc) (by rw [hk.2]; exact hsc) hKn.2.1 hn fun H1 kC hkC e1 z1 o1 => ?_
  have hq : ∀ (k : Nat) (x : Nat × va_E), E[k]? = some x → H1[x.1]? = H[x.1]? := fun k x hx => o1 x.1 (by have h := (hW.1 k x hx).lt; rw [hn] at h; exact h)
  have hfresh : hA G (z + k) := hH.2.2.2.1 H _ hW.2.2 (Nat.le_of_eq hn)
  have hkeep : ∀ q, q < H.size → H1[q]? = H[q]? := fun q h => o1 q (by rw [hn] at h; exact h)
  have hgrow : H.size ≤ H1.size := by rw [z1, hn]; exact Nat.le_succ _
  exact kk H1 locs ls ⟨(hW.1.kept hq).app (fun k x hx => by
      have hz1 : k < 1 := (List.getElem?_eq_some_iff.mp hx).1
      rw [show k = 0 by omega] at hx
      cases hx
      exact ⟨_, hc, (u_born ty hk.1.2.2.2.2 hin hKn hkC e1 hty).to hfs⟩), hW.2.1.push hW.1 hn.symm hfresh, hH.2.2.1 H H1 hgrow (fun q h _ => hkeep q h) hW.2.2⟩ z1 ⟨Nat.le_trans hS.1 hgrow, fun q h1 h2 => (hkeep q (Nat.lt_of_lt_of_le h1 hS.1)).trans (hS.2.1 q h1 h2), hS.2.2⟩ hl
theorem le_I (hk : kx0 p R s m args c cc nL own fr lo kc sc) (hH : cH G KK) (hK : KK s) {y : MethodName} {bytes : ByteArray} {kc1 sc1 k' nLc frc loc idx np : Nat} {a : va_E} {E0 E2 : va_W} (As : List Value) {st0 : List Value} (hkk : k = k' + 1)
    (hM : kM l y (ws_ y bytes nLc none) frc loc (.ref (z + k') :: As) (gz G (z + k')) KK [(z + k', a)] E2 (z + k) kc1 sc1)
    (hcd : Cond.code y bytes nLc none ∈ lw_all) (hini : Cond.initialized y.cls ∈ lw_all) (hlk : Cond.methodLink own idx y ∈ lw_all) (him : Cond.instanceMethod y ∈ lw_all) (hyn : y.name = "<init>") (hy : y.cls ≠ "java/lang/invoke/MethodHandle" ∧ y.cls ≠ "java/lang/invoke/VarHandle" ∧ (parseMethodDescriptor y.desc).map (fun d => d.parameters.length) = some np) (hlen : As.length = np) (hst : st0 = (As.reverse ++ .ref (z + k') :: st)) (hd : decode cc pc = .ok (.invokespecial idx, 3)) (hr : frc + 1 ≤ fr ∧ 8 + (nLc + 11) + loc ≤ lo) (hkc : k + kc1 ≤ kc) (hsc : n + sc1 ≤ sc) (hw : (st.map fun v => v.category).sum ≤ 8)
    (kk : ke p l e R s m args below meth c G Q nL z (k + kc1) (n + sc1) (E0 ++ E2) (pc + 3) lv st) : ke p l e R s m args below meth c G Q nL z k n (E0 ++ [(z + k', a)]) pc lv st0 := by
  subst hst
  subst hkk
  refine ke_run (q := z + k') (av := .ref (z + k') :: As) hH hK (fun H hW hn x hx => ?_) (fun x hx => by rw [List.mem_singleton.mp hx]; exact Nat.le_refl _) (fun H hW hn => by omega) (fun H locs ls hW hn hl => ?_) kk
  · obtain ⟨i, hi⟩ := List.getElem?_of_mem hx
    have hil := (List.getElem?_eq_some_iff.mp hi).1
    have h1 := kS_lt hW i x (by rw [List.getElem?_append_left hil]; exact hi)
    have h2 : x.1 ≠ z + k' := fun h => by
      have := hW.2.1.1 i E0.length x (z + k', a) (by rw [List.getElem?_append_left hil]; exact hi) (by rw [List.getElem?_append_right (Nat.le_refl _), Nat.sub_self]; rfl) h
      omega
    omega
  · exact va_runI (As := As) (rest := st) hk.1 hM (cwI np hk.1.2.2.2.2 (lw_meth hcd) rfl rfl rfl (hk.1.2.2.2.2 _ hini) (hk.1.2.2.2.2 _ hlk) (hk.1.2.2.2.2 _ him) hyn hy (by rw [hk.2]; exact hr)) ⟨kblind hH.1, fun U hU hWm => ⟨rfl, by rw [hU]; exact hW, by rw [hU]; exact hn, hH.1 _ _ hWm hK⟩⟩ rfl hlen hl.1 rfl (lv_room hw) hd (by rw [hk.2]; exact ⟨hkc, hsc⟩)
theorem le_astore_n (hk : kx0 p R s m args c cc nL own fr lo kc sc) {a : Fin 4} {i x : Nat} (lv' : List (Nat × Value)) (hd : decode cc pc = .ok (.astore_n a, 1)) (hi : (a : Nat) = i) (hin : i < nL) (hl : (i, Value.ref x) :: lv.filter (fun q => !(q.1 == i) && !(q.1 + 1 == i && q.2.category == 2)) = lv') (kk : ke p l e R s m args below meth c G Q nL z k n E (pc + 1) lv' st) : ke p l e R s m args below meth c G Q nL z k n E pc lv (.ref x :: st) :=
  fun H locs ls hW hn hS hl2 => lv_astore_n hk.1.1 hk.1.2.1 hd hi hl2 hin hl (fun ls' h' => kk H locs ls' hW hn hS h')
theorem ke_know (kk : (∀ x ∈ E, x.1 < z + k) → ke p l e R s m args below meth c G Q nL z k n E pc lv st) : ke p l e R s m args below meth c G Q nL z k n E pc lv st :=
  fun H locs ls hW hn hS hl => kk (fun x hx => by
    obtain ⟨i, hi⟩ := List.getElem?_of_mem hx
    have := kS_lt hW i x hi
    omega) H locs ls hW hn hS hl
end KL
theorem va_P_left {D : va_G} {cl : List vw_C} {w1 w2 : va_W} {H : Heap} (h : va_P D cl (w1 ++ w2) H) : va_P D cl w1 H := fun k q hq => h k q (by rw [List.getElem?_append_left (List.getElem?_eq_some_iff.mp hq).1]; exact hq)
theorem va_P_right {D : va_G} {cl : List vw_C} {w1 w2 : va_W} {H : Heap} (h : va_P D cl (w1 ++ w2) H) : va_P D cl w2 H := fun k q hq => h (w1.length + k) q (by rw [List.getElem?_append_right (Nat.le_add_right _ _), Nat.add_sub_cancel_left]; exact hq)
theorem va_D_left {A : Nat → Prop} {w1 w2 : va_W} (h : va_D A (w1 ++ w2)) : va_D A w1 := ⟨fun i j p q hp hq e => h.1 i j p q (by rw [List.getElem?_append_left (List.getElem?_eq_some_iff.mp hp).1]; exact hp) (by rw [List.getElem?_append_left (List.getElem?_eq_some_iff.mp hq).1]; exact hq) e, fun k q hq => h.2 k q (by rw [List.getElem?_append_left (List.getElem?_eq_some_iff.mp hq).1]; exact hq)⟩
theorem va_D_right {A : Nat → Prop} {w1 w2 : va_W} (h : va_D A (w1 ++ w2)) : va_D A w2 := ⟨fun i j p q hp hq e => by
    have := h.1 (w1.length + i) (w1.length + j) p q (by rw [List.getElem?_append_right (Nat.le_add_right _ _), Nat.add_sub_cancel_left]; exact hp) (by rw [List.getElem?_append_right (Nat.le_add_right _ _), Nat.add_sub_cancel_left]; exact hq) e
    omega, fun k q hq => h.2 (w1.length + k) q (by rw [List.getElem?_append_right (Nat.le_add_right _ _), Nat.add_sub_cancel_left]; exact hq)⟩
theorem st_addr (z : Nat) (T : Nat → ClassId) (S : Nat → Nat) : (st_F z T S).map (fun x => x.1) = (st_E z T S).map (fun x => x.1) := rfl
theorem st_Mlow (z : Nat) (T : Nat → ClassId) : ∀ x ∈ st_M z T, z + 72 ≤ x.1 := by
  intro x hx
  have h : x.1 ∈ (st_M z T).map (fun x => x.1) := List.mem_map_of_mem hx
  have e : (st_M z T).map (fun x => x.1) = (z + 72) :: (List.range 18).map (fun j => z + 73 + j) := rfl
  rw [e] at h
  rcases List.mem_cons.mp h with h | h
  · omega
  · obtain ⟨j, -, hj⟩ := List.mem_map.mp h
    omega
/-- the component's world and the model's, behind both constructors -/
theorem st_world {s : State} {D : va_G} {T : Nat → ClassId} {S : Nat → Nat} {A : Nat → Prop} {H : Heap} (hA : ∀ q, A q ↔ (s.heap.size ≤ q ∧ ¬ (s.heap.size + 72 ≤ q ∧ q < s.heap.size + 91))) (hlt : ∀ x ∈ st_E s.heap.size T S, x.1 < s.heap.size + 72) (hW : kS (st_G s D T S (fun q => s.heap.size ≤ q) s.heap.size) (st_E s.heap.size T S ++ st_M s.heap.size T) H) (hn : H.size = s.heap.size + 91) : cWo (st_G s D T S A (s.heap.size + 91)) (dd0 s.heap.size) (sg0 s.heap.size) H ∧ mWo (st_J D T s.heap.size) mu0 H := by
  obtain ⟨hP, hD, hX⟩ := hW
  obtain ⟨pF, dF⟩ := st_fix (va_P_left hP) (va_D_left hD)
  have pM := va_P_right hP
  have dM := va_D_right hD
  refine ⟨⟨pF.sub st_o (st_ccs2 s D T S A _), (dF.sub st_o (by decide) (st_ccs s D T S A (s.heap.size + 91))).weaken (fun k q hk h => ?_), ⟨hX.1, Nat.le_of_eq hn.symm⟩⟩, pM.sub st_mo (st_mcs2 D T _), (dM.sub st_mo (by decide) (st_mcs D T s.heap.size)).weaken (fun k q hk h => ?_)⟩
  · refine (hA q.1).mpr ⟨h, fun h2 => ?_⟩
    have h3 : some q ∈ st_o.map (fun i => (st_F s.heap.size T S)[i]?) := by
      rw [st_ccs s D T S A (s.heap.size + 91)]
      exact List.mem_map_of_mem (List.mem_of_getElem? hk)
    obtain ⟨i, -, hi⟩ := List.mem_map.mp h3
    have h4 : q.1 ∈ (st_F s.heap.size T S).map (fun x => x.1) := List.mem_map_of_mem (List.mem_of_getElem? hi)
    rw [st_addr] at h4
    obtain ⟨x, hx, hxe⟩ := List.mem_map.mp h4
    have := hlt x hx
    omega
  · have h3 : some q ∈ st_mo.map (fun i => (st_M s.heap.size T)[i]?) := by
      rw [st_mcs D T s.heap.size]
      exact List.mem_map_of_mem (List.mem_of_getElem? hk)
    obtain ⟨i, -, hi⟩ := List.mem_map.mp h3
    have h4 := st_Mlow s.heap.size T q (List.mem_of_getElem? hi)
    have h5 := (pM i q hi).lt
    exact ⟨h4, by rw [hn] at h5; exact h5⟩
theorem law_start {p : Program} {e : Env} {s : State} {m : MethodId} {below : List Frame} {meth : Method} {c : Code} (l : Launch) (hflags : l.flags = flags0) {b L : Nat} {xs : Nat → Int32} (hL : L ≤ 320) (C0 : lw_At p s m meth c b L xs) {Rel : SS → DS → MS → Prop} (hinit : ∀ z, Rel (sg0 z) (dd0 z) mu0) (hPL : ∀ k a b c d σ δ μ, k < 55 → Rel σ δ μ → pLaw Rel k a b c d σ δ μ) : W p l e room_1 s m #[Value.ref b] below meth c s.heap [] 0 0 (lw_Z below #[Value.ref b] s) (entryFrame m ([Value.ref b] : List Value).toArray 4) := by
  obtain ⟨hx, hb, hr, hml, hown, hts, hXs, hbl, hlocks, hgv, hmr⟩ := C0
  obtain ⟨D, T, S, hF⟩ := lw_facts hts hgv
  have hlt : l.stackTraces = false := by
    unfold Launch.stackTraces
    rw [hflags]
    decide
  have hS : CallFix p m c code 4 s #[Value.ref b] lw_all "LeftUndoesLaw" := ⟨hx, hb, hml, hown, fun w h => hts w (lw_all_tbl h)⟩
  have hk0 : kx0 p room_1 s m #[Value.ref b] c code 4 "LeftUndoesLaw" 8192 104096 699883 6971880 := ⟨hS, rfl⟩
  have hH0 := st_cH hts hgv hmr hF (A := fun q => s.heap.size ≤ q) (a := s.heap.size) (fun _ h => h) (fun _ h => h)
  have hK : (fun U : State => s.WarmedH U.vm) s := State.WarmedH.refl s
  have hl := lv_entry [Value.ref b] (n := 4) (Nat.le_of_ble_eq_true rfl)
  rw [lg_entry_eq]
  generalize (lg_sl [Value.ref b] ++ List.replicate (4 - (lg_sl [Value.ref b]).length) Slot.unset).toArray = ls at hl ⊢
  have hl : lv_has ls 4 [(0, .ref b)] := hl
  suffices hke : ke p l e room_1 s m #[Value.ref b] below meth c (st_G s D T S (fun q => s.heap.size ≤ q) s.heap.size) (lw_Z below #[Value.ref b] s) 4 s.heap.size 0 0 [] 0 [(0, .ref b)] [] from
    hke s.heap [] ls ⟨fun k q h => by simp at h, ⟨fun i j p q h => by simp at h, fun k q h => by simp at h⟩, ⟨hF.2.1, Nat.le_refl _⟩⟩ rfl va_S.rf hl
  refine le_new (ci := 1) hk0 hH0 hK (pc := 0) [.null, .null, .null, .null, .null, .null, .int 0, .null, .null, .null, .null, .int 0, .int 0, .int 0, .null, .null, .null, .null, .null, .int 0, .int 0, .int 0, .int 0, .int 0, .int 0, .null, .int 0, .null, .int 0, .null, .null, .null] in_X0 tyX0 tyX0_ok q153 q154 q118 rfl (fun j hj => match j, hj with | 0, _ => rfl | 1, _ => rfl | 2, _ => rfl | 3, _ => rfl | 4, _ => rfl | 5, _ => rfl | 6, _ => rfl | 7, _ => rfl | 8, _ => rfl | 9, _ => rfl | 10, _ => rfl | 11, _ => rfl | 12, _ => rfl | 13, _ => rfl | 14, _ => rfl | 15, _ => rfl | 16, _ => rfl | 17, _ => rfl | 18, _ => rfl | 19, _ => rfl | 20, _ => rfl | 21, _ => rfl | 22, _ => rfl | 23, _ => rfl | 24, _ => rfl | 25, _ => rfl | 26, _ => rfl | 27, _ => rfl | 28, _ => rfl | 29, _ => rfl | 30, _ => rfl | 31, _ => rfl | n + 32, h => absurd h (by omega)) (Nat.le_of_ble_eq_true rfl) (Nat.le_of_ble_eq_true rfl) dL_law_0 ?_
  refine ke_num (k1 := 1) (n1 := 32) rfl rfl ?_
  refine le_dup hk0 (pc := 3) dL_law_3 rfl ?_
  refine le_I hk0 hH0 hK (k' := 0) (np := 0) (pc := 4) (E0 := []) [] rfl (kc_X0 l (cH_gz hH0 _) _ _) q157 q118 q155 q156 rfl ⟨by decide, by decide, by decide⟩ rfl rfl dL_law_4 ⟨Nat.le_of_ble_eq_true rfl, Nat.le_of_ble_eq_true rfl⟩ (Nat.le_of_ble_eq_true rfl) (Nat.le_of_ble_eq_true rfl) (Nat.le_of_ble_eq_true rfl) ?_
  refine ke_num (k1 := 72) (n1 := 945) rfl rfl ?_
  refine ke_norm (E' := st_E s.heap.size T S) rfl ?_
  refine ke_know (fun hE72 => ?_)
  refine le_astore_n hk0 [(1, .ref (s.heap.size + 0)), (0, .ref b)] (pc := 7) dL_law_7 rfl (by decide) rfl ?_
  refine le_new (ci := 0) hk0 hH0 hK (pc := 8) [.null, .null, .null, .int 0, .null, .null, .null, .null, .null, .null, .int 0, .int 0, .int 0, .int 0, .int 0, .int 0, .int 0, .int 0, .int 0, .int 0, .null, .int 0, .null, .int 0, .int 0, .int 0, .int 0, .int 0, .int 0, .int 0, .null, .null, .null, .null, .null, .null, .null, .int 0, .int 0, .int 0, .int 0, .int 0] in_X6 tyX6 tyX6_ok q1541 q1542 q127 rfl (fun j hj => match j, hj with | 0, _ => rfl | 1, _ => rfl | 2, _ => rfl | 3, _ => rfl | 4, _ => rfl | 5, _ => rfl | 6, _ => rfl | 7, _ => rfl | 8, _ => rfl | 9, _ => rfl | 10, _ => rfl | 11, _ => rfl | 12, _ => rfl | 13, _ => rfl | 14, _ => rfl | 15, _ => rfl | 16, _ => rfl | 17, _ => rfl | 18, _ => rfl | 19, _ => rfl | 20, _ => rfl | 21, _ => rfl | 22, _ => rfl | 23, _ => rfl | 24, _ => rfl | 25, _ => rfl | 26, _ => rfl | 27, _ => rfl | 28, _ => rfl | 29, _ => rfl | 30, _ => rfl | 31, _ => rfl | 32, _ => rfl | 33, _ => rfl | 34, _ => rfl | 35, _ => rfl | 36, _ => rfl | 37, _ => rfl | 38, _ => rfl | 39, _ => rfl | 40, _ => rfl | 41, _ => rfl | n + 42, h => absurd h (by omega)) (Nat.le_of_ble_eq_true rfl) (Nat.le_of_ble_eq_true rfl) dL_law_8 ?_
  refine ke_num (k1 := 73) (n1 := 987) rfl rfl ?_
  refine le_dup hk0 (pc := 11) dL_law_11 rfl ?_
  refine le_I hk0 hH0 hK (k' := 72) (np := 0) (pc := 12) (E0 := st_E s.heap.size T S) [] rfl (kc_X6 l (cH_gz hH0 _) _ _) q1545 q127 q1543 q1544 rfl ⟨by decide, by decide, by decide⟩ rfl rfl dL_law_12 ⟨Nat.le_of_ble_eq_true rfl, Nat.le_of_ble_eq_true rfl⟩ (Nat.le_of_ble_eq_true rfl) (Nat.le_of_ble_eq_true rfl) (Nat.le_of_ble_eq_true rfl) ?_
  refine ke_num (k1 := 91) (n1 := 2909) rfl rfl ?_
  refine ke_norm (E' := st_E s.heap.size T S ++ st_M s.heap.size T) (congrArg (st_E s.heap.size T S ++ ·) rfl) ?_
  refine le_astore_n hk0 [(2, .ref (s.heap.size + 72)), (1, .ref (s.heap.size + 0)), (0, .ref b)] (pc := 15) dL_law_15 rfl (by decide) rfl ?_
  refine le_iconst hk0 (pc := 16) (v := 0) dL_law_16 (by decide) ?_
  refine le_istore_n hk0 [(3, .int 0), (2, .ref (s.heap.size + 72)), (1, .ref (s.heap.size + 0)), (0, .ref b)] (pc := 17) dL_law_17 rfl (by decide) rfl ?_
  intro H locs ls1 hW hn hS1 hl1
  have hA2 : ∀ q, s.heap.size + 91 ≤ q → (s.heap.size ≤ q ∧ ¬ (s.heap.size + 72 ≤ q ∧ q < s.heap.size + 91)) := fun q h => by omega
  have hH1 := st_cH hts hgv hmr hF (A := fun q => s.heap.size ≤ q ∧ ¬ (s.heap.size + 72 ≤ q ∧ q < s.heap.size + 91)) (a := s.heap.size + 91) (fun _ h => h.1) hA2
  obtain ⟨hw1, hw2⟩ := st_world (A := fun q => s.heap.size ≤ q ∧ ¬ (s.heap.size + 72 ≤ q ∧ q < s.heap.size + 91)) (fun q => Iff.rfl) hE72 hW hn
  have hk : lk p s m b meth c (st_G s D T S (fun q => s.heap.size ≤ q ∧ ¬ (s.heap.size + 72 ≤ q ∧ q < s.heap.size + 91)) (s.heap.size + 91)) (fun U => s.WarmedH U.vm) (st_J D T s.heap.size) (fun q => s.heap.size ≤ q) L xs :=
    ⟨hS, hH1, hK, ⟨hF.1.sub [0] rfl, rfl⟩, fun _ h => h.1, fun q h => ⟨Nat.le_trans (Nat.le_add_right _ _) h.1, fun h2 => h2.2 h⟩, ⟨hbl, Nat.not_le.mpr hbl, hXs⟩, fun H H1 hz hq hX => st_kept hz (fun q h1 h2 => hq q h1 (fun h3 => h2 (Nat.le_trans (Nat.le_add_right _ _) h3.1))) hX, hL⟩
  have hl2 : lv_has ls1 4 [(0, .ref b), (1, .ref (s.heap.size + 0)), (2, .ref (s.heap.size + 72)), (3, .int 0)] := ⟨hl1.1, hl1.2.1, fun q hq => hl1.2.2 q (by
    simp only [List.mem_cons, List.not_mem_nil, or_false] at hq ⊢
    rcases hq with h | h | h | h
    · exact Or.inr (Or.inr (Or.inr h))
    · exact Or.inr (Or.inr (Or.inl h))
    · exact Or.inr (Or.inl h)
    · exact Or.inl h)⟩
  exact jl_loop hk hlt hr hlocks (fun _ h => h) hPL 64 0 91 2909 (sg0 s.heap.size) (dd0 s.heap.size) mu0 (by omega) (by omega) (by decide) (by decide) (hinit _) H locs ls1 hw1 hw2 hn hS1 hl2
