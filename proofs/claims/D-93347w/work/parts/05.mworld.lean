/-! WORLDS OF CELLS for jj: reading and writing a field, an int array (cs: the picture's cells) -/
set_option maxRecDepth 100000
/-- the heap shows the picture's cells, which are apart and in A -/
def jW {S : Type} (D : va_G) (cl : List vw_C) (A : Nat → Prop) (cs : S → va_W) : S → Heap → Prop := fun σ H => va_P D cl (cs σ) H ∧ va_D A (cs σ)
section JG
variable {p : Program} {l : Launch} {e : Env} {R : Room} {s : State} {m : MethodId} {args : Array Value} {below : List Frame} {meth : Method} {c : Code}
variable {S : Type} {A : Nat → Prop} {NX : Nat} {Q : State → Prop} {nx : S → Nat} {nL : Nat}
variable {cc : ByteArray} {own : String} {fr lo : Nat} {ret : Option FieldType}
variable {pc : Nat} {σ σ' : S} {lv : List (Nat × Value)} {st : List Value} {Z : Prop}
variable {D : va_G} {cl : List vw_C} {tys : List (ClassId × FieldType)} {cs : S → va_W}
theorem fits_bI (b : Bool) : fits .boolean (.int (bI b)) = true := by cases b <;> rfl
theorem jg_get (hk : jk p R s m args meth c NX cc nL own fr lo ret) (hK : va_K D cl tys s) {C : String} {T : u_T} {N ci k index q0 a : Nat} {fs : List Value} {v : Value} (hin : ∀ w ∈ u_ws C T N, w ∈ lw_all) (he : (cs σ)[q0]? = some (a, .inr (ci, fs))) (hc : cl[ci]? = some (C, T, N)) (hkN : k < N) (hlink : Cond.fieldLink own index (T k).1 (T k).2.1 (T k).2.2.1 ∈ lw_all) (hv : fs[k]? = some v) (hd : decode cc pc = .ok (.getfield index, 3))
    (kk : jj p l e R s m args below meth c A NX Q (jW D cl A cs) nx nL σ (pc + 3) lv (v :: st) Z) : jj p l e R s m args below meth c A NX Q (jW D cl A cs) nx nL σ pc lv (.ref a :: st) Z :=
  fun hz => ⟨(kk hz).1, fun H locs ls hW hn hS hl => va_get hk.1.1 hk.1.2.1 hk.1.2.2.2.2 hin hk.1.2.2.2.1 hK hW.1 q0 he hc k hkN (hk.1.2.2.2.2 _ hlink) (fun _ h => h) hv hd ((kk hz).2 H locs ls hW hn hS hl)⟩
theorem jg_put (hk : jk p R s m args meth c NX cc nL own fr lo ret) (hK : va_K D cl tys s) {C : String} {T : u_T} {N ci k index q0 a : Nat} {fs : List Value} {v : Value} (hin : ∀ w ∈ u_ws C T N, w ∈ lw_all) (ty0 : Nat → FieldType) (hty : ∀ k, k < N → parseFieldDescriptor (T k).2.2.1 = some (ty0 k)) (hnm : ∀ a, a < N → ∀ b, b < N → a ≠ b → (T a).2.1 ≠ (T b).2.1) (he : (cs σ)[q0]? = some (a, .inr (ci, fs))) (hc : cl[ci]? = some (C, T, N)) (hkN : k < N) (hlink : Cond.fieldLink own index (T k).1 (T k).2.1 (T k).2.2.1 ∈ lw_all) (hfin : (T k).2.2.2 = false) (hnar : narrow (ty0 k) v = v) (hfit : fits (ty0 k) v = true) (hl2 : k < fs.length) (hd : decode cc pc = .ok (.putfield index, 3))
    (hcs : cs σ' = (cs σ).set q0 (a, .inr (ci, fs.set k v))) (hnx : nx σ' = nx σ) (kk : jj p l e R s m args below meth c A NX Q (jW D cl A cs) nx nL σ' (pc + 3) lv st Z) : jj p l e R s m args below meth c A NX Q (jW D cl A cs) nx nL σ pc lv (v :: .ref a :: st) Z := by
  intro hz
  obtain ⟨hle, hw⟩ := kk hz
  refine ⟨by rw [← hnx]; exact hle, fun H locs ls hW hn hS hl => ?_⟩
  obtain ⟨hP, hD⟩ := hW
  have hts := hk.1.2.2.2.2
  have hown := hk.1.2.2.2.1
  have hap := va_apart (own := own) hts hin ty0 hty hnm hK hc
  obtain ⟨r, h1, cell, q1, q2, q3, q4⟩ := hP q0 _ he
  obtain rfl : r = (C, T, N) := Option.some.inj (h1.symm.trans hc)
  obtain ⟨hSl, hfc, kC, hkC, hkind⟩ := hK.1 ci _ hc
  obtain ⟨cf, kf, fi, f, hi, hsl⟩ := hSl k hkN
  have hlay := hts _ (hin _ (u_in_lay hkN))
  unfold u_lay at hlay
  rw [if_neg (by rw [hfin]; decide)] at hlay
  have h6 := u_store hfc hkC hkind hlay hi (hty k hkN) hnar hfit
  refine W.putK hk.1.1 hk.1.2.1 (f := f) ⟨hown, hts _ hlink, ⟨_, _, _, hi⟩, (u_facts hfc hkC (u_lays hts hin hkN) hi).1⟩ (by rw [q2]; exact h6) q1 q3 (by rw [hsl]; exact k2_hasslot (q4 k hkN)) rfl rfl hd fun H' e1 e2 e3 => ?_
  rw [hsl] at e1 ⊢
  have hn2 : H'.size = nx σ' := by rw [e2, hn, hnx]
  rw [← hnx]
  exact hw H' _ ls ⟨by rw [hcs]; exact hP.set hD he ⟨_, hc, t_OB.to (V := updV (vp_V fs) k v) ⟨_, e1, q2, q3, t_set q4 hap hkN v⟩ (fun j _ => vp_updV_set hl2 v j)⟩ e3, by rw [hcs]; exact hD.set he⟩ hn2 (hS.put e2 e3 (hD.2 q0 _ he)) hl
theorem jg_iald (hk : jk p R s m args meth c NX cc nL own fr lo ret) (hK : va_K D cl tys s) {q0 t0 a : Nat} {cA : ClassId} {n : Nat} {f : Nat → Int32} {i : Int32} (ha : (cs σ)[q0]? = some (a, .inl (cA, n, .inl f))) (ht : tys[t0]? = some (cA, .int)) (hin : vp_in i n) (hd : decode cc pc = .ok (.iaload, 1))
    (kk : jj p l e R s m args below meth c A NX Q (jW D cl A cs) nx nL σ (pc + 1) lv (.int (f i.toNatClampNeg) :: st) Z) : jj p l e R s m args below meth c A NX Q (jW D cl A cs) nx nL σ pc lv (.int i :: .ref a :: st) Z :=
  fun hz => ⟨(kk hz).1, fun H locs ls hW hn hS hl => va_iald hk.1.1 hk.1.2.1 hK hW.1 q0 t0 ha ht hin hd ((kk hz).2 H locs ls hW hn hS hl)⟩
theorem jg_alen (hk : jk p R s m args meth c NX cc nL own fr lo ret) (hK : va_K D cl tys s) {q0 t0 a : Nat} {cA : ClassId} {x : vp_A} {ty : FieldType} {v : Int32} (ha : (cs σ)[q0]? = some (a, .inl (cA, x))) (ht : tys[t0]? = some (cA, ty)) (hv : Int32.ofNat x.1 = v) (hd : decode cc pc = .ok (.arraylength, 1))
    (kk : jj p l e R s m args below meth c A NX Q (jW D cl A cs) nx nL σ (pc + 1) lv (.int v :: st) Z) : jj p l e R s m args below meth c A NX Q (jW D cl A cs) nx nL σ pc lv (.ref a :: st) Z :=
  fun hz => ⟨(kk hz).1, fun H locs ls hW hn hS hl => va_alen hk.1.1 hk.1.2.1 hK hW.1 q0 t0 ha ht hv hd ((kk hz).2 H locs ls hW hn hS hl)⟩
theorem jg_iast (hk : jk p R s m args meth c NX cc nL own fr lo ret) (hK : va_K D cl tys s) {q0 t0 a : Nat} {cA : ClassId} {n : Nat} {f : Nat → Int32} {i x : Int32} (ha : (cs σ)[q0]? = some (a, .inl (cA, n, .inl f))) (ht : tys[t0]? = some (cA, .int)) (hin : vp_in i n) (hd : decode cc pc = .ok (.iastore, 1))
    (hcs : cs σ' = (cs σ).set q0 (a, .inl (cA, n, .inl (upd f i.toNatClampNeg x)))) (hnx : nx σ' = nx σ) (kk : jj p l e R s m args below meth c A NX Q (jW D cl A cs) nx nL σ' (pc + 1) lv st Z) : jj p l e R s m args below meth c A NX Q (jW D cl A cs) nx nL σ pc lv (.int x :: .int i :: .ref a :: st) Z := by
  intro hz
  obtain ⟨hle, hw⟩ := kk hz
  refine ⟨by rw [← hnx]; exact hle, fun H locs ls hW hn hS hl => ?_⟩
  obtain ⟨hP, hD⟩ := hW
  refine W.iast hk.1.1 hk.1.2.1 (hP q0 _ ha) ((hK.2 t0 _ ht).1 n (fun j => .int (f j))) (fun q => by cases q) (by show ¬ (i < 0 ∨ (arrV _ _ _).slots.size ≤ _); rw [arrV_size]; exact hin) rfl rfl hd fun H1 e z oq => ?_
  have hcell : va_at D cl (a, .inl (cA, n, .inl (upd f i.toNatClampNeg x))) H1 := by
    show H1[a]? = some (vp_cell _ _)
    rw [e, vp_cell_i, vp_cell_i, arrV_store]
    refine congrArg (fun z => some (arrV cA n z)) ?_
    funext q
    by_cases hq : q = i.toNatClampNeg
    · subst hq; simp [updV, upd]
    · simp [updV, upd, hq]
  rw [← hnx]
  exact hw H1 _ ls ⟨by rw [hcs]; exact hP.set hD ha hcell oq, by rw [hcs]; exact hD.set ha⟩ (by rw [z, hn, hnx]) (hS.put z oq (hD.2 q0 _ ha)) hl
end JG

/-! THE MODEL's PICTURE: its ints by the slots of their fields, its arrays by their places -/
abbrev MS : Type := (Nat → Int32) × (Nat → Nat → Int32)
/-- what is fixed: class numbers, classes, the class of int arrays, the object's address, its arrays', the heap's size, its cells -/
abbrev jG : Type := va_G × List vw_C × ClassId × Nat × (Nat → Nat) × Nat × (Nat → Prop)
def gD (G : jG) : va_G := G.1
def gcl (G : jG) : List vw_C := G.2.1
def gI (G : jG) : ClassId := G.2.2.1
def gh (G : jG) : Nat := G.2.2.2.1
def ga (G : jG) (j : Nat) : Nat := G.2.2.2.2.1 j
def gn (G : jG) : Nat := G.2.2.2.2.2.1
def gA (G : jG) : Nat → Prop := G.2.2.2.2.2.2
def lenM : Nat → Nat := fun j => match j with
  | 0 => 368
  | 1 => 368
  | 2 => 368
  | 3 => 200
  | 4 => 64
  | 5 => 64
  | 6 => 60
  | 7 => 4
  | 8 => 4
  | 9 => 12
  | 10 => 200
  | 11 => 4
  | 12 => 4
  | 13 => 160
  | 14 => 4
  | 15 => 4
  | 16 => 4
  | _ => 30
def mfs (G : jG) (μ : MS) : List Value := [.ref (ga G 0), .ref (ga G 1), .ref (ga G 2), .int (μ.1 3), .ref (ga G 3), .ref (ga G 4), .ref (ga G 5), .ref (ga G 6), .ref (ga G 7), .ref (ga G 8), .int (μ.1 10), .int (μ.1 11), .int (μ.1 12), .int (μ.1 13), .int (μ.1 14), .int (μ.1 15), .int (μ.1 16), .int (μ.1 17), .int (μ.1 18), .int (μ.1 19), .ref (ga G 9), .int (μ.1 21), .ref (ga G 10), .int (μ.1 23), .int (μ.1 24), .int (μ.1 25), .int (μ.1 26), .int (μ.1 27), .int (μ.1 28), .int (μ.1 29), .ref (ga G 11), .ref (ga G 12), .ref (ga G 13), .ref (ga G 14), .ref (ga G 15), .ref (ga G 16), .ref (ga G 17), .int (μ.1 37), .int (μ.1 38), .int (μ.1 39), .int (μ.1 40), .int (μ.1 41)]
def mcs (G : jG) (μ : MS) : va_W := [(gh G, .inr (0, mfs G μ)), (ga G 0, .inl (gI G, lenM 0, .inl (μ.2 0))), (ga G 1, .inl (gI G, lenM 1, .inl (μ.2 1))), (ga G 2, .inl (gI G, lenM 2, .inl (μ.2 2))), (ga G 3, .inl (gI G, lenM 3, .inl (μ.2 3))), (ga G 4, .inl (gI G, lenM 4, .inl (μ.2 4))), (ga G 5, .inl (gI G, lenM 5, .inl (μ.2 5))), (ga G 6, .inl (gI G, lenM 6, .inl (μ.2 6))), (ga G 7, .inl (gI G, lenM 7, .inl (μ.2 7))), (ga G 8, .inl (gI G, lenM 8, .inl (μ.2 8))), (ga G 9, .inl (gI G, lenM 9, .inl (μ.2 9))), (ga G 10, .inl (gI G, lenM 10, .inl (μ.2 10))), (ga G 11, .inl (gI G, lenM 11, .inl (μ.2 11))), (ga G 12, .inl (gI G, lenM 12, .inl (μ.2 12))), (ga G 13, .inl (gI G, lenM 13, .inl (μ.2 13))), (ga G 14, .inl (gI G, lenM 14, .inl (μ.2 14))), (ga G 15, .inl (gI G, lenM 15, .inl (μ.2 15))), (ga G 16, .inl (gI G, lenM 16, .inl (μ.2 16))), (ga G 17, .inl (gI G, lenM 17, .inl (μ.2 17)))]
def mWo (G : jG) : MS → Heap → Prop := jW (gD G) (gcl G) (gA G) (mcs G)
def mnx (G : jG) : MS → Nat := fun _ => gn G
def mK (G : jG) (U : State) : Prop := va_K (gD G) (gcl G) [(gI G, .int)] U ∧ (gcl G)[0]? = some (RX6, TX6, 42)
theorem mK_A (G : jG) : jA (mK G) := fun _ _ hW h => ⟨va_K.moved hW.alike h.1, h.2⟩
/-- an int field set; an array's element read, set (none: outside) -/
def stF (μ : MS) (k : Nat) (x : Int32) : MS := (upd μ.1 k x, μ.2)
def ldM (μ : MS) (j : Nat) (i : Int32) : Option Int32 := if i < 0 ∨ lenM j ≤ i.toNatClampNeg then none else some (μ.2 j i.toNatClampNeg)
def setA (μ : MS) (j : Nat) (f : Nat → Int32) : MS := (μ.1, fun k => if k = j then f else μ.2 k)
def stM (μ : MS) (j : Nat) (i x : Int32) : Option MS := if i < 0 ∨ lenM j ≤ i.toNatClampNeg then none else some (setA μ j (upd (μ.2 j) i.toNatClampNeg x))
theorem mcs_at (G : jG) (μ : MS) : ∀ j, j < 18 → (mcs G μ)[j + 1]? = some (ga G j, .inl (gI G, lenM j, .inl (μ.2 j))) := by
  intro j hj
  rcases (show j = 0 ∨ j = 1 ∨ j = 2 ∨ j = 3 ∨ j = 4 ∨ j = 5 ∨ j = 6 ∨ j = 7 ∨ j = 8 ∨ j = 9 ∨ j = 10 ∨ j = 11 ∨ j = 12 ∨ j = 13 ∨ j = 14 ∨ j = 15 ∨ j = 16 ∨ j = 17 by omega) with h | h | h | h | h | h | h | h | h | h | h | h | h | h | h | h | h | h <;> subst h <;> rfl
theorem mcs_setA (G : jG) (μ : MS) (f : Nat → Int32) : ∀ j, j < 18 → mcs G (setA μ j f) = (mcs G μ).set (j + 1) (ga G j, .inl (gI G, lenM j, .inl f)) := by
  intro j hj
  rcases (show j = 0 ∨ j = 1 ∨ j = 2 ∨ j = 3 ∨ j = 4 ∨ j = 5 ∨ j = 6 ∨ j = 7 ∨ j = 8 ∨ j = 9 ∨ j = 10 ∨ j = 11 ∨ j = 12 ∨ j = 13 ∨ j = 14 ∨ j = 15 ∨ j = 16 ∨ j = 17 by omega) with h | h | h | h | h | h | h | h | h | h | h | h | h | h | h | h | h | h <;> subst h <;> rfl
section MR
variable {p : Program} {l : Launch} {e : Env} {R : Room} {s : State} {m : MethodId} {args : Array Value} {below : List Frame} {meth : Method} {c : Code}
variable {NX : Nat} {Q : State → Prop} {nL : Nat} {cc : ByteArray} {fr lo : Nat} {ret : Option FieldType} {own : String}
variable {pc : Nat} {μ : MS} {lv : List (Nat × Value)} {st : List Value} {Z : Prop} {G : jG} {ρ : Type} {res : ρ}
theorem jm_g_s (hk : jk p R s m args meth c NX cc nL RX6 fr lo ret) (hK : mK G s) (hd : decode cc pc = .ok (.getfield 7, 3)) (kk : jj p l e R s m args below meth c (gA G) NX Q (mWo G) (mnx G) nL μ (pc + 3) lv (.ref (ga G 0) :: st) Z) : jj p l e R s m args below meth c (gA G) NX Q (mWo G) (mnx G) nL μ pc lv (.ref (gh G) :: st) Z :=
  jg_get (q0 := 0) (ci := 0) (k := 0) hk hK.1 in_X6 rfl hK.2 (by decide) q1547 rfl hd kk
theorem jm_g_kept (hk : jk p R s m args meth c NX cc nL RX6 fr lo ret) (hK : mK G s) (hd : decode cc pc = .ok (.getfield 13, 3)) (kk : jj p l e R s m args below meth c (gA G) NX Q (mWo G) (mnx G) nL μ (pc + 3) lv (.ref (ga G 1) :: st) Z) : jj p l e R s m args below meth c (gA G) NX Q (mWo G) (mnx G) nL μ pc lv (.ref (gh G) :: st) Z :=
  jg_get (q0 := 0) (ci := 0) (k := 1) hk hK.1 in_X6 rfl hK.2 (by decide) q1548 rfl hd kk
theorem jm_g_other (hk : jk p R s m args meth c NX cc nL RX6 fr lo ret) (hK : mK G s) (hd : decode cc pc = .ok (.getfield 16, 3)) (kk : jj p l e R s m args below meth c (gA G) NX Q (mWo G) (mnx G) nL μ (pc + 3) lv (.ref (ga G 2) :: st) Z) : jj p l e R s m args below meth c (gA G) NX Q (mWo G) (mnx G) nL μ pc lv (.ref (gh G) :: st) Z :=
  jg_get (q0 := 0) (ci := 0) (k := 2) hk hK.1 in_X6 rfl hK.2 (by decide) q1549 rfl hd kk
theorem jm_g_isKept (hk : jk p R s m args meth c NX cc nL RX6 fr lo ret) (hK : mK G s) (hd : decode cc pc = .ok (.getfield 463, 3)) (kk : jj p l e R s m args below meth c (gA G) NX Q (mWo G) (mnx G) nL μ (pc + 3) lv (.int (μ.1 3) :: st) Z) : jj p l e R s m args below meth c (gA G) NX Q (mWo G) (mnx G) nL μ pc lv (.ref (gh G) :: st) Z :=
  jg_get (q0 := 0) (ci := 0) (k := 3) hk hK.1 in_X6 rfl hK.2 (by decide) q1550 rfl hd kk
theorem jm_p_isKept (hk : jk p R s m args meth c NX cc nL RX6 fr lo ret) (hK : mK G s) {b : Bool} {K : MS → Option ρ} (hd : decode cc pc = .ok (.putfield 463, 3)) (kk : ∀ μ', jj p l e R s m args below meth c (gA G) NX Q (mWo G) (mnx G) nL μ' (pc + 3) lv st (K μ' = some res)) : jj p l e R s m args below meth c (gA G) NX Q (mWo G) (mnx G) nL μ pc lv (.int (bI b) :: .ref (gh G) :: st) ((some (stF μ 3 (bI b))).bind K = some res) :=
  jg_put (σ' := stF μ 3 (bI b)) (q0 := 0) (ci := 0) (k := 3) hk hK.1 in_X6 tyX6 tyX6_ok nmX6 rfl hK.2 (by decide) q1550 rfl (narrow_bI b) (fits_bI b) (Nat.le_of_ble_eq_true rfl) hd rfl rfl (kk (stF μ 3 (bI b)))
theorem jm_g_stack (hk : jk p R s m args meth c NX cc nL RX6 fr lo ret) (hK : mK G s) (hd : decode cc pc = .ok (.getfield 19, 3)) (kk : jj p l e R s m args below meth c (gA G) NX Q (mWo G) (mnx G) nL μ (pc + 3) lv (.ref (ga G 3) :: st) Z) : jj p l e R s m args below meth c (gA G) NX Q (mWo G) (mnx G) nL μ pc lv (.ref (gh G) :: st) Z :=
  jg_get (q0 := 0) (ci := 0) (k := 4) hk hK.1 in_X6 rfl hK.2 (by decide) q1551 rfl hd kk
theorem jm_g_nets (hk : jk p R s m args meth c NX cc nL RX6 fr lo ret) (hK : mK G s) (hd : decode cc pc = .ok (.getfield 22, 3)) (kk : jj p l e R s m args below meth c (gA G) NX Q (mWo G) (mnx G) nL μ (pc + 3) lv (.ref (ga G 4) :: st) Z) : jj p l e R s m args below meth c (gA G) NX Q (mWo G) (mnx G) nL μ pc lv (.ref (gh G) :: st) Z :=
  jg_get (q0 := 0) (ci := 0) (k := 5) hk hK.1 in_X6 rfl hK.2 (by decide) q1552 rfl hd kk
theorem jm_g_partsOf (hk : jk p R s m args meth c NX cc nL RX6 fr lo ret) (hK : mK G s) (hd : decode cc pc = .ok (.getfield 25, 3)) (kk : jj p l e R s m args below meth c (gA G) NX Q (mWo G) (mnx G) nL μ (pc + 3) lv (.ref (ga G 5) :: st) Z) : jj p l e R s m args below meth c (gA G) NX Q (mWo G) (mnx G) nL μ pc lv (.ref (gh G) :: st) Z :=
  jg_get (q0 := 0) (ci := 0) (k := 6) hk hK.1 in_X6 rfl hK.2 (by decide) q1553 rfl hd kk
theorem jm_g_saved (hk : jk p R s m args meth c NX cc nL RX6 fr lo ret) (hK : mK G s) (hd : decode cc pc = .ok (.getfield 28, 3)) (kk : jj p l e R s m args below meth c (gA G) NX Q (mWo G) (mnx G) nL μ (pc + 3) lv (.ref (ga G 6) :: st) Z) : jj p l e R s m args below meth c (gA G) NX Q (mWo G) (mnx G) nL μ pc lv (.ref (gh G) :: st) Z :=
  jg_get (q0 := 0) (ci := 0) (k := 7) hk hK.1 in_X6 rfl hK.2 (by decide) q1554 rfl hd kk
theorem jm_g_line (hk : jk p R s m args meth c NX cc nL RX6 fr lo ret) (hK : mK G s) (hd : decode cc pc = .ok (.getfield 31, 3)) (kk : jj p l e R s m args below meth c (gA G) NX Q (mWo G) (mnx G) nL μ (pc + 3) lv (.ref (ga G 7) :: st) Z) : jj p l e R s m args below meth c (gA G) NX Q (mWo G) (mnx G) nL μ pc lv (.ref (gh G) :: st) Z :=
  jg_get (q0 := 0) (ci := 0) (k := 8) hk hK.1 in_X6 rfl hK.2 (by decide) q1555 rfl hd kk
theorem jm_g_first (hk : jk p R s m args meth c NX cc nL RX6 fr lo ret) (hK : mK G s) (hd : decode cc pc = .ok (.getfield 34, 3)) (kk : jj p l e R s m args below meth c (gA G) NX Q (mWo G) (mnx G) nL μ (pc + 3) lv (.ref (ga G 8) :: st) Z) : jj p l e R s m args below meth c (gA G) NX Q (mWo G) (mnx G) nL μ pc lv (.ref (gh G) :: st) Z :=
  jg_get (q0 := 0) (ci := 0) (k := 9) hk hK.1 in_X6 rfl hK.2 (by decide) q1556 rfl hd kk
theorem jm_g_most (hk : jk p R s m args meth c NX cc nL RX6 fr lo ret) (hK : mK G s) (hd : decode cc pc = .ok (.getfield 181, 3)) (kk : jj p l e R s m args below meth c (gA G) NX Q (mWo G) (mnx G) nL μ (pc + 3) lv (.int (μ.1 10) :: st) Z) : jj p l e R s m args below meth c (gA G) NX Q (mWo G) (mnx G) nL μ pc lv (.ref (gh G) :: st) Z :=
  jg_get (q0 := 0) (ci := 0) (k := 10) hk hK.1 in_X6 rfl hK.2 (by decide) q1557 rfl hd kk
theorem jm_p_most (hk : jk p R s m args meth c NX cc nL RX6 fr lo ret) (hK : mK G s) {x : Int32} {K : MS → Option ρ} (hd : decode cc pc = .ok (.putfield 181, 3)) (kk : ∀ μ', jj p l e R s m args below meth c (gA G) NX Q (mWo G) (mnx G) nL μ' (pc + 3) lv st (K μ' = some res)) : jj p l e R s m args below meth c (gA G) NX Q (mWo G) (mnx G) nL μ pc lv (.int x :: .ref (gh G) :: st) ((some (stF μ 10 x)).bind K = some res) :=
  jg_put (σ' := stF μ 10 x) (q0 := 0) (ci := 0) (k := 10) hk hK.1 in_X6 tyX6 tyX6_ok nmX6 rfl hK.2 (by decide) q1557 rfl (vp_nar_int x) rfl (Nat.le_of_ble_eq_true rfl) hd rfl rfl (kk (stF μ 10 x))
theorem jm_g_ways (hk : jk p R s m args meth c NX cc nL RX6 fr lo ret) (hK : mK G s) (hd : decode cc pc = .ok (.getfield 185, 3)) (kk : jj p l e R s m args below meth c (gA G) NX Q (mWo G) (mnx G) nL μ (pc + 3) lv (.int (μ.1 11) :: st) Z) : jj p l e R s m args below meth c (gA G) NX Q (mWo G) (mnx G) nL μ pc lv (.ref (gh G) :: st) Z :=
  jg_get (q0 := 0) (ci := 0) (k := 11) hk hK.1 in_X6 rfl hK.2 (by decide) q1558 rfl hd kk
theorem jm_p_ways (hk : jk p R s m args meth c NX cc nL RX6 fr lo ret) (hK : mK G s) {x : Int32} {K : MS → Option ρ} (hd : decode cc pc = .ok (.putfield 185, 3)) (kk : ∀ μ', jj p l e R s m args below meth c (gA G) NX Q (mWo G) (mnx G) nL μ' (pc + 3) lv st (K μ' = some res)) : jj p l e R s m args below meth c (gA G) NX Q (mWo G) (mnx G) nL μ pc lv (.int x :: .ref (gh G) :: st) ((some (stF μ 11 x)).bind K = some res) :=
  jg_put (σ' := stF μ 11 x) (q0 := 0) (ci := 0) (k := 11) hk hK.1 in_X6 tyX6 tyX6_ok nmX6 rfl hK.2 (by decide) q1558 rfl (vp_nar_int x) rfl (Nat.le_of_ble_eq_true rfl) hd rfl rfl (kk (stF μ 11 x))
theorem jm_g_fewest (hk : jk p R s m args meth c NX cc nL RX6 fr lo ret) (hK : mK G s) (hd : decode cc pc = .ok (.getfield 194, 3)) (kk : jj p l e R s m args below meth c (gA G) NX Q (mWo G) (mnx G) nL μ (pc + 3) lv (.int (μ.1 12) :: st) Z) : jj p l e R s m args below meth c (gA G) NX Q (mWo G) (mnx G) nL μ pc lv (.ref (gh G) :: st) Z :=
  jg_get (q0 := 0) (ci := 0) (k := 12) hk hK.1 in_X6 rfl hK.2 (by decide) q1559 rfl hd kk
theorem jm_p_fewest (hk : jk p R s m args meth c NX cc nL RX6 fr lo ret) (hK : mK G s) {x : Int32} {K : MS → Option ρ} (hd : decode cc pc = .ok (.putfield 194, 3)) (kk : ∀ μ', jj p l e R s m args below meth c (gA G) NX Q (mWo G) (mnx G) nL μ' (pc + 3) lv st (K μ' = some res)) : jj p l e R s m args below meth c (gA G) NX Q (mWo G) (mnx G) nL μ pc lv (.int x :: .ref (gh G) :: st) ((some (stF μ 12 x)).bind K = some res) :=
  jg_put (σ' := stF μ 12 x) (q0 := 0) (ci := 0) (k := 12) hk hK.1 in_X6 tyX6 tyX6_ok nmX6 rfl hK.2 (by decide) q1559 rfl (vp_nar_int x) rfl (Nat.le_of_ble_eq_true rfl) hd rfl rfl (kk (stF μ 12 x))
theorem jm_g_stood (hk : jk p R s m args meth c NX cc nL RX6 fr lo ret) (hK : mK G s) (hd : decode cc pc = .ok (.getfield 188, 3)) (kk : jj p l e R s m args below meth c (gA G) NX Q (mWo G) (mnx G) nL μ (pc + 3) lv (.int (μ.1 13) :: st) Z) : jj p l e R s m args below meth c (gA G) NX Q (mWo G) (mnx G) nL μ pc lv (.ref (gh G) :: st) Z :=
  jg_get (q0 := 0) (ci := 0) (k := 13) hk hK.1 in_X6 rfl hK.2 (by decide) q1560 rfl hd kk
theorem jm_p_stood (hk : jk p R s m args meth c NX cc nL RX6 fr lo ret) (hK : mK G s) {x : Int32} {K : MS → Option ρ} (hd : decode cc pc = .ok (.putfield 188, 3)) (kk : ∀ μ', jj p l e R s m args below meth c (gA G) NX Q (mWo G) (mnx G) nL μ' (pc + 3) lv st (K μ' = some res)) : jj p l e R s m args below meth c (gA G) NX Q (mWo G) (mnx G) nL μ pc lv (.int x :: .ref (gh G) :: st) ((some (stF μ 13 x)).bind K = some res) :=
  jg_put (σ' := stF μ 13 x) (q0 := 0) (ci := 0) (k := 13) hk hK.1 in_X6 tyX6 tyX6_ok nmX6 rfl hK.2 (by decide) q1560 rfl (vp_nar_int x) rfl (Nat.le_of_ble_eq_true rfl) hd rfl rfl (kk (stF μ 13 x))
theorem jm_g_told (hk : jk p R s m args meth c NX cc nL RX6 fr lo ret) (hK : mK G s) (hd : decode cc pc = .ok (.getfield 191, 3)) (kk : jj p l e R s m args below meth c (gA G) NX Q (mWo G) (mnx G) nL μ (pc + 3) lv (.int (μ.1 14) :: st) Z) : jj p l e R s m args below meth c (gA G) NX Q (mWo G) (mnx G) nL μ pc lv (.ref (gh G) :: st) Z :=
  jg_get (q0 := 0) (ci := 0) (k := 14) hk hK.1 in_X6 rfl hK.2 (by decide) q1561 rfl hd kk
theorem jm_p_told (hk : jk p R s m args meth c NX cc nL RX6 fr lo ret) (hK : mK G s) {x : Int32} {K : MS → Option ρ} (hd : decode cc pc = .ok (.putfield 191, 3)) (kk : ∀ μ', jj p l e R s m args below meth c (gA G) NX Q (mWo G) (mnx G) nL μ' (pc + 3) lv st (K μ' = some res)) : jj p l e R s m args below meth c (gA G) NX Q (mWo G) (mnx G) nL μ pc lv (.int x :: .ref (gh G) :: st) ((some (stF μ 14 x)).bind K = some res) :=
  jg_put (σ' := stF μ 14 x) (q0 := 0) (ci := 0) (k := 14) hk hK.1 in_X6 tyX6 tyX6_ok nmX6 rfl hK.2 (by decide) q1561 rfl (vp_nar_int x) rfl (Nat.le_of_ble_eq_true rfl) hd rfl rfl (kk (stF μ 14 x))
theorem jm_g_bestAct (hk : jk p R s m args meth c NX cc nL RX6 fr lo ret) (hK : mK G s) (hd : decode cc pc = .ok (.getfield 229, 3)) (kk : jj p l e R s m args below meth c (gA G) NX Q (mWo G) (mnx G) nL μ (pc + 3) lv (.int (μ.1 15) :: st) Z) : jj p l e R s m args below meth c (gA G) NX Q (mWo G) (mnx G) nL μ pc lv (.ref (gh G) :: st) Z :=
  jg_get (q0 := 0) (ci := 0) (k := 15) hk hK.1 in_X6 rfl hK.2 (by decide) q1562 rfl hd kk
theorem jm_p_bestAct (hk : jk p R s m args meth c NX cc nL RX6 fr lo ret) (hK : mK G s) {x : Int32} {K : MS → Option ρ} (hd : decode cc pc = .ok (.putfield 229, 3)) (kk : ∀ μ', jj p l e R s m args below meth c (gA G) NX Q (mWo G) (mnx G) nL μ' (pc + 3) lv st (K μ' = some res)) : jj p l e R s m args below meth c (gA G) NX Q (mWo G) (mnx G) nL μ pc lv (.int x :: .ref (gh G) :: st) ((some (stF μ 15 x)).bind K = some res) :=
  jg_put (σ' := stF μ 15 x) (q0 := 0) (ci := 0) (k := 15) hk hK.1 in_X6 tyX6 tyX6_ok nmX6 rfl hK.2 (by decide) q1562 rfl (vp_nar_int x) rfl (Nat.le_of_ble_eq_true rfl) hd rfl rfl (kk (stF μ 15 x))
theorem jm_g_fitMany (hk : jk p R s m args meth c NX cc nL RX6 fr lo ret) (hK : mK G s) (hd : decode cc pc = .ok (.getfield 238, 3)) (kk : jj p l e R s m args below meth c (gA G) NX Q (mWo G) (mnx G) nL μ (pc + 3) lv (.int (μ.1 16) :: st) Z) : jj p l e R s m args below meth c (gA G) NX Q (mWo G) (mnx G) nL μ pc lv (.ref (gh G) :: st) Z :=
  jg_get (q0 := 0) (ci := 0) (k := 16) hk hK.1 in_X6 rfl hK.2 (by decide) q1563 rfl hd kk
theorem jm_p_fitMany (hk : jk p R s m args meth c NX cc nL RX6 fr lo ret) (hK : mK G s) {x : Int32} {K : MS → Option ρ} (hd : decode cc pc = .ok (.putfield 238, 3)) (kk : ∀ μ', jj p l e R s m args below meth c (gA G) NX Q (mWo G) (mnx G) nL μ' (pc + 3) lv st (K μ' = some res)) : jj p l e R s m args below meth c (gA G) NX Q (mWo G) (mnx G) nL μ pc lv (.int x :: .ref (gh G) :: st) ((some (stF μ 16 x)).bind K = some res) :=
  jg_put (σ' := stF μ 16 x) (q0 := 0) (ci := 0) (k := 16) hk hK.1 in_X6 tyX6 tyX6_ok nmX6 rfl hK.2 (by decide) q1563 rfl (vp_nar_int x) rfl (Nat.le_of_ble_eq_true rfl) hd rfl rfl (kk (stF μ 16 x))
theorem jm_g_fitKind (hk : jk p R s m args meth c NX cc nL RX6 fr lo ret) (hK : mK G s) (hd : decode cc pc = .ok (.getfield 244, 3)) (kk : jj p l e R s m args below meth c (gA G) NX Q (mWo G) (mnx G) nL μ (pc + 3) lv (.int (μ.1 17) :: st) Z) : jj p l e R s m args below meth c (gA G) NX Q (mWo G) (mnx G) nL μ pc lv (.ref (gh G) :: st) Z :=
  jg_get (q0 := 0) (ci := 0) (k := 17) hk hK.1 in_X6 rfl hK.2 (by decide) q1564 rfl hd kk
theorem jm_p_fitKind (hk : jk p R s m args meth c NX cc nL RX6 fr lo ret) (hK : mK G s) {x : Int32} {K : MS → Option ρ} (hd : decode cc pc = .ok (.putfield 244, 3)) (kk : ∀ μ', jj p l e R s m args below meth c (gA G) NX Q (mWo G) (mnx G) nL μ' (pc + 3) lv st (K μ' = some res)) : jj p l e R s m args below meth c (gA G) NX Q (mWo G) (mnx G) nL μ pc lv (.int x :: .ref (gh G) :: st) ((some (stF μ 17 x)).bind K = some res) :=
  jg_put (σ' := stF μ 17 x) (q0 := 0) (ci := 0) (k := 17) hk hK.1 in_X6 tyX6 tyX6_ok nmX6 rfl hK.2 (by decide) q1564 rfl (vp_nar_int x) rfl (Nat.le_of_ble_eq_true rfl) hd rfl rfl (kk (stF μ 17 x))
theorem jm_g_fitGrace (hk : jk p R s m args meth c NX cc nL RX6 fr lo ret) (hK : mK G s) (hd : decode cc pc = .ok (.getfield 247, 3)) (kk : jj p l e R s m args below meth c (gA G) NX Q (mWo G) (mnx G) nL μ (pc + 3) lv (.int (μ.1 18) :: st) Z) : jj p l e R s m args below meth c (gA G) NX Q (mWo G) (mnx G) nL μ pc lv (.ref (gh G) :: st) Z :=
  jg_get (q0 := 0) (ci := 0) (k := 18) hk hK.1 in_X6 rfl hK.2 (by decide) q1565 rfl hd kk
theorem jm_p_fitGrace (hk : jk p R s m args meth c NX cc nL RX6 fr lo ret) (hK : mK G s) {x : Int32} {K : MS → Option ρ} (hd : decode cc pc = .ok (.putfield 247, 3)) (kk : ∀ μ', jj p l e R s m args below meth c (gA G) NX Q (mWo G) (mnx G) nL μ' (pc + 3) lv st (K μ' = some res)) : jj p l e R s m args below meth c (gA G) NX Q (mWo G) (mnx G) nL μ pc lv (.int x :: .ref (gh G) :: st) ((some (stF μ 18 x)).bind K = some res) :=
  jg_put (σ' := stF μ 18 x) (q0 := 0) (ci := 0) (k := 18) hk hK.1 in_X6 tyX6 tyX6_ok nmX6 rfl hK.2 (by decide) q1565 rfl (vp_nar_int x) rfl (Nat.le_of_ble_eq_true rfl) hd rfl rfl (kk (stF μ 18 x))
theorem jm_g_fitStrength (hk : jk p R s m args meth c NX cc nL RX6 fr lo ret) (hK : mK G s) (hd : decode cc pc = .ok (.getfield 250, 3)) (kk : jj p l e R s m args below meth c (gA G) NX Q (mWo G) (mnx G) nL μ (pc + 3) lv (.int (μ.1 19) :: st) Z) : jj p l e R s m args below meth c (gA G) NX Q (mWo G) (mnx G) nL μ pc lv (.ref (gh G) :: st) Z :=
  jg_get (q0 := 0) (ci := 0) (k := 19) hk hK.1 in_X6 rfl hK.2 (by decide) q1566 rfl hd kk
theorem jm_p_fitStrength (hk : jk p R s m args meth c NX cc nL RX6 fr lo ret) (hK : mK G s) {x : Int32} {K : MS → Option ρ} (hd : decode cc pc = .ok (.putfield 250, 3)) (kk : ∀ μ', jj p l e R s m args below meth c (gA G) NX Q (mWo G) (mnx G) nL μ' (pc + 3) lv st (K μ' = some res)) : jj p l e R s m args below meth c (gA G) NX Q (mWo G) (mnx G) nL μ pc lv (.int x :: .ref (gh G) :: st) ((some (stF μ 19 x)).bind K = some res) :=
  jg_put (σ' := stF μ 19 x) (q0 := 0) (ci := 0) (k := 19) hk hK.1 in_X6 tyX6 tyX6_ok nmX6 rfl hK.2 (by decide) q1566 rfl (vp_nar_int x) rfl (Nat.le_of_ble_eq_true rfl) hd rfl rfl (kk (stF μ 19 x))
theorem jm_g_rows (hk : jk p R s m args meth c NX cc nL RX6 fr lo ret) (hK : mK G s) (hd : decode cc pc = .ok (.getfield 37, 3)) (kk : jj p l e R s m args below meth c (gA G) NX Q (mWo G) (mnx G) nL μ (pc + 3) lv (.ref (ga G 9) :: st) Z) : jj p l e R s m args below meth c (gA G) NX Q (mWo G) (mnx G) nL μ pc lv (.ref (gh G) :: st) Z :=
  jg_get (q0 := 0) (ci := 0) (k := 20) hk hK.1 in_X6 rfl hK.2 (by decide) q1567 rfl hd kk
theorem jm_g_rowMany (hk : jk p R s m args meth c NX cc nL RX6 fr lo ret) (hK : mK G s) (hd : decode cc pc = .ok (.getfield 264, 3)) (kk : jj p l e R s m args below meth c (gA G) NX Q (mWo G) (mnx G) nL μ (pc + 3) lv (.int (μ.1 21) :: st) Z) : jj p l e R s m args below meth c (gA G) NX Q (mWo G) (mnx G) nL μ pc lv (.ref (gh G) :: st) Z :=
  jg_get (q0 := 0) (ci := 0) (k := 21) hk hK.1 in_X6 rfl hK.2 (by decide) q1568 rfl hd kk
theorem jm_p_rowMany (hk : jk p R s m args meth c NX cc nL RX6 fr lo ret) (hK : mK G s) {x : Int32} {K : MS → Option ρ} (hd : decode cc pc = .ok (.putfield 264, 3)) (kk : ∀ μ', jj p l e R s m args below meth c (gA G) NX Q (mWo G) (mnx G) nL μ' (pc + 3) lv st (K μ' = some res)) : jj p l e R s m args below meth c (gA G) NX Q (mWo G) (mnx G) nL μ pc lv (.int x :: .ref (gh G) :: st) ((some (stF μ 21 x)).bind K = some res) :=
  jg_put (σ' := stF μ 21 x) (q0 := 0) (ci := 0) (k := 21) hk hK.1 in_X6 tyX6 tyX6_ok nmX6 rfl hK.2 (by decide) q1568 rfl (vp_nar_int x) rfl (Nat.le_of_ble_eq_true rfl) hd rfl rfl (kk (stF μ 21 x))
theorem jm_g_tape (hk : jk p R s m args meth c NX cc nL RX6 fr lo ret) (hK : mK G s) (hd : decode cc pc = .ok (.getfield 40, 3)) (kk : jj p l e R s m args below meth c (gA G) NX Q (mWo G) (mnx G) nL μ (pc + 3) lv (.ref (ga G 10) :: st) Z) : jj p l e R s m args below meth c (gA G) NX Q (mWo G) (mnx G) nL μ pc lv (.ref (gh G) :: st) Z :=
  jg_get (q0 := 0) (ci := 0) (k := 22) hk hK.1 in_X6 rfl hK.2 (by decide) q1569 rfl hd kk
theorem jm_g_taped (hk : jk p R s m args meth c NX cc nL RX6 fr lo ret) (hK : mK G s) (hd : decode cc pc = .ok (.getfield 275, 3)) (kk : jj p l e R s m args below meth c (gA G) NX Q (mWo G) (mnx G) nL μ (pc + 3) lv (.int (μ.1 23) :: st) Z) : jj p l e R s m args below meth c (gA G) NX Q (mWo G) (mnx G) nL μ pc lv (.ref (gh G) :: st) Z :=
  jg_get (q0 := 0) (ci := 0) (k := 23) hk hK.1 in_X6 rfl hK.2 (by decide) q1570 rfl hd kk
theorem jm_p_taped (hk : jk p R s m args meth c NX cc nL RX6 fr lo ret) (hK : mK G s) {x : Int32} {K : MS → Option ρ} (hd : decode cc pc = .ok (.putfield 275, 3)) (kk : ∀ μ', jj p l e R s m args below meth c (gA G) NX Q (mWo G) (mnx G) nL μ' (pc + 3) lv st (K μ' = some res)) : jj p l e R s m args below meth c (gA G) NX Q (mWo G) (mnx G) nL μ pc lv (.int x :: .ref (gh G) :: st) ((some (stF μ 23 x)).bind K = some res) :=
  jg_put (σ' := stF μ 23 x) (q0 := 0) (ci := 0) (k := 23) hk hK.1 in_X6 tyX6 tyX6_ok nmX6 rfl hK.2 (by decide) q1570 rfl (vp_nar_int x) rfl (Nat.le_of_ble_eq_true rfl) hd rfl rfl (kk (stF μ 23 x))
theorem jm_g_from (hk : jk p R s m args meth c NX cc nL RX6 fr lo ret) (hK : mK G s) (hd : decode cc pc = .ok (.getfield 291, 3)) (kk : jj p l e R s m args below meth c (gA G) NX Q (mWo G) (mnx G) nL μ (pc + 3) lv (.int (μ.1 24) :: st) Z) : jj p l e R s m args below meth c (gA G) NX Q (mWo G) (mnx G) nL μ pc lv (.ref (gh G) :: st) Z :=
  jg_get (q0 := 0) (ci := 0) (k := 24) hk hK.1 in_X6 rfl hK.2 (by decide) q1571 rfl hd kk
theorem jm_p_from (hk : jk p R s m args meth c NX cc nL RX6 fr lo ret) (hK : mK G s) {x : Int32} {K : MS → Option ρ} (hd : decode cc pc = .ok (.putfield 291, 3)) (kk : ∀ μ', jj p l e R s m args below meth c (gA G) NX Q (mWo G) (mnx G) nL μ' (pc + 3) lv st (K μ' = some res)) : jj p l e R s m args below meth c (gA G) NX Q (mWo G) (mnx G) nL μ pc lv (.int x :: .ref (gh G) :: st) ((some (stF μ 24 x)).bind K = some res) :=
  jg_put (σ' := stF μ 24 x) (q0 := 0) (ci := 0) (k := 24) hk hK.1 in_X6 tyX6 tyX6_ok nmX6 rfl hK.2 (by decide) q1571 rfl (vp_nar_int x) rfl (Nat.le_of_ble_eq_true rfl) hd rfl rfl (kk (stF μ 24 x))
theorem jm_g_to (hk : jk p R s m args meth c NX cc nL RX6 fr lo ret) (hK : mK G s) (hd : decode cc pc = .ok (.getfield 288, 3)) (kk : jj p l e R s m args below meth c (gA G) NX Q (mWo G) (mnx G) nL μ (pc + 3) lv (.int (μ.1 25) :: st) Z) : jj p l e R s m args below meth c (gA G) NX Q (mWo G) (mnx G) nL μ pc lv (.ref (gh G) :: st) Z :=
  jg_get (q0 := 0) (ci := 0) (k := 25) hk hK.1 in_X6 rfl hK.2 (by decide) q1572 rfl hd kk
theorem jm_p_to (hk : jk p R s m args meth c NX cc nL RX6 fr lo ret) (hK : mK G s) {x : Int32} {K : MS → Option ρ} (hd : decode cc pc = .ok (.putfield 288, 3)) (kk : ∀ μ', jj p l e R s m args below meth c (gA G) NX Q (mWo G) (mnx G) nL μ' (pc + 3) lv st (K μ' = some res)) : jj p l e R s m args below meth c (gA G) NX Q (mWo G) (mnx G) nL μ pc lv (.int x :: .ref (gh G) :: st) ((some (stF μ 25 x)).bind K = some res) :=
  jg_put (σ' := stF μ 25 x) (q0 := 0) (ci := 0) (k := 25) hk hK.1 in_X6 tyX6 tyX6_ok nmX6 rfl hK.2 (by decide) q1572 rfl (vp_nar_int x) rfl (Nat.le_of_ble_eq_true rfl) hd rfl rfl (kk (stF μ 25 x))
theorem jm_g_value (hk : jk p R s m args meth c NX cc nL RX6 fr lo ret) (hK : mK G s) (hd : decode cc pc = .ok (.getfield 314, 3)) (kk : jj p l e R s m args below meth c (gA G) NX Q (mWo G) (mnx G) nL μ (pc + 3) lv (.int (μ.1 26) :: st) Z) : jj p l e R s m args below meth c (gA G) NX Q (mWo G) (mnx G) nL μ pc lv (.ref (gh G) :: st) Z :=
  jg_get (q0 := 0) (ci := 0) (k := 26) hk hK.1 in_X6 rfl hK.2 (by decide) q1573 rfl hd kk
theorem jm_p_value (hk : jk p R s m args meth c NX cc nL RX6 fr lo ret) (hK : mK G s) {x : Int32} {K : MS → Option ρ} (hd : decode cc pc = .ok (.putfield 314, 3)) (kk : ∀ μ', jj p l e R s m args below meth c (gA G) NX Q (mWo G) (mnx G) nL μ' (pc + 3) lv st (K μ' = some res)) : jj p l e R s m args below meth c (gA G) NX Q (mWo G) (mnx G) nL μ pc lv (.int x :: .ref (gh G) :: st) ((some (stF μ 26 x)).bind K = some res) :=
  jg_put (σ' := stF μ 26 x) (q0 := 0) (ci := 0) (k := 26) hk hK.1 in_X6 tyX6 tyX6_ok nmX6 rfl hK.2 (by decide) q1573 rfl (vp_nar_int x) rfl (Nat.le_of_ble_eq_true rfl) hd rfl rfl (kk (stF μ 26 x))
theorem jm_g_open (hk : jk p R s m args meth c NX cc nL RX6 fr lo ret) (hK : mK G s) (hd : decode cc pc = .ok (.getfield 364, 3)) (kk : jj p l e R s m args below meth c (gA G) NX Q (mWo G) (mnx G) nL μ (pc + 3) lv (.int (μ.1 27) :: st) Z) : jj p l e R s m args below meth c (gA G) NX Q (mWo G) (mnx G) nL μ pc lv (.ref (gh G) :: st) Z :=
  jg_get (q0 := 0) (ci := 0) (k := 27) hk hK.1 in_X6 rfl hK.2 (by decide) q1574 rfl hd kk
theorem jm_p_open (hk : jk p R s m args meth c NX cc nL RX6 fr lo ret) (hK : mK G s) {x : Int32} {K : MS → Option ρ} (hd : decode cc pc = .ok (.putfield 364, 3)) (kk : ∀ μ', jj p l e R s m args below meth c (gA G) NX Q (mWo G) (mnx G) nL μ' (pc + 3) lv st (K μ' = some res)) : jj p l e R s m args below meth c (gA G) NX Q (mWo G) (mnx G) nL μ pc lv (.int x :: .ref (gh G) :: st) ((some (stF μ 27 x)).bind K = some res) :=
  jg_put (σ' := stF μ 27 x) (q0 := 0) (ci := 0) (k := 27) hk hK.1 in_X6 tyX6 tyX6_ok nmX6 rfl hK.2 (by decide) q1574 rfl (vp_nar_int x) rfl (Nat.le_of_ble_eq_true rfl) hd rfl rfl (kk (stF μ 27 x))
theorem jm_g_coded (hk : jk p R s m args meth c NX cc nL RX6 fr lo ret) (hK : mK G s) (hd : decode cc pc = .ok (.getfield 347, 3)) (kk : jj p l e R s m args below meth c (gA G) NX Q (mWo G) (mnx G) nL μ (pc + 3) lv (.int (μ.1 28) :: st) Z) : jj p l e R s m args below meth c (gA G) NX Q (mWo G) (mnx G) nL μ pc lv (.ref (gh G) :: st) Z :=
  jg_get (q0 := 0) (ci := 0) (k := 28) hk hK.1 in_X6 rfl hK.2 (by decide) q1575 rfl hd kk
theorem jm_p_coded (hk : jk p R s m args meth c NX cc nL RX6 fr lo ret) (hK : mK G s) {x : Int32} {K : MS → Option ρ} (hd : decode cc pc = .ok (.putfield 347, 3)) (kk : ∀ μ', jj p l e R s m args below meth c (gA G) NX Q (mWo G) (mnx G) nL μ' (pc + 3) lv st (K μ' = some res)) : jj p l e R s m args below meth c (gA G) NX Q (mWo G) (mnx G) nL μ pc lv (.int x :: .ref (gh G) :: st) ((some (stF μ 28 x)).bind K = some res) :=
  jg_put (σ' := stF μ 28 x) (q0 := 0) (ci := 0) (k := 28) hk hK.1 in_X6 tyX6 tyX6_ok nmX6 rfl hK.2 (by decide) q1575 rfl (vp_nar_int x) rfl (Nat.le_of_ble_eq_true rfl) hd rfl rfl (kk (stF μ 28 x))
theorem jm_g_isWrong (hk : jk p R s m args meth c NX cc nL RX6 fr lo ret) (hK : mK G s) (hd : decode cc pc = .ok (.getfield 303, 3)) (kk : jj p l e R s m args below meth c (gA G) NX Q (mWo G) (mnx G) nL μ (pc + 3) lv (.int (μ.1 29) :: st) Z) : jj p l e R s m args below meth c (gA G) NX Q (mWo G) (mnx G) nL μ pc lv (.ref (gh G) :: st) Z :=
  jg_get (q0 := 0) (ci := 0) (k := 29) hk hK.1 in_X6 rfl hK.2 (by decide) q1576 rfl hd kk
theorem jm_p_isWrong (hk : jk p R s m args meth c NX cc nL RX6 fr lo ret) (hK : mK G s) {b : Bool} {K : MS → Option ρ} (hd : decode cc pc = .ok (.putfield 303, 3)) (kk : ∀ μ', jj p l e R s m args below meth c (gA G) NX Q (mWo G) (mnx G) nL μ' (pc + 3) lv st (K μ' = some res)) : jj p l e R s m args below meth c (gA G) NX Q (mWo G) (mnx G) nL μ pc lv (.int (bI b) :: .ref (gh G) :: st) ((some (stF μ 29 (bI b))).bind K = some res) :=
  jg_put (σ' := stF μ 29 (bI b)) (q0 := 0) (ci := 0) (k := 29) hk hK.1 in_X6 tyX6 tyX6_ok nmX6 rfl hK.2 (by decide) q1576 rfl (narrow_bI b) (fits_bI b) (Nat.le_of_ble_eq_true rfl) hd rfl rfl (kk (stF μ 29 (bI b)))
theorem jm_g_sortOf (hk : jk p R s m args meth c NX cc nL RX6 fr lo ret) (hK : mK G s) (hd : decode cc pc = .ok (.getfield 43, 3)) (kk : jj p l e R s m args below meth c (gA G) NX Q (mWo G) (mnx G) nL μ (pc + 3) lv (.ref (ga G 11) :: st) Z) : jj p l e R s m args below meth c (gA G) NX Q (mWo G) (mnx G) nL μ pc lv (.ref (gh G) :: st) Z :=
  jg_get (q0 := 0) (ci := 0) (k := 30) hk hK.1 in_X6 rfl hK.2 (by decide) q1577 rfl hd kk
theorem jm_g_sizes (hk : jk p R s m args meth c NX cc nL RX6 fr lo ret) (hK : mK G s) (hd : decode cc pc = .ok (.getfield 46, 3)) (kk : jj p l e R s m args below meth c (gA G) NX Q (mWo G) (mnx G) nL μ (pc + 3) lv (.ref (ga G 12) :: st) Z) : jj p l e R s m args below meth c (gA G) NX Q (mWo G) (mnx G) nL μ pc lv (.ref (gh G) :: st) Z :=
  jg_get (q0 := 0) (ci := 0) (k := 31) hk hK.1 in_X6 rfl hK.2 (by decide) q1578 rfl hd kk
theorem jm_g_items (hk : jk p R s m args meth c NX cc nL RX6 fr lo ret) (hK : mK G s) (hd : decode cc pc = .ok (.getfield 49, 3)) (kk : jj p l e R s m args below meth c (gA G) NX Q (mWo G) (mnx G) nL μ (pc + 3) lv (.ref (ga G 13) :: st) Z) : jj p l e R s m args below meth c (gA G) NX Q (mWo G) (mnx G) nL μ pc lv (.ref (gh G) :: st) Z :=
  jg_get (q0 := 0) (ci := 0) (k := 32) hk hK.1 in_X6 rfl hK.2 (by decide) q1579 rfl hd kk
theorem jm_g_lies (hk : jk p R s m args meth c NX cc nL RX6 fr lo ret) (hK : mK G s) (hd : decode cc pc = .ok (.getfield 52, 3)) (kk : jj p l e R s m args below meth c (gA G) NX Q (mWo G) (mnx G) nL μ (pc + 3) lv (.ref (ga G 14) :: st) Z) : jj p l e R s m args below meth c (gA G) NX Q (mWo G) (mnx G) nL μ pc lv (.ref (gh G) :: st) Z :=
  jg_get (q0 := 0) (ci := 0) (k := 33) hk hK.1 in_X6 rfl hK.2 (by decide) q1580 rfl hd kk
theorem jm_g_liesNumber (hk : jk p R s m args meth c NX cc nL RX6 fr lo ret) (hK : mK G s) (hd : decode cc pc = .ok (.getfield 55, 3)) (kk : jj p l e R s m args below meth c (gA G) NX Q (mWo G) (mnx G) nL μ (pc + 3) lv (.ref (ga G 15) :: st) Z) : jj p l e R s m args below meth c (gA G) NX Q (mWo G) (mnx G) nL μ pc lv (.ref (gh G) :: st) Z :=
  jg_get (q0 := 0) (ci := 0) (k := 34) hk hK.1 in_X6 rfl hK.2 (by decide) q1581 rfl hd kk
theorem jm_g_liesSort (hk : jk p R s m args meth c NX cc nL RX6 fr lo ret) (hK : mK G s) (hd : decode cc pc = .ok (.getfield 58, 3)) (kk : jj p l e R s m args below meth c (gA G) NX Q (mWo G) (mnx G) nL μ (pc + 3) lv (.ref (ga G 16) :: st) Z) : jj p l e R s m args below meth c (gA G) NX Q (mWo G) (mnx G) nL μ pc lv (.ref (gh G) :: st) Z :=
  jg_get (q0 := 0) (ci := 0) (k := 35) hk hK.1 in_X6 rfl hK.2 (by decide) q1582 rfl hd kk
theorem jm_g_ran (hk : jk p R s m args meth c NX cc nL RX6 fr lo ret) (hK : mK G s) (hd : decode cc pc = .ok (.getfield 61, 3)) (kk : jj p l e R s m args below meth c (gA G) NX Q (mWo G) (mnx G) nL μ (pc + 3) lv (.ref (ga G 17) :: st) Z) : jj p l e R s m args below meth c (gA G) NX Q (mWo G) (mnx G) nL μ pc lv (.ref (gh G) :: st) Z :=
  jg_get (q0 := 0) (ci := 0) (k := 36) hk hK.1 in_X6 rfl hK.2 (by decide) q1583 rfl hd kk
theorem jm_g_bodies (hk : jk p R s m args meth c NX cc nL RX6 fr lo ret) (hK : mK G s) (hd : decode cc pc = .ok (.getfield 427, 3)) (kk : jj p l e R s m args below meth c (gA G) NX Q (mWo G) (mnx G) nL μ (pc + 3) lv (.int (μ.1 37) :: st) Z) : jj p l e R s m args below meth c (gA G) NX Q (mWo G) (mnx G) nL μ pc lv (.ref (gh G) :: st) Z :=
  jg_get (q0 := 0) (ci := 0) (k := 37) hk hK.1 in_X6 rfl hK.2 (by decide) q1584 rfl hd kk
theorem jm_p_bodies (hk : jk p R s m args meth c NX cc nL RX6 fr lo ret) (hK : mK G s) {x : Int32} {K : MS → Option ρ} (hd : decode cc pc = .ok (.putfield 427, 3)) (kk : ∀ μ', jj p l e R s m args below meth c (gA G) NX Q (mWo G) (mnx G) nL μ' (pc + 3) lv st (K μ' = some res)) : jj p l e R s m args below meth c (gA G) NX Q (mWo G) (mnx G) nL μ pc lv (.int x :: .ref (gh G) :: st) ((some (stF μ 37 x)).bind K = some res) :=
  jg_put (σ' := stF μ 37 x) (q0 := 0) (ci := 0) (k := 37) hk hK.1 in_X6 tyX6 tyX6_ok nmX6 rfl hK.2 (by decide) q1584 rfl (vp_nar_int x) rfl (Nat.le_of_ble_eq_true rfl) hd rfl rfl (kk (stF μ 37 x))
theorem jm_g_acting (hk : jk p R s m args meth c NX cc nL RX6 fr lo ret) (hK : mK G s) (hd : decode cc pc = .ok (.getfield 439, 3)) (kk : jj p l e R s m args below meth c (gA G) NX Q (mWo G) (mnx G) nL μ (pc + 3) lv (.int (μ.1 38) :: st) Z) : jj p l e R s m args below meth c (gA G) NX Q (mWo G) (mnx G) nL μ pc lv (.ref (gh G) :: st) Z :=
  jg_get (q0 := 0) (ci := 0) (k := 38) hk hK.1 in_X6 rfl hK.2 (by decide) q1585 rfl hd kk
theorem jm_p_acting (hk : jk p R s m args meth c NX cc nL RX6 fr lo ret) (hK : mK G s) {x : Int32} {K : MS → Option ρ} (hd : decode cc pc = .ok (.putfield 439, 3)) (kk : ∀ μ', jj p l e R s m args below meth c (gA G) NX Q (mWo G) (mnx G) nL μ' (pc + 3) lv st (K μ' = some res)) : jj p l e R s m args below meth c (gA G) NX Q (mWo G) (mnx G) nL μ pc lv (.int x :: .ref (gh G) :: st) ((some (stF μ 38 x)).bind K = some res) :=
  jg_put (σ' := stF μ 38 x) (q0 := 0) (ci := 0) (k := 38) hk hK.1 in_X6 tyX6 tyX6_ok nmX6 rfl hK.2 (by decide) q1585 rfl (vp_nar_int x) rfl (Nat.le_of_ble_eq_true rfl) hd rfl rfl (kk (stF μ 38 x))
theorem jm_g_about (hk : jk p R s m args meth c NX cc nL RX6 fr lo ret) (hK : mK G s) (hd : decode cc pc = .ok (.getfield 436, 3)) (kk : jj p l e R s m args below meth c (gA G) NX Q (mWo G) (mnx G) nL μ (pc + 3) lv (.int (μ.1 39) :: st) Z) : jj p l e R s m args below meth c (gA G) NX Q (mWo G) (mnx G) nL μ pc lv (.ref (gh G) :: st) Z :=
  jg_get (q0 := 0) (ci := 0) (k := 39) hk hK.1 in_X6 rfl hK.2 (by decide) q1586 rfl hd kk
theorem jm_p_about (hk : jk p R s m args meth c NX cc nL RX6 fr lo ret) (hK : mK G s) {x : Int32} {K : MS → Option ρ} (hd : decode cc pc = .ok (.putfield 436, 3)) (kk : ∀ μ', jj p l e R s m args below meth c (gA G) NX Q (mWo G) (mnx G) nL μ' (pc + 3) lv st (K μ' = some res)) : jj p l e R s m args below meth c (gA G) NX Q (mWo G) (mnx G) nL μ pc lv (.int x :: .ref (gh G) :: st) ((some (stF μ 39 x)).bind K = some res) :=
  jg_put (σ' := stF μ 39 x) (q0 := 0) (ci := 0) (k := 39) hk hK.1 in_X6 tyX6 tyX6_ok nmX6 rfl hK.2 (by decide) q1586 rfl (vp_nar_int x) rfl (Nat.le_of_ble_eq_true rfl) hd rfl rfl (kk (stF μ 39 x))
theorem jm_g_kindActing (hk : jk p R s m args meth c NX cc nL RX6 fr lo ret) (hK : mK G s) (hd : decode cc pc = .ok (.getfield 430, 3)) (kk : jj p l e R s m args below meth c (gA G) NX Q (mWo G) (mnx G) nL μ (pc + 3) lv (.int (μ.1 40) :: st) Z) : jj p l e R s m args below meth c (gA G) NX Q (mWo G) (mnx G) nL μ pc lv (.ref (gh G) :: st) Z :=
  jg_get (q0 := 0) (ci := 0) (k := 40) hk hK.1 in_X6 rfl hK.2 (by decide) q1587 rfl hd kk
theorem jm_p_kindActing (hk : jk p R s m args meth c NX cc nL RX6 fr lo ret) (hK : mK G s) {x : Int32} {K : MS → Option ρ} (hd : decode cc pc = .ok (.putfield 430, 3)) (kk : ∀ μ', jj p l e R s m args below meth c (gA G) NX Q (mWo G) (mnx G) nL μ' (pc + 3) lv st (K μ' = some res)) : jj p l e R s m args below meth c (gA G) NX Q (mWo G) (mnx G) nL μ pc lv (.int x :: .ref (gh G) :: st) ((some (stF μ 40 x)).bind K = some res) :=
  jg_put (σ' := stF μ 40 x) (q0 := 0) (ci := 0) (k := 40) hk hK.1 in_X6 tyX6 tyX6_ok nmX6 rfl hK.2 (by decide) q1587 rfl (vp_nar_int x) rfl (Nat.le_of_ble_eq_true rfl) hd rfl rfl (kk (stF μ 40 x))
theorem jm_g_isParted (hk : jk p R s m args meth c NX cc nL RX6 fr lo ret) (hK : mK G s) (hd : decode cc pc = .ok (.getfield 424, 3)) (kk : jj p l e R s m args below meth c (gA G) NX Q (mWo G) (mnx G) nL μ (pc + 3) lv (.int (μ.1 41) :: st) Z) : jj p l e R s m args below meth c (gA G) NX Q (mWo G) (mnx G) nL μ pc lv (.ref (gh G) :: st) Z :=
  jg_get (q0 := 0) (ci := 0) (k := 41) hk hK.1 in_X6 rfl hK.2 (by decide) q1588 rfl hd kk
theorem jm_p_isParted (hk : jk p R s m args meth c NX cc nL RX6 fr lo ret) (hK : mK G s) {b : Bool} {K : MS → Option ρ} (hd : decode cc pc = .ok (.putfield 424, 3)) (kk : ∀ μ', jj p l e R s m args below meth c (gA G) NX Q (mWo G) (mnx G) nL μ' (pc + 3) lv st (K μ' = some res)) : jj p l e R s m args below meth c (gA G) NX Q (mWo G) (mnx G) nL μ pc lv (.int (bI b) :: .ref (gh G) :: st) ((some (stF μ 41 (bI b))).bind K = some res) :=
  jg_put (σ' := stF μ 41 (bI b)) (q0 := 0) (ci := 0) (k := 41) hk hK.1 in_X6 tyX6 tyX6_ok nmX6 rfl hK.2 (by decide) q1588 rfl (narrow_bI b) (fits_bI b) (Nat.le_of_ble_eq_true rfl) hd rfl rfl (kk (stF μ 41 (bI b)))
theorem jm_ld (hk : jk p R s m args meth c NX cc nL RX6 fr lo ret) (hK : mK G s) {j : Nat} {i : Int32} {K : Int32 → Option ρ} (hj : j < 18) (hd : decode cc pc = .ok (.iaload, 1)) (kk : ∀ v, jj p l e R s m args below meth c (gA G) NX Q (mWo G) (mnx G) nL μ (pc + 1) lv (.int v :: st) (K v = some res)) : jj p l e R s m args below meth c (gA G) NX Q (mWo G) (mnx G) nL μ pc lv (.int i :: .ref (ga G j) :: st) ((ldM μ j i).bind K = some res) := by
  intro hz
  unfold ldM at hz
  by_cases h : i < 0 ∨ lenM j ≤ i.toNatClampNeg
  · rw [if_pos h] at hz; cases hz
  · rw [if_neg h] at hz
    exact jg_iald (q0 := j + 1) (t0 := 0) hk hK.1 (mcs_at G μ j hj) rfl h hd (kk _) hz
theorem jm_st (hk : jk p R s m args meth c NX cc nL RX6 fr lo ret) (hK : mK G s) {j : Nat} {i x : Int32} {K : MS → Option ρ} (hj : j < 18) (hd : decode cc pc = .ok (.iastore, 1)) (kk : ∀ μ', jj p l e R s m args below meth c (gA G) NX Q (mWo G) (mnx G) nL μ' (pc + 1) lv st (K μ' = some res)) : jj p l e R s m args below meth c (gA G) NX Q (mWo G) (mnx G) nL μ pc lv (.int x :: .int i :: .ref (ga G j) :: st) ((stM μ j i x).bind K = some res) := by
  intro hz
  unfold stM at hz
  by_cases h : i < 0 ∨ lenM j ≤ i.toNatClampNeg
  · rw [if_pos h] at hz; cases hz
  · rw [if_neg h] at hz
    exact jg_iast (σ' := setA μ j (upd (μ.2 j) i.toNatClampNeg x)) (q0 := j + 1) (t0 := 0) hk hK.1 (mcs_at G μ j hj) rfl h hd (mcs_setA G μ _ j hj) rfl (kk _) hz
theorem mblind (G : jG) {Wo' : MS → Heap → Prop} {av : List Value} {σ : MS} : FrameBlind (va_Pc av (fun U => Wo' σ U.heap ∧ U.heap.size = mnx G σ ∧ mK G U)) :=
  fun a U g mk q => ⟨q.1, q.2.1, q.2.2.1, mK_A G U (U.calling g mk a) (State.WarmedH.refl U) q.2.2.2⟩
theorem jm_VUi (hk : jk p R s m args meth c NX cc nL RX6 fr lo ret) (hK : mK G s) {y : MethodName} {bytes : ByteArray} {nLc frc loc idx n : Nat} {F : Option (Int32 × MS)} {K : (Int32 × MS) → Option ρ} (As : List Value) {st0 : List Value} (hM : ∀ r, F = some r → jM l y (ws_ y bytes nLc (some .int)) frc loc (.ref (gh G) :: As) (mWo G) (mnx G) (mK G) μ (jU r) (gA G) (gn G))
    (hl : GoodIn lw_all (wsV RX6 idx RX6 y (ws_ y bytes nLc (some .int)))) (hy : y.cls = RX6 ∧ y.cls ≠ "java/lang/invoke/MethodHandle" ∧ y.cls ≠ "java/lang/invoke/VarHandle" ∧ (parseMethodDescriptor y.desc).map (fun d => d.parameters.length) = some n) (hlen : As.length = n) (hst : st0 = (As.reverse ++ .ref (gh G) :: st)) (hd : decode cc pc = .ok (.invokevirtual idx, 3)) (hr : frc + 1 ≤ fr ∧ 8 + (nLc + 11) + loc ≤ lo) (hw : (st.map fun v => v.category).sum ≤ 8)
    (kk : ∀ r, jj p l e R s m args below meth c (gA G) NX Q (mWo G) (mnx G) nL r.2 (pc + 3) lv (.int r.1 :: st) (K r = some res)) : jj p l e R s m args below meth c (gA G) NX Q (mWo G) (mnx G) nL μ pc lv st0 (F.bind K = some res) := by
  subst hst
  cases hF : F with
  | none => exact fun hz => by cases hz
  | some r =>
    subst hF
    refine jj_run (σ1 := r.2) (v := some (.int r.1)) (Ψ1 := jU r) (idx := idx) (a1 := (Value.ref (gh G) :: As).toArray) hk (Nat.le_refl _) (fun o σ' h => ⟨by have h1 := h.1; cases h1; rfl, h.2⟩) (fun H locs ls hW hn hS hlv hle => ?_) (kk r)
    exact va_runV (As := As) (rest := st) hk.1 (hM r rfl) (cwV n hk.1.2.2.2.2 hl rfl rfl rfl hy (by rw [hk.2.1]; exact hr)) ⟨mblind G, va_recv hK.1 hW.1 hK.2 (q0 := 0) rfl, fun U hU hWm => ⟨rfl, by rw [hU]; exact hW, by rw [hU]; exact hn, mK_A G _ _ hWm hK⟩⟩ rfl hlen hlv.1 rfl (lv_room hw) hd (by rw [hk.2.1]; show _ ∧ _; have : gn G ≤ NX := hle; constructor <;> (show _ ≤ _; dsimp only [mnx]; omega))
theorem jm_VUz (hk : jk p R s m args meth c NX cc nL RX6 fr lo ret) (hK : mK G s) {y : MethodName} {bytes : ByteArray} {nLc frc loc idx n : Nat} {F : Option (Bool × MS)} {K : (Bool × MS) → Option ρ} (As : List Value) {st0 : List Value} (hM : ∀ r, F = some r → jM l y (ws_ y bytes nLc (some .boolean)) frc loc (.ref (gh G) :: As) (mWo G) (mnx G) (mK G) μ (jUz r) (gA G) (gn G))
    (hl : GoodIn lw_all (wsV RX6 idx RX6 y (ws_ y bytes nLc (some .boolean)))) (hy : y.cls = RX6 ∧ y.cls ≠ "java/lang/invoke/MethodHandle" ∧ y.cls ≠ "java/lang/invoke/VarHandle" ∧ (parseMethodDescriptor y.desc).map (fun d => d.parameters.length) = some n) (hlen : As.length = n) (hst : st0 = (As.reverse ++ .ref (gh G) :: st)) (hd : decode cc pc = .ok (.invokevirtual idx, 3)) (hr : frc + 1 ≤ fr ∧ 8 + (nLc + 11) + loc ≤ lo) (hw : (st.map fun v => v.category).sum ≤ 8)
    (kk : ∀ r, jj p l e R s m args below meth c (gA G) NX Q (mWo G) (mnx G) nL r.2 (pc + 3) lv (.int (bI r.1) :: st) (K r = some res)) : jj p l e R s m args below meth c (gA G) NX Q (mWo G) (mnx G) nL μ pc lv st0 (F.bind K = some res) := by
  subst hst
  cases hF : F with
  | none => exact fun hz => by cases hz
  | some r =>
    subst hF
    refine jj_run (σ1 := r.2) (v := some (.int (bI r.1))) (Ψ1 := jUz r) (idx := idx) (a1 := (Value.ref (gh G) :: As).toArray) hk (Nat.le_refl _) (fun o σ' h => ⟨by have h1 := h.1; cases h1; rfl, h.2⟩) (fun H locs ls hW hn hS hlv hle => ?_) (kk r)
    exact va_runV (As := As) (rest := st) hk.1 (hM r rfl) (cwV n hk.1.2.2.2.2 hl rfl rfl rfl hy (by rw [hk.2.1]; exact hr)) ⟨mblind G, va_recv hK.1 hW.1 hK.2 (q0 := 0) rfl, fun U hU hWm => ⟨rfl, by rw [hU]; exact hW, by rw [hU]; exact hn, mK_A G _ _ hWm hK⟩⟩ rfl hlen hlv.1 rfl (lv_room hw) hd (by rw [hk.2.1]; show _ ∧ _; have : gn G ≤ NX := hle; constructor <;> (show _ ≤ _; dsimp only [mnx]; omega))
theorem jm_VV (hk : jk p R s m args meth c NX cc nL RX6 fr lo ret) (hK : mK G s) {y : MethodName} {bytes : ByteArray} {nLc frc loc idx n : Nat} {F : Option MS} {K : MS → Option ρ} (As : List Value) {st0 : List Value} (hM : ∀ r, F = some r → jM l y (ws_ y bytes nLc none) frc loc (.ref (gh G) :: As) (mWo G) (mnx G) (mK G) μ (jV r) (gA G) (gn G))
    (hl : GoodIn lw_all (wsV RX6 idx RX6 y (ws_ y bytes nLc none))) (hy : y.cls = RX6 ∧ y.cls ≠ "java/lang/invoke/MethodHandle" ∧ y.cls ≠ "java/lang/invoke/VarHandle" ∧ (parseMethodDescriptor y.desc).map (fun d => d.parameters.length) = some n) (hlen : As.length = n) (hst : st0 = (As.reverse ++ .ref (gh G) :: st)) (hd : decode cc pc = .ok (.invokevirtual idx, 3)) (hr : frc + 1 ≤ fr ∧ 8 + (nLc + 11) + loc ≤ lo) (hw : (st.map fun v => v.category).sum ≤ 8)
    (kk : ∀ r, jj p l e R s m args below meth c (gA G) NX Q (mWo G) (mnx G) nL r (pc + 3) lv st (K r = some res)) : jj p l e R s m args below meth c (gA G) NX Q (mWo G) (mnx G) nL μ pc lv st0 (F.bind K = some res) := by
  subst hst
  cases hF : F with
  | none => exact fun hz => by cases hz
  | some r =>
    subst hF
    refine jj_run (σ1 := r) (v := none) (Ψ1 := jV r) (idx := idx) (a1 := (Value.ref (gh G) :: As).toArray) hk (Nat.le_refl _) (fun o σ' h => ⟨by have h1 := h.1; cases h1; rfl, h.2⟩) (fun H locs ls hW hn hS hlv hle => ?_) (kk r)
    exact va_runV (As := As) (rest := st) hk.1 (hM r rfl) (cwV n hk.1.2.2.2.2 hl rfl rfl rfl hy (by rw [hk.2.1]; exact hr)) ⟨mblind G, va_recv hK.1 hW.1 hK.2 (q0 := 0) rfl, fun U hU hWm => ⟨rfl, by rw [hU]; exact hW, by rw [hU]; exact hn, mK_A G _ _ hWm hK⟩⟩ rfl hlen hlv.1 rfl (lv_room hw) hd (by rw [hk.2.1]; show _ ∧ _; have : gn G ≤ NX := hle; constructor <;> (show _ ≤ _; dsimp only [mnx]; omega))
theorem jm_VRi (hk : jk p R s m args meth c NX cc nL RX6 fr lo ret) (hK : mK G s) {y : MethodName} {bytes : ByteArray} {nLc frc loc idx n : Nat} {F : Option Int32} {K : Int32 → Option ρ} (As : List Value) {st0 : List Value} (hM : ∀ r, F = some r → jM l y (ws_ y bytes nLc (some .int)) frc loc (.ref (gh G) :: As) (mWo G) (mnx G) (mK G) μ (jR μ r) (gA G) (gn G))
    (hl : GoodIn lw_all (wsV RX6 idx RX6 y (ws_ y bytes nLc (some .int)))) (hy : y.cls = RX6 ∧ y.cls ≠ "java/lang/invoke/MethodHandle" ∧ y.cls ≠ "java/lang/invoke/VarHandle" ∧ (parseMethodDescriptor y.desc).map (fun d => d.parameters.length) = some n) (hlen : As.length = n) (hst : st0 = (As.reverse ++ .ref (gh G) :: st)) (hd : decode cc pc = .ok (.invokevirtual idx, 3)) (hr : frc + 1 ≤ fr ∧ 8 + (nLc + 11) + loc ≤ lo) (hw : (st.map fun v => v.category).sum ≤ 8)
    (kk : ∀ r, jj p l e R s m args below meth c (gA G) NX Q (mWo G) (mnx G) nL μ (pc + 3) lv (.int r :: st) (K r = some res)) : jj p l e R s m args below meth c (gA G) NX Q (mWo G) (mnx G) nL μ pc lv st0 (F.bind K = some res) := by
  subst hst
  cases hF : F with
  | none => exact fun hz => by cases hz
  | some r =>
    subst hF
    refine jj_run (σ1 := μ) (v := some (.int r)) (Ψ1 := jR μ r) (idx := idx) (a1 := (Value.ref (gh G) :: As).toArray) hk (Nat.le_refl _) (fun o σ' h => ⟨by have h1 := h.1; cases h1; rfl, h.2⟩) (fun H locs ls hW hn hS hlv hle => ?_) (kk r)
    exact va_runV (As := As) (rest := st) hk.1 (hM r rfl) (cwV n hk.1.2.2.2.2 hl rfl rfl rfl hy (by rw [hk.2.1]; exact hr)) ⟨mblind G, va_recv hK.1 hW.1 hK.2 (q0 := 0) rfl, fun U hU hWm => ⟨rfl, by rw [hU]; exact hW, by rw [hU]; exact hn, mK_A G _ _ hWm hK⟩⟩ rfl hlen hlv.1 rfl (lv_room hw) hd (by rw [hk.2.1]; show _ ∧ _; have : gn G ≤ NX := hle; constructor <;> (show _ ≤ _; dsimp only [mnx]; omega))
theorem jm_VRz (hk : jk p R s m args meth c NX cc nL RX6 fr lo ret) (hK : mK G s) {y : MethodName} {bytes : ByteArray} {nLc frc loc idx n : Nat} {F : Option Bool} {K : Bool → Option ρ} (As : List Value) {st0 : List Value} (hM : ∀ r, F = some r → jM l y (ws_ y bytes nLc (some .boolean)) frc loc (.ref (gh G) :: As) (mWo G) (mnx G) (mK G) μ (jRz μ r) (gA G) (gn G))
    (hl : GoodIn lw_all (wsV RX6 idx RX6 y (ws_ y bytes nLc (some .boolean)))) (hy : y.cls = RX6 ∧ y.cls ≠ "java/lang/invoke/MethodHandle" ∧ y.cls ≠ "java/lang/invoke/VarHandle" ∧ (parseMethodDescriptor y.desc).map (fun d => d.parameters.length) = some n) (hlen : As.length = n) (hst : st0 = (As.reverse ++ .ref (gh G) :: st)) (hd : decode cc pc = .ok (.invokevirtual idx, 3)) (hr : frc + 1 ≤ fr ∧ 8 + (nLc + 11) + loc ≤ lo) (hw : (st.map fun v => v.category).sum ≤ 8)
    (kk : ∀ r, jj p l e R s m args below meth c (gA G) NX Q (mWo G) (mnx G) nL μ (pc + 3) lv (.int (bI r) :: st) (K r = some res)) : jj p l e R s m args below meth c (gA G) NX Q (mWo G) (mnx G) nL μ pc lv st0 (F.bind K = some res) := by
  subst hst
  cases hF : F with
  | none => exact fun hz => by cases hz
  | some r =>
    subst hF
    refine jj_run (σ1 := μ) (v := some (.int (bI r))) (Ψ1 := jRz μ r) (idx := idx) (a1 := (Value.ref (gh G) :: As).toArray) hk (Nat.le_refl _) (fun o σ' h => ⟨by have h1 := h.1; cases h1; rfl, h.2⟩) (fun H locs ls hW hn hS hlv hle => ?_) (kk r)
    exact va_runV (As := As) (rest := st) hk.1 (hM r rfl) (cwV n hk.1.2.2.2.2 hl rfl rfl rfl hy (by rw [hk.2.1]; exact hr)) ⟨mblind G, va_recv hK.1 hW.1 hK.2 (q0 := 0) rfl, fun U hU hWm => ⟨rfl, by rw [hU]; exact hW, by rw [hU]; exact hn, mK_A G _ _ hWm hK⟩⟩ rfl hlen hlv.1 rfl (lv_room hw) hd (by rw [hk.2.1]; show _ ∧ _; have : gn G ≤ NX := hle; constructor <;> (show _ ≤ _; dsimp only [mnx]; omega))
theorem jm_VRl (hk : jk p R s m args meth c NX cc nL RX6 fr lo ret) (hK : mK G s) {y : MethodName} {bytes : ByteArray} {nLc frc loc idx n : Nat} {F : Option Int64} {K : Int64 → Option ρ} (As : List Value) {st0 : List Value} (hM : ∀ r, F = some r → jM l y (ws_ y bytes nLc (some .long)) frc loc (.ref (gh G) :: As) (mWo G) (mnx G) (mK G) μ (jRl μ r) (gA G) (gn G))
    (hl : GoodIn lw_all (wsV RX6 idx RX6 y (ws_ y bytes nLc (some .long)))) (hy : y.cls = RX6 ∧ y.cls ≠ "java/lang/invoke/MethodHandle" ∧ y.cls ≠ "java/lang/invoke/VarHandle" ∧ (parseMethodDescriptor y.desc).map (fun d => d.parameters.length) = some n) (hlen : As.length = n) (hst : st0 = (As.reverse ++ .ref (gh G) :: st)) (hd : decode cc pc = .ok (.invokevirtual idx, 3)) (hr : frc + 1 ≤ fr ∧ 8 + (nLc + 11) + loc ≤ lo) (hw : (st.map fun v => v.category).sum ≤ 8)
    (kk : ∀ r, jj p l e R s m args below meth c (gA G) NX Q (mWo G) (mnx G) nL μ (pc + 3) lv (.long r :: st) (K r = some res)) : jj p l e R s m args below meth c (gA G) NX Q (mWo G) (mnx G) nL μ pc lv st0 (F.bind K = some res) := by
  subst hst
  cases hF : F with
  | none => exact fun hz => by cases hz
  | some r =>
    subst hF
    refine jj_run (σ1 := μ) (v := some (.long r)) (Ψ1 := jRl μ r) (idx := idx) (a1 := (Value.ref (gh G) :: As).toArray) hk (Nat.le_refl _) (fun o σ' h => ⟨by have h1 := h.1; cases h1; rfl, h.2⟩) (fun H locs ls hW hn hS hlv hle => ?_) (kk r)
    exact va_runV (As := As) (rest := st) hk.1 (hM r rfl) (cwV n hk.1.2.2.2.2 hl rfl rfl rfl hy (by rw [hk.2.1]; exact hr)) ⟨mblind G, va_recv hK.1 hW.1 hK.2 (q0 := 0) rfl, fun U hU hWm => ⟨rfl, by rw [hU]; exact hW, by rw [hU]; exact hn, mK_A G _ _ hWm hK⟩⟩ rfl hlen hlv.1 rfl (lv_room hw) hd (by rw [hk.2.1]; show _ ∧ _; have : gn G ≤ NX := hle; constructor <;> (show _ ≤ _; dsimp only [mnx]; omega))
theorem jm_SUi (hk : jk p R s m args meth c NX cc nL RX6 fr lo ret) (hK : mK G s) {y : MethodName} {bytes : ByteArray} {nLc frc loc idx n : Nat} {F : Option (Int32 × MS)} {K : (Int32 × MS) → Option ρ} (As : List Value) {st0 : List Value} (hM : ∀ r, F = some r → jM l y (ws_ y bytes nLc (some .int)) frc loc (As) (mWo G) (mnx G) (mK G) μ (jU r) (gA G) (gn G))
    (hl : GoodIn lw_all (va_wsS RX6 idx y (ws_ y bytes nLc (some .int)))) (hy : y.cls ≠ "java/lang/invoke/MethodHandle" ∧ y.cls ≠ "java/lang/invoke/VarHandle" ∧ (parseMethodDescriptor y.desc).map (fun d => d.parameters.length) = some n) (hlen : As.length = n) (hst : st0 = (As.reverse ++ st)) (hd : decode cc pc = .ok (.invokestatic idx, 3)) (hr : frc + 1 ≤ fr ∧ 8 + (nLc + 11) + loc ≤ lo) (hw : (st.map fun v => v.category).sum ≤ 8)
    (kk : ∀ r, jj p l e R s m args below meth c (gA G) NX Q (mWo G) (mnx G) nL r.2 (pc + 3) lv (.int r.1 :: st) (K r = some res)) : jj p l e R s m args below meth c (gA G) NX Q (mWo G) (mnx G) nL μ pc lv st0 (F.bind K = some res) := by
  subst hst
  cases hF : F with
  | none => exact fun hz => by cases hz
  | some r =>
    subst hF
    refine jj_run (σ1 := r.2) (v := some (.int r.1)) (Ψ1 := jU r) (idx := idx) (a1 := As.toArray) hk (Nat.le_refl _) (fun o σ' h => ⟨by have h1 := h.1; cases h1; rfl, h.2⟩) (fun H locs ls hW hn hS hlv hle => ?_) (kk r)
    exact va_runS (As := As) (rest := st) hk.1 (hM r rfl) (va_cwS n hk.1.2.2.2.2 hl rfl rfl rfl hy (by rw [hk.2.1]; exact hr)) ⟨mblind G, fun U hU hWm => ⟨rfl, by rw [hU]; exact hW, by rw [hU]; exact hn, mK_A G _ _ hWm hK⟩⟩ rfl hlen hlv.1 rfl (lv_room hw) hd (by rw [hk.2.1]; show _ ∧ _; have : gn G ≤ NX := hle; constructor <;> (show _ ≤ _; dsimp only [mnx]; omega))
theorem jm_SUz (hk : jk p R s m args meth c NX cc nL RX6 fr lo ret) (hK : mK G s) {y : MethodName} {bytes : ByteArray} {nLc frc loc idx n : Nat} {F : Option (Bool × MS)} {K : (Bool × MS) → Option ρ} (As : List Value) {st0 : List Value} (hM : ∀ r, F = some r → jM l y (ws_ y bytes nLc (some .boolean)) frc loc (As) (mWo G) (mnx G) (mK G) μ (jUz r) (gA G) (gn G))
    (hl : GoodIn lw_all (va_wsS RX6 idx y (ws_ y bytes nLc (some .boolean)))) (hy : y.cls ≠ "java/lang/invoke/MethodHandle" ∧ y.cls ≠ "java/lang/invoke/VarHandle" ∧ (parseMethodDescriptor y.desc).map (fun d => d.parameters.length) = some n) (hlen : As.length = n) (hst : st0 = (As.reverse ++ st)) (hd : decode cc pc = .ok (.invokestatic idx, 3)) (hr : frc + 1 ≤ fr ∧ 8 + (nLc + 11) + loc ≤ lo) (hw : (st.map fun v => v.category).sum ≤ 8)
    (kk : ∀ r, jj p l e R s m args below meth c (gA G) NX Q (mWo G) (mnx G) nL r.2 (pc + 3) lv (.int (bI r.1) :: st) (K r = some res)) : jj p l e R s m args below meth c (gA G) NX Q (mWo G) (mnx G) nL μ pc lv st0 (F.bind K = some res) := by
  subst hst
  cases hF : F with
  | none => exact fun hz => by cases hz
  | some r =>
    subst hF
    refine jj_run (σ1 := r.2) (v := some (.int (bI r.1))) (Ψ1 := jUz r) (idx := idx) (a1 := As.toArray) hk (Nat.le_refl _) (fun o σ' h => ⟨by have h1 := h.1; cases h1; rfl, h.2⟩) (fun H locs ls hW hn hS hlv hle => ?_) (kk r)
    exact va_runS (As := As) (rest := st) hk.1 (hM r rfl) (va_cwS n hk.1.2.2.2.2 hl rfl rfl rfl hy (by rw [hk.2.1]; exact hr)) ⟨mblind G, fun U hU hWm => ⟨rfl, by rw [hU]; exact hW, by rw [hU]; exact hn, mK_A G _ _ hWm hK⟩⟩ rfl hlen hlv.1 rfl (lv_room hw) hd (by rw [hk.2.1]; show _ ∧ _; have : gn G ≤ NX := hle; constructor <;> (show _ ≤ _; dsimp only [mnx]; omega))
theorem jm_SV (hk : jk p R s m args meth c NX cc nL RX6 fr lo ret) (hK : mK G s) {y : MethodName} {bytes : ByteArray} {nLc frc loc idx n : Nat} {F : Option MS} {K : MS → Option ρ} (As : List Value) {st0 : List Value} (hM : ∀ r, F = some r → jM l y (ws_ y bytes nLc none) frc loc (As) (mWo G) (mnx G) (mK G) μ (jV r) (gA G) (gn G))
    (hl : GoodIn lw_all (va_wsS RX6 idx y (ws_ y bytes nLc none))) (hy : y.cls ≠ "java/lang/invoke/MethodHandle" ∧ y.cls ≠ "java/lang/invoke/VarHandle" ∧ (parseMethodDescriptor y.desc).map (fun d => d.parameters.length) = some n) (hlen : As.length = n) (hst : st0 = (As.reverse ++ st)) (hd : decode cc pc = .ok (.invokestatic idx, 3)) (hr : frc + 1 ≤ fr ∧ 8 + (nLc + 11) + loc ≤ lo) (hw : (st.map fun v => v.category).sum ≤ 8)
    (kk : ∀ r, jj p l e R s m args below meth c (gA G) NX Q (mWo G) (mnx G) nL r (pc + 3) lv st (K r = some res)) : jj p l e R s m args below meth c (gA G) NX Q (mWo G) (mnx G) nL μ pc lv st0 (F.bind K = some res) := by
  subst hst
  cases hF : F with
  | none => exact fun hz => by cases hz
  | some r =>
    subst hF
    refine jj_run (σ1 := r) (v := none) (Ψ1 := jV r) (idx := idx) (a1 := As.toArray) hk (Nat.le_refl _) (fun o σ' h => ⟨by have h1 := h.1; cases h1; rfl, h.2⟩) (fun H locs ls hW hn hS hlv hle => ?_) (kk r)
    exact va_runS (As := As) (rest := st) hk.1 (hM r rfl) (va_cwS n hk.1.2.2.2.2 hl rfl rfl rfl hy (by rw [hk.2.1]; exact hr)) ⟨mblind G, fun U hU hWm => ⟨rfl, by rw [hU]; exact hW, by rw [hU]; exact hn, mK_A G _ _ hWm hK⟩⟩ rfl hlen hlv.1 rfl (lv_room hw) hd (by rw [hk.2.1]; show _ ∧ _; have : gn G ≤ NX := hle; constructor <;> (show _ ≤ _; dsimp only [mnx]; omega))
theorem jm_SRi (hk : jk p R s m args meth c NX cc nL RX6 fr lo ret) (hK : mK G s) {y : MethodName} {bytes : ByteArray} {nLc frc loc idx n : Nat} {F : Option Int32} {K : Int32 → Option ρ} (As : List Value) {st0 : List Value} (hM : ∀ r, F = some r → jM l y (ws_ y bytes nLc (some .int)) frc loc (As) (mWo G) (mnx G) (mK G) μ (jR μ r) (gA G) (gn G))
    (hl : GoodIn lw_all (va_wsS RX6 idx y (ws_ y bytes nLc (some .int)))) (hy : y.cls ≠ "java/lang/invoke/MethodHandle" ∧ y.cls ≠ "java/lang/invoke/VarHandle" ∧ (parseMethodDescriptor y.desc).map (fun d => d.parameters.length) = some n) (hlen : As.length = n) (hst : st0 = (As.reverse ++ st)) (hd : decode cc pc = .ok (.invokestatic idx, 3)) (hr : frc + 1 ≤ fr ∧ 8 + (nLc + 11) + loc ≤ lo) (hw : (st.map fun v => v.category).sum ≤ 8)
    (kk : ∀ r, jj p l e R s m args below meth c (gA G) NX Q (mWo G) (mnx G) nL μ (pc + 3) lv (.int r :: st) (K r = some res)) : jj p l e R s m args below meth c (gA G) NX Q (mWo G) (mnx G) nL μ pc lv st0 (F.bind K = some res) := by
  subst hst
  cases hF : F with
  | none => exact fun hz => by cases hz
  | some r =>
    subst hF
    refine jj_run (σ1 := μ) (v := some (.int r)) (Ψ1 := jR μ r) (idx := idx) (a1 := As.toArray) hk (Nat.le_refl _) (fun o σ' h => ⟨by have h1 := h.1; cases h1; rfl, h.2⟩) (fun H locs ls hW hn hS hlv hle => ?_) (kk r)
    exact va_runS (As := As) (rest := st) hk.1 (hM r rfl) (va_cwS n hk.1.2.2.2.2 hl rfl rfl rfl hy (by rw [hk.2.1]; exact hr)) ⟨mblind G, fun U hU hWm => ⟨rfl, by rw [hU]; exact hW, by rw [hU]; exact hn, mK_A G _ _ hWm hK⟩⟩ rfl hlen hlv.1 rfl (lv_room hw) hd (by rw [hk.2.1]; show _ ∧ _; have : gn G ≤ NX := hle; constructor <;> (show _ ≤ _; dsimp only [mnx]; omega))
theorem jm_SRz (hk : jk p R s m args meth c NX cc nL RX6 fr lo ret) (hK : mK G s) {y : MethodName} {bytes : ByteArray} {nLc frc loc idx n : Nat} {F : Option Bool} {K : Bool → Option ρ} (As : List Value) {st0 : List Value} (hM : ∀ r, F = some r → jM l y (ws_ y bytes nLc (some .boolean)) frc loc (As) (mWo G) (mnx G) (mK G) μ (jRz μ r) (gA G) (gn G))
    (hl : GoodIn lw_all (va_wsS RX6 idx y (ws_ y bytes nLc (some .boolean)))) (hy : y.cls ≠ "java/lang/invoke/MethodHandle" ∧ y.cls ≠ "java/lang/invoke/VarHandle" ∧ (parseMethodDescriptor y.desc).map (fun d => d.parameters.length) = some n) (hlen : As.length = n) (hst : st0 = (As.reverse ++ st)) (hd : decode cc pc = .ok (.invokestatic idx, 3)) (hr : frc + 1 ≤ fr ∧ 8 + (nLc + 11) + loc ≤ lo) (hw : (st.map fun v => v.category).sum ≤ 8)
    (kk : ∀ r, jj p l e R s m args below meth c (gA G) NX Q (mWo G) (mnx G) nL μ (pc + 3) lv (.int (bI r) :: st) (K r = some res)) : jj p l e R s m args below meth c (gA G) NX Q (mWo G) (mnx G) nL μ pc lv st0 (F.bind K = some res) := by
  subst hst
  cases hF : F with
  | none => exact fun hz => by cases hz
  | some r =>
    subst hF
    refine jj_run (σ1 := μ) (v := some (.int (bI r))) (Ψ1 := jRz μ r) (idx := idx) (a1 := As.toArray) hk (Nat.le_refl _) (fun o σ' h => ⟨by have h1 := h.1; cases h1; rfl, h.2⟩) (fun H locs ls hW hn hS hlv hle => ?_) (kk r)
    exact va_runS (As := As) (rest := st) hk.1 (hM r rfl) (va_cwS n hk.1.2.2.2.2 hl rfl rfl rfl hy (by rw [hk.2.1]; exact hr)) ⟨mblind G, fun U hU hWm => ⟨rfl, by rw [hU]; exact hW, by rw [hU]; exact hn, mK_A G _ _ hWm hK⟩⟩ rfl hlen hlv.1 rfl (lv_room hw) hd (by rw [hk.2.1]; show _ ∧ _; have : gn G ≤ NX := hle; constructor <;> (show _ ≤ _; dsimp only [mnx]; omega))
theorem jm_SRl (hk : jk p R s m args meth c NX cc nL RX6 fr lo ret) (hK : mK G s) {y : MethodName} {bytes : ByteArray} {nLc frc loc idx n : Nat} {F : Option Int64} {K : Int64 → Option ρ} (As : List Value) {st0 : List Value} (hM : ∀ r, F = some r → jM l y (ws_ y bytes nLc (some .long)) frc loc (As) (mWo G) (mnx G) (mK G) μ (jRl μ r) (gA G) (gn G))
    (hl : GoodIn lw_all (va_wsS RX6 idx y (ws_ y bytes nLc (some .long)))) (hy : y.cls ≠ "java/lang/invoke/MethodHandle" ∧ y.cls ≠ "java/lang/invoke/VarHandle" ∧ (parseMethodDescriptor y.desc).map (fun d => d.parameters.length) = some n) (hlen : As.length = n) (hst : st0 = (As.reverse ++ st)) (hd : decode cc pc = .ok (.invokestatic idx, 3)) (hr : frc + 1 ≤ fr ∧ 8 + (nLc + 11) + loc ≤ lo) (hw : (st.map fun v => v.category).sum ≤ 8)
    (kk : ∀ r, jj p l e R s m args below meth c (gA G) NX Q (mWo G) (mnx G) nL μ (pc + 3) lv (.long r :: st) (K r = some res)) : jj p l e R s m args below meth c (gA G) NX Q (mWo G) (mnx G) nL μ pc lv st0 (F.bind K = some res) := by
  subst hst
  cases hF : F with
  | none => exact fun hz => by cases hz
  | some r =>
    subst hF
    refine jj_run (σ1 := μ) (v := some (.long r)) (Ψ1 := jRl μ r) (idx := idx) (a1 := As.toArray) hk (Nat.le_refl _) (fun o σ' h => ⟨by have h1 := h.1; cases h1; rfl, h.2⟩) (fun H locs ls hW hn hS hlv hle => ?_) (kk r)
    exact va_runS (As := As) (rest := st) hk.1 (hM r rfl) (va_cwS n hk.1.2.2.2.2 hl rfl rfl rfl hy (by rw [hk.2.1]; exact hr)) ⟨mblind G, fun U hU hWm => ⟨rfl, by rw [hU]; exact hW, by rw [hU]; exact hn, mK_A G _ _ hWm hK⟩⟩ rfl hlen hlv.1 rfl (lv_room hw) hd (by rw [hk.2.1]; show _ ∧ _; have : gn G ≤ NX := hle; constructor <;> (show _ ≤ _; dsimp only [mnx]; omega))
theorem jm_retRi (hk : jk p R s m args meth c (gn G) cc nL own fr lo (some .int)) {x : Int32} {res : Int32} (hd : decode cc pc = .ok (.ireturn, 1)) : jj p l e R s m args below meth c (gA G) (gn G) (jZ below args s (gA G) (gn G) (jR μ res) (mWo G) (mnx G)) (mWo G) (mnx G) nL μ pc lv [.int x] (some x = some res) :=
  jj_endI hk rfl hd (vp_nar_int x) (fun hz => by cases hz; exact ⟨⟨rfl, rfl⟩, rfl⟩)
theorem jm_retRz (hk : jk p R s m args meth c (gn G) cc nL own fr lo (some .boolean)) {b : Bool} {res : Bool} (hd : decode cc pc = .ok (.ireturn, 1)) : jj p l e R s m args below meth c (gA G) (gn G) (jZ below args s (gA G) (gn G) (jRz μ res) (mWo G) (mnx G)) (mWo G) (mnx G) nL μ pc lv [.int (bI b)] (some b = some res) :=
  jj_endI hk rfl hd (narrow_bI b) (fun hz => by cases hz; exact ⟨⟨rfl, rfl⟩, rfl⟩)
theorem jm_retRl (hk : jk p R s m args meth c (gn G) cc nL own fr lo (some .long)) {x : Int64} {res : Int64} (hd : decode cc pc = .ok (.lreturn, 1)) : jj p l e R s m args below meth c (gA G) (gn G) (jZ below args s (gA G) (gn G) (jRl μ res) (mWo G) (mnx G)) (mWo G) (mnx G) nL μ pc lv [.long x] (some x = some res) :=
  jj_endL hk rfl hd (fun hz => by cases hz; exact ⟨⟨rfl, rfl⟩, rfl⟩)
theorem jm_retUi (hk : jk p R s m args meth c (gn G) cc nL own fr lo (some .int)) {x : Int32} {res : (Int32 × MS)} (hd : decode cc pc = .ok (.ireturn, 1)) : jj p l e R s m args below meth c (gA G) (gn G) (jZ below args s (gA G) (gn G) (jU res) (mWo G) (mnx G)) (mWo G) (mnx G) nL μ pc lv [.int x] (some (x, μ) = some res) :=
  jj_endI hk rfl hd (vp_nar_int x) (fun hz => by cases hz; exact ⟨⟨rfl, rfl⟩, rfl⟩)
theorem jm_retUz (hk : jk p R s m args meth c (gn G) cc nL own fr lo (some .boolean)) {b : Bool} {res : (Bool × MS)} (hd : decode cc pc = .ok (.ireturn, 1)) : jj p l e R s m args below meth c (gA G) (gn G) (jZ below args s (gA G) (gn G) (jUz res) (mWo G) (mnx G)) (mWo G) (mnx G) nL μ pc lv [.int (bI b)] (some (b, μ) = some res) :=
  jj_endI hk rfl hd (narrow_bI b) (fun hz => by cases hz; exact ⟨⟨rfl, rfl⟩, rfl⟩)
theorem jm_retV (hk : jk p R s m args meth c (gn G) cc nL own fr lo none) {res : MS} (hd : decode cc pc = .ok (.return_, 1)) : jj p l e R s m args below meth c (gA G) (gn G) (jZ below args s (gA G) (gn G) (jV res) (mWo G) (mnx G)) (mWo G) (mnx G) nL μ pc lv [] (some μ = some res) :=
  jj_endV hk rfl hd (fun hz => by cases hz; exact ⟨⟨rfl, rfl⟩, rfl⟩)
end MR
