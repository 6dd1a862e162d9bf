/-! ARRAYS OF RULES that are made -/
set_option maxRecDepth 100000
def dNewA (d : DS) (n : Int32) : Option DS := if n < 0 ∨ 41 < n.toNatClampNeg then none else some (d.1 ++ [(d.2, .inl (8, n.toNatClampNeg, .inr (.inr (.inr (.inr (fun _ => none))))))], d.2 + 1)
def dRa (d : DS) (a : Nat) : Option (Nat × (Nat → Option Nat)) := match dl d a with
  | some (.inl (8, n, .inr (.inr (.inr (.inr f))))) => some (n, f)
  | _ => none
theorem dRa_spec {d : DS} {a n : Nat} {f : Nat → Option Nat} (h : dRa d a = some (n, f)) : dl d a = some (.inl (8, n, .inr (.inr (.inr (.inr f))))) := by
  unfold dRa at h
  split at h
  · rename_i e; cases h; exact e
  · cases h
def dStR (d : DS) (a : Nat) (i : Int32) (q : Nat) : Option DS := (dRa d a).bind fun x => if ¬ (i < 0 ∨ x.1 ≤ i.toNatClampNeg) ∧ dci d q = some 17 then some (dSet d a (.inl (8, x.1, .inr (.inr (.inr (.inr (va_up x.2 i.toNatClampNeg (some q)))))))) else none
def dCpR (d : DS) (a : Nat) (sp : Int32) (b : Nat) (dp n : Int32) : Option DS := (dRa d a).bind fun x => (dRa d b).bind fun y => if (¬ sp < 0 ∧ ¬ dp < 0 ∧ ¬ n < 0 ∧ sp.toNatClampNeg + n.toNatClampNeg ≤ x.1 ∧ dp.toNatClampNeg + n.toNatClampNeg ≤ y.1) ∧ ∀ i, i < n.toNatClampNeg → (match x.2 (sp.toNatClampNeg + i) with | none => true | some q => decide (dci d q = some 17)) = true then some (dSet d b (.inl (8, y.1, .inr (.inr (.inr (.inr (va_cpy x.2 y.2 sp.toNatClampNeg dp.toNatClampNeg n.toNatClampNeg))))))) else none
section
variable {p : Program} {l : Launch} {e : Env} {R : Room} {s : State} {m : MethodId} {args : Array Value} {below : List Frame} {meth : Method} {c : Code}
variable {NX : Nat} {Q : State → Prop} {nL : Nat} {cc : ByteArray} {fr lo : Nat} {ret : Option FieldType}
variable {pc : Nat} {σ : SS} {lv : List (Nat × Value)} {st : List Value} {G : cG} {d : DS} {KK : State → Prop} {ρ : Type} {res : ρ}
theorem ccs_newA (G : cG) (d : DS) (σ : SS) (n : Nat) (e : dE) : ccs G (d.1 ++ [(d.2, e)], n) σ = ccs G d σ ++ [dT G (d.2, e)] := by
  unfold ccs
  simp [List.map_append, List.append_assoc]
theorem ja_newR (hk : jk p R s m args meth c NX cc nL RX0 fr lo ret) (hH : cH G KK) (hK : KK s) {n : Int32} {K : DS → Option ρ} (hd : decode cc pc = .ok (.anewarray 328, 3)) (kk : ∀ d1, jj p l e R s m args below meth c (hA G) NX Q (cWo G d1) (cnx d1) nL σ (pc + 3) lv (.ref d.2 :: st) (K d1 = some res)) : jj p l e R s m args below meth c (hA G) NX Q (cWo G d) (cnx d) nL σ pc lv (.int n :: st) ((dNewA d n).bind K = some res) := by
  intro hz
  unfold dNewA at hz
  by_cases h : n < 0 ∨ 41 < n.toNatClampNeg
  · rw [if_pos h] at hz; cases hz
  rw [if_neg h] at hz
  obtain ⟨hle, hw⟩ := kk _ hz
  have hle' : d.2 + 1 ≤ NX := hle
  refine ⟨Nat.le_of_succ_le hle', fun H locs ls hW hn hS hl => ?_⟩
  have hn' : H.size = d.2 := hn
  have hs0 : s.heap.size ≤ d.2 := by have h := hS.1; rw [hn] at h; exact h
  have h0 : ¬ n < 0 := fun q => h (Or.inl q)
  have h41 : n.toNatClampNeg ≤ 41 := Nat.not_lt.mp fun q => h (Or.inr q)
  refine W.anew hk.1.1 hk.1.2.1 hk.1.2.2.2.1 (hk.1.2.2.2.2 _ q723) (va_AO.use ((hH.2.1 s hK).2.2 "LeftUndoes$Rule" (by decide))) rfl hd rfl h0 (by omega) ?_ ?_ fun cA kA comp f1 f2 f3 f4 => ?_
  · rw [hk.2.1]; show _ ≤ NX - s.heap.size; dsimp only [cnx]; omega
  · rw [hk.2.1]; show _ ≤ 41 * (NX - s.heap.size); dsimp only [cnx]; omega
  generalize hH1 : H.push ({ cls := cA, slots := Array.replicate n.toNatClampNeg .null, vm := .none } : Cell) = H1
  have hcA : cA = hT G 8 := by
    obtain ⟨-, kA', comp', -, -, -, f9⟩ := (hH.2.1 s hK).1.2 8 (hT G 8, .object "LeftUndoes$Rule") rfl
    exact Option.some.inj (f1.symm.trans f9)
  have z1 : H1.size = d.2 + 1 := by rw [← hH1, Array.size_push, hn']
  have e1 : H1[d.2]? = some (arrV cA n.toNatClampNeg (fun _ => .null)) := by rw [← hn', ← hH1, Array.getElem?_push_size, ← arrV_new]
  have o1 : ∀ q : Nat, q < H.size → H1[q]? = H[q]? := fun q hq => by rw [← hH1, Array.getElem?_push, if_neg (Nat.ne_of_lt hq)]
  have hq : ∀ (k : Nat) (x : Nat × va_E), (ccs G d σ)[k]? = some x → H1[x.1]? = H[x.1]? := fun k x hx => o1 x.1 (hW.1 k x hx).lt
  have hfresh : hA G d.2 := hH.2.2.2.1 H d.2 hW.2.2 (Nat.le_of_eq hn')
  have hgrow : H.size ≤ H1.size := by rw [z1, hn']; exact Nat.le_succ _
  have hw2 := hw H1 locs ls ⟨by
      rw [ccs_newA]
      refine (hW.1.kept hq).app (fun k x hx => ?_)
      have hz1 : k < 1 := (List.getElem?_eq_some_iff.mp hx).1
      rw [show k = 0 by omega] at hx
      cases hx
      show H1[d.2]? = some _
      rw [e1, hcA]
      rfl, by
      rw [ccs_newA]
      exact hW.2.1.push hW.1 hn'.symm hfresh, hH.2.2.1 H H1 hgrow (fun q h _ => o1 q h) hW.2.2⟩ z1 ⟨Nat.le_trans hS.1 hgrow, fun q h1 h2 => (o1 q (Nat.lt_of_lt_of_le h1 hS.1)).trans (hS.2.1 q h1 h2), hS.2.2⟩ hl
  have hw3 := W.widen (k := d.2 + 1 - s.heap.size) (n := 41 * (d.2 + 1 - s.heap.size)) (cells := d.2 - s.heap.size + 1) (slots := 41 * (d.2 - s.heap.size) + n.toNatClampNeg) (by omega) (by omega) hw2
  rw [hn']
  exact hw3
theorem ja_stR (hk : jk p R s m args meth c NX cc nL RX0 fr lo ret) (hH : cH G KK) (hK : KK s) {i : Int32} {a q : Nat} {K : DS → Option ρ} (hd : decode cc pc = .ok (.aastore, 1)) (kk : ∀ d1, jj p l e R s m args below meth c (hA G) NX Q (cWo G d1) (cnx d1) nL σ (pc + 1) lv st (K d1 = some res)) : jj p l e R s m args below meth c (hA G) NX Q (cWo G d) (cnx d) nL σ pc lv (.ref q :: .int i :: .ref a :: st) ((dStR d a i q).bind K = some res) := by
  intro hz
  unfold dStR at hz
  cases hx : dRa d a with
  | none => rw [hx] at hz; cases hz
  | some x =>
  obtain ⟨n, f⟩ := x
  rw [hx] at hz
  simp only [Option.bind_some] at hz
  by_cases h : ¬ (i < 0 ∨ n ≤ i.toNatClampNeg) ∧ dci d q = some 17
  · rw [if_pos h] at hz
    obtain ⟨ix, hi⟩ := dl_spec (dRa_spec hx)
    obtain ⟨fs, he⟩ := dci_spec h.2
    obtain ⟨iq, hiq⟩ := ccs_dl (G := G) (σ := σ) he
    have hat : (ccs G d σ)[69 + ix]? = some (dT G (a, .inl (8, n, .inr (.inr (.inr (.inr f)))))) := by rw [ccs_D, hi]; rfl
    exact cw_stepD (d' := dSet d a (.inl (8, n, .inr (.inr (.inr (.inr (va_up f i.toNatClampNeg (some q)))))))) hH rfl (kk _) (fun H locs ls hP hD hS hl go => va_astq hk.1.1 hk.1.2.1 (hH.2.1 s hK).1 hP hD hS (69 + ix) 8 (69 + iq) 17 (r := (RX19, TX19, 4)) hat rfl hiq rfl h.1 hd (fun H1 locs1 h1 h2 h3 => go H1 locs1 (by rw [ccs_dset hD hi]; exact h1) (by rw [ccs_dset hD hi]; exact h2) h3)) hz
  · rw [if_neg h] at hz; cases hz
theorem ja_cpR (hk : jk p R s m args meth c NX cc nL RX0 fr lo ret) (hH : cH G KK) (hK : KK s) {a b : Nat} {sp dp n : Int32} {K : DS → Option ρ} (hd : decode cc pc = .ok (.invokestatic 337, 3)) (hr : 1 ≤ fr ∧ 30 ≤ lo) (hw : (st.map fun v => v.category).sum ≤ 8) (kk : ∀ d1, jj p l e R s m args below meth c (hA G) NX Q (cWo G d1) (cnx d1) nL σ (pc + 3) lv st (K d1 = some res)) : jj p l e R s m args below meth c (hA G) NX Q (cWo G d) (cnx d) nL σ pc lv (.int n :: .int dp :: .ref b :: .int sp :: .ref a :: st) ((dCpR d a sp b dp n).bind K = some res) := by
  intro hz
  unfold dCpR at hz
  cases hx : dRa d a with
  | none => rw [hx] at hz; cases hz
  | some x =>
  obtain ⟨n0, f⟩ := x
  rw [hx] at hz
  simp only [Option.bind_some] at hz
  cases hy : dRa d b with
  | none => rw [hy] at hz; cases hz
  | some y =>
  obtain ⟨n1, g⟩ := y
  rw [hy] at hz
  simp only [Option.bind_some] at hz
  split at hz
  · rename_i h
    obtain ⟨ia, hia⟩ := dl_spec (dRa_spec hx)
    obtain ⟨ib, hib⟩ := dl_spec (dRa_spec hy)
    have hata : (ccs G d σ)[69 + ia]? = some (dT G (a, .inl (8, n0, .inr (.inr (.inr (.inr f)))))) := by rw [ccs_D, hia]; rfl
    have hatb : (ccs G d σ)[69 + ib]? = some (dT G (b, .inl (8, n1, .inr (.inr (.inr (.inr g)))))) := by rw [ccs_D, hib]; rfl
    refine cw_stepD (d' := dSet d b (.inl (8, n1, .inr (.inr (.inr (.inr (va_cpy f g sp.toNatClampNeg dp.toNatClampNeg n.toNatClampNeg))))))) hH rfl (kk _) (fun H locs ls hP hD hS hl go => va_copyq (C := RX19) hk.1.1 hk.1.2.1 (by rw [hk.1.2.2.1]; exact hl.1.symm) hk.1.2.2.2.1 (hk.1.2.2.2.2 _ q930) (hk.1.2.2.2.2 _ q932) (hk.1.2.2.2.2 _ q931) (hk.1.2.2.2.2 _ q145) (hH.2.1 s hK).1 hP hD hS (69 + ia) (69 + ib) 8 8 hata hatb rfl rfl h.1.1 h.1.2.1 h.1.2.2.1 h.1.2.2.2.1 h.1.2.2.2.2 (fun i hi y hy9 => ?_) (fun comp c0 h1 h2 => by cases h1.symm.trans h2; exact va_asg _ _) (by rw [hk.2.1]; exact hr.1) ?_ hd (fun H1 locs1 h1 h2 h3 => go H1 locs1 (by rw [ccs_dset hD hib]; exact h1) (by rw [ccs_dset hD hib]; exact h2) h3)) hz
    · have hq := h.2 i hi
      rw [hy9] at hq
      obtain ⟨fs, he⟩ := dci_spec (of_decide_eq_true hq)
      obtain ⟨iq, hiq⟩ := ccs_dl (G := G) (σ := σ) he
      exact va_recv (q := (RX19, TX19, 4)) (hH.2.1 s hK).1 hP rfl hiq
    · rw [hk.2.1]
      have : nativeFrameWords "java/lang/System" "arraycopy" 5 = 7 := by decide
      rw [this]
      show _ ≤ lo
      omega
  · cases hz
end
