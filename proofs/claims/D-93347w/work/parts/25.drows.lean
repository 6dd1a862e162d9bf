/-! SHEETS: made arrays of five sorts (0 int, 1 byte, 2 short, 3 long, 4 boolean) -/
set_option maxRecDepth 100000
def zA (t : Nat) : (Nat → Int32) ⊕ (Nat → Int64) ⊕ (Nat → UInt32) ⊕ (Nat → UInt64) ⊕ (Nat → Option Nat) := if t = 3 then .inr (.inl (fun _ => 0)) else .inl (fun _ => 0)
def dNewS (d : DS) (t : Nat) (n : Int32) : Option DS := if n < 0 ∨ 41 < n.toNatClampNeg then none else some (d.1 ++ [(d.2, .inl (t, n.toNatClampNeg, zA t))], d.2 + 1)
def tNm (t : Nat) : String := (["[I", "[B", "[S", "[J", "[Z"] : List String).getD t ""
/-- the class's name of what lies at q -/
def dNm (d : DS) (q : Nat) : Option String := match dl d q with
  | some (.inr (ci, _)) => if 7 ≤ ci then (jcl[ci]?).map (fun r => r.1) else none
  | some (.inl (t, _)) => if t < 5 then some (tNm t) else none
  | none => none
/-- an array's length -/
def dLen (d : DS) (t q : Nat) : Option Int32 := match dl d q with
  | some (.inl (t', n, _)) => if t' = t ∧ t < 5 then some (Int32.ofNat n) else none
  | _ => none
def dI (d : DS) (t q : Nat) : Option (Nat × (Nat → Int32)) := match dl d q with
  | some (.inl (t', n, .inl f)) => if t' = t then some (n, f) else none
  | _ => none
def dJ (d : DS) (q : Nat) : Option (Nat × (Nat → Int64)) := match dl d q with
  | some (.inl (t', n, .inr (.inl f))) => if t' = 3 then some (n, f) else none
  | _ => none
theorem dI_spec {d : DS} {t q n : Nat} {f : Nat → Int32} (h : dI d t q = some (n, f)) : dl d q = some (.inl (t, n, .inl f)) := by
  unfold dI at h
  split at h
  · rename_i t' n' f' e
    split at h
    · rename_i ht; subst ht; cases h; exact e
    · cases h
  · cases h
theorem dJ_spec {d : DS} {q n : Nat} {f : Nat → Int64} (h : dJ d q = some (n, f)) : dl d q = some (.inl (3, n, .inr (.inl f))) := by
  unfold dJ at h
  split at h
  · rename_i t' n' f' e
    split at h
    · rename_i ht; subst ht; cases h; exact e
    · cases h
  · cases h
def dLd (d : DS) (t q : Nat) (i : Int32) : Option Int32 := (dI d t q).bind fun x => if i < 0 ∨ x.1 ≤ i.toNatClampNeg then none else some (x.2 i.toNatClampNeg)
def dLdJ (d : DS) (q : Nat) (i : Int32) : Option Int64 := (dJ d q).bind fun x => if i < 0 ∨ x.1 ≤ i.toNatClampNeg then none else some (x.2 i.toNatClampNeg)
def nT (t : Nat) (x : Int32) : Int32 := if t = 1 then vp_nar .byte x else if t = 2 then vp_nar .short x else if t = 4 then vp_nar .boolean x else x
def dSt (d : DS) (t q : Nat) (i x : Int32) : Option DS := (dI d t q).bind fun y => if i < 0 ∨ y.1 ≤ i.toNatClampNeg then none else some (dSet d q (.inl (t, y.1, .inl (upd y.2 i.toNatClampNeg (nT t x)))))
def dStJ (d : DS) (q : Nat) (i : Int32) (x : Int64) : Option DS := (dJ d q).bind fun y => if i < 0 ∨ y.1 ≤ i.toNatClampNeg then none else some (dSet d q (.inl (3, y.1, .inr (.inl (vp_updL y.2 i.toNatClampNeg x)))))
/-- whether it is of a class: asked of what may lie on a shelf -/
def dIs (d : DS) (T : String) (o : Option Nat) : Option Bool := match o with
  | none => some false
  | some q => (dNm d q).bind fun C => if cNoS.contains C && cNoT.contains T then some (cYes C T) else none
section
variable {p : Program} {l : Launch} {e : Env} {R : Room} {s : State} {m : MethodId} {args : Array Value} {below : List Frame} {meth : Method} {c : Code}
variable {NX : Nat} {Q : State → Prop} {nL : Nat} {cc : ByteArray} {fr lo : Nat} {ret : Option FieldType}
variable {pc : Nat} {σ : SS} {lv : List (Nat × Value)} {st : List Value} {G : cG} {d : DS} {KK : State → Prop} {ρ : Type} {res : ρ}
theorem dNm_rv (hH : cH G KK) (hK : KK s) {q : Nat} {C : String} (h : dNm d q = some C) : cRv G d σ s q C := by
  intro H hW
  unfold dNm at h
  split at h
  · rename_i ci fs he
    split at h
    · cases hr : jcl[ci]? with
      | none => rw [hr] at h; cases h
      | some r => rw [hr] at h; cases h; exact cRv_D hH hK hr he H hW
    · cases h
  · rename_i t a he
    split at h
    · rename_i ht
      cases h
      obtain ⟨i, hi⟩ := ccs_dl (G := G) (σ := σ) he
      have hc : H[q]? = some (vp_cell (hT G t) a) := hW.1 (69 + i) _ hi
      have hvm0 : (vp_cell (hT G t) a).vm = .none := by obtain ⟨n, f | f | f | f | f⟩ := a <;> rfl
      have hcl0 : (vp_cell (hT G t) a).cls = hT G t := by obtain ⟨n, f | f | f | f | f⟩ := a <;> rfl
      refine ⟨_, hc, by rw [hvm0]; rfl, ?_⟩
      rw [hcl0]
      have hKK := (hH.2.1 s hK).1
      rcases (show t = 0 ∨ t = 1 ∨ t = 2 ∨ t = 3 ∨ t = 4 by omega) with rfl | rfl | rfl | rfl | rfl
      · exact va_nm_int (hKK.2 0 (hT G 0, .int) rfl).2
      · exact va_nm_byte (hKK.2 1 (hT G 1, .byte) rfl).2
      · exact va_nm_short (hKK.2 2 (hT G 2, .short) rfl).2
      · exact va_nm_long (hKK.2 3 (hT G 3, .long) rfl).2
      · exact va_nm_boolean (hKK.2 4 (hT G 4, .boolean) rfl).2
    · cases h
  · cases h
theorem ja_newS0 (hk : jk p R s m args meth c NX cc nL RX0 fr lo ret) (hH : cH G KK) (hK : KK s) {n : Int32} {K : DS → Option ρ} (hd : decode cc pc = .ok (.newarray .int, 2)) (kk : ∀ d1, jj p l e R s m args below meth c (hA G) NX Q (cWo G d1) (cnx d1) nL σ (pc + 2) lv (.ref d.2 :: st) (K d1 = some res)) : jj p l e R s m args below meth c (hA G) NX Q (cWo G d) (cnx d) nL σ pc lv (.int n :: st) ((dNewS d 0 n).bind K = some res) := by
  intro hz
  unfold dNewS at hz
  by_cases h : n < 0 ∨ 41 < n.toNatClampNeg
  · rw [if_pos h] at hz; cases hz
  rw [if_neg h] at hz
  obtain ⟨hle, hw⟩ := kk _ hz
  have hle' : d.2 + 1 ≤ NX := hle
  refine ⟨Nat.le_of_succ_le hle', fun H locs ls hW hn hS hl => ?_⟩
  have hn' : H.size = d.2 := hn
  have hs0 : s.heap.size ≤ d.2 := by have h := hS.1; rw [hn] at h; exact h
  have h0 : ¬ n < 0 := fun q => h (Or.inl q)
  have h41 : n.toNatClampNeg ≤ 41 := Nat.not_lt.mp fun q => h (Or.inr q)
  refine va_newaK (N := n.toNatClampNeg) hk.1.1 hk.1.2.1 (atype := .int) (hk.1.2.2.2.2 _ q359) rfl hd rfl h0 rfl ?_ ?_ ?_ hn' fun H1 cA e1 z1 o1 hAr hNm => ?_
  · have : componentBytes (newarray.typeOf .int) ≤ 8 := by decide
    exact Nat.le_trans (Nat.mul_le_mul h41 this) (by decide)
  · rw [hk.2.1]; show _ ≤ NX - s.heap.size; dsimp only [cnx]; omega
  · rw [hk.2.1]; show _ ≤ 41 * (NX - s.heap.size); dsimp only [cnx]; omega
  have hcA : cA = hT G 0 := Option.some.inj (hNm.symm.trans ((hH.2.1 s hK).1.2 0 (hT G 0, .int) rfl).2)
  have o2 : ∀ q : Nat, q < H.size → H1[q]? = H[q]? := fun q hq => o1 q (by rw [hn'] at hq; exact hq)
  have hfresh : hA G d.2 := hH.2.2.2.1 H d.2 hW.2.2 (Nat.le_of_eq hn')
  have hgrow : H.size ≤ H1.size := by rw [z1, hn']; exact Nat.le_succ _
  have hw2 := hw H1 locs ls ⟨by
      rw [ccs_newA]
      refine (hW.1.kept (fun k x hx => o2 x.1 (hW.1 k x hx).lt)).app (fun k x hx => ?_)
      have hz1 : k < 1 := (List.getElem?_eq_some_iff.mp hx).1
      rw [show k = 0 by omega] at hx
      cases hx
      show H1[d.2]? = some _
      rw [e1, hcA]
      rfl, by
      rw [ccs_newA]
      exact hW.2.1.push hW.1 hn'.symm hfresh, hH.2.2.1 H H1 hgrow (fun q h _ => o2 q h) hW.2.2⟩ z1 ⟨Nat.le_trans hS.1 hgrow, fun q h1 h2 => (o2 q (Nat.lt_of_lt_of_le h1 hS.1)).trans (hS.2.1 q h1 h2), hS.2.2⟩ hl
  exact W.widen (k := d.2 + 1 - s.heap.size) (n := 41 * (d.2 + 1 - s.heap.size)) (cells := d.2 - s.heap.size + 1) (slots := 41 * (d.2 - s.heap.size) + n.toNatClampNeg) (by omega) (by omega) hw2
theorem jd_len0 (hk : jk p R s m args meth c NX cc nL RX0 fr lo ret) (hH : cH G KK) (hK : KK s) {q : Nat} {K : Int32 → Option ρ} (hd : decode cc pc = .ok (.arraylength, 1)) (kk : ∀ v, jj p l e R s m args below meth c (hA G) NX Q (cWo G d) (cnx d) nL σ (pc + 1) lv (.int v :: st) (K v = some res)) : jj p l e R s m args below meth c (hA G) NX Q (cWo G d) (cnx d) nL σ pc lv (.ref q :: st) ((dLen d 0 q).bind K = some res) := by
  intro hz
  unfold dLen at hz
  split at hz
  · rename_i t' n A he
    split at hz
    · rename_i ht
      obtain ⟨ht, -⟩ := ht
      subst ht
      obtain ⟨i, hi⟩ := ccs_dl (G := G) (σ := σ) he
      have hk2 := kk _ hz
      exact ⟨hk2.1, fun H locs ls hW hn hS hl => va_alen hk.1.1 hk.1.2.1 (hH.2.1 s hK).1 hW.1 (69 + i) 0 hi rfl rfl hd (hk2.2 H locs ls hW hn hS hl)⟩
    · cases hz
  · cases hz
theorem jd_ld0 (hk : jk p R s m args meth c NX cc nL RX0 fr lo ret) (hH : cH G KK) (hK : KK s) {q : Nat} {i : Int32} {K : Int32 → Option ρ} (hd : decode cc pc = .ok (.iaload, 1)) (kk : ∀ v, jj p l e R s m args below meth c (hA G) NX Q (cWo G d) (cnx d) nL σ (pc + 1) lv (.int v :: st) (K v = some res)) : jj p l e R s m args below meth c (hA G) NX Q (cWo G d) (cnx d) nL σ pc lv (.int i :: .ref q :: st) ((dLd d 0 q i).bind K = some res) := by
  intro hz
  unfold dLd at hz
  cases hx : dI d 0 q with
  | none => rw [hx] at hz; cases hz
  | some x =>
  obtain ⟨n, f⟩ := x
  rw [hx] at hz
  simp only [Option.bind_some] at hz
  by_cases h : i < 0 ∨ n ≤ i.toNatClampNeg
  · rw [if_pos h] at hz; cases hz
  · rw [if_neg h] at hz
    obtain ⟨ix, hi⟩ := ccs_dl (G := G) (σ := σ) (dI_spec hx)
    have hk2 := kk _ hz
    exact ⟨hk2.1, fun H locs ls hW hn hS hl => va_iald hk.1.1 hk.1.2.1 (hH.2.1 s hK).1 hW.1 (69 + ix) 0 hi rfl h hd (hk2.2 H locs ls hW hn hS hl)⟩
theorem jd_st0 (hk : jk p R s m args meth c NX cc nL RX0 fr lo ret) (hH : cH G KK) (hK : KK s) {q : Nat} {i x : Int32} {K : DS → Option ρ} (hd : decode cc pc = .ok (.iastore, 1)) (kk : ∀ d1, jj p l e R s m args below meth c (hA G) NX Q (cWo G d1) (cnx d1) nL σ (pc + 1) lv st (K d1 = some res)) : jj p l e R s m args below meth c (hA G) NX Q (cWo G d) (cnx d) nL σ pc lv (.int x :: .int i :: .ref q :: st) ((dSt d 0 q i x).bind K = some res) := by
  intro hz
  unfold dSt at hz
  cases hx : dI d 0 q with
  | none => rw [hx] at hz; cases hz
  | some y =>
  obtain ⟨n, f⟩ := y
  rw [hx] at hz
  simp only [Option.bind_some] at hz
  by_cases h : i < 0 ∨ n ≤ i.toNatClampNeg
  · rw [if_pos h] at hz; cases hz
  · rw [if_neg h] at hz
    obtain ⟨ix, hi⟩ := dl_spec (dI_spec hx)
    have hat : (ccs G d σ)[69 + ix]? = some (dT G (q, .inl (0, n, .inl f))) := by rw [ccs_D, hi]; rfl
    exact cw_stepD (d' := dSet d q (.inl (0, n, .inl (upd f i.toNatClampNeg (nT 0 x))))) hH rfl (kk _) (fun H locs ls hP hD hS hl go => va_iast hk.1.1 hk.1.2.1 (hH.2.1 s hK).1 hP hD hS (69 + ix) 0 hat rfl h hd (fun H1 locs1 h1 h2 h3 => go H1 locs1 (by rw [ccs_dset hD hi]; exact h1) (by rw [ccs_dset hD hi]; exact h2) h3)) hz
theorem ja_newS1 (hk : jk p R s m args meth c NX cc nL RX0 fr lo ret) (hH : cH G KK) (hK : KK s) {n : Int32} {K : DS → Option ρ} (hd : decode cc pc = .ok (.newarray .byte, 2)) (kk : ∀ d1, jj p l e R s m args below meth c (hA G) NX Q (cWo G d1) (cnx d1) nL σ (pc + 2) lv (.ref d.2 :: st) (K d1 = some res)) : jj p l e R s m args below meth c (hA G) NX Q (cWo G d) (cnx d) nL σ pc lv (.int n :: st) ((dNewS d 1 n).bind K = some res) := by
  intro hz
  unfold dNewS at hz
  by_cases h : n < 0 ∨ 41 < n.toNatClampNeg
  · rw [if_pos h] at hz; cases hz
  rw [if_neg h] at hz
  obtain ⟨hle, hw⟩ := kk _ hz
  have hle' : d.2 + 1 ≤ NX := hle
  refine ⟨Nat.le_of_succ_le hle', fun H locs ls hW hn hS hl => ?_⟩
  have hn' : H.size = d.2 := hn
  have hs0 : s.heap.size ≤ d.2 := by have h := hS.1; rw [hn] at h; exact h
  have h0 : ¬ n < 0 := fun q => h (Or.inl q)
  have h41 : n.toNatClampNeg ≤ 41 := Nat.not_lt.mp fun q => h (Or.inr q)
  refine va_newaK (N := n.toNatClampNeg) hk.1.1 hk.1.2.1 (atype := .byte) (hk.1.2.2.2.2 _ q395) rfl hd rfl h0 rfl ?_ ?_ ?_ hn' fun H1 cA e1 z1 o1 hAr hNm => ?_
  · have : componentBytes (newarray.typeOf .byte) ≤ 8 := by decide
    exact Nat.le_trans (Nat.mul_le_mul h41 this) (by decide)
  · rw [hk.2.1]; show _ ≤ NX - s.heap.size; dsimp only [cnx]; omega
  · rw [hk.2.1]; show _ ≤ 41 * (NX - s.heap.size); dsimp only [cnx]; omega
  have hcA : cA = hT G 1 := Option.some.inj (hNm.symm.trans ((hH.2.1 s hK).1.2 1 (hT G 1, .byte) rfl).2)
  have o2 : ∀ q : Nat, q < H.size → H1[q]? = H[q]? := fun q hq => o1 q (by rw [hn'] at hq; exact hq)
  have hfresh : hA G d.2 := hH.2.2.2.1 H d.2 hW.2.2 (Nat.le_of_eq hn')
  have hgrow : H.size ≤ H1.size := by rw [z1, hn']; exact Nat.le_succ _
  have hw2 := hw H1 locs ls ⟨by
      rw [ccs_newA]
      refine (hW.1.kept (fun k x hx => o2 x.1 (hW.1 k x hx).lt)).app (fun k x hx => ?_)
      have hz1 : k < 1 := (List.getElem?_eq_some_iff.mp hx).1
      rw [show k = 0 by omega] at hx
      cases hx
      show H1[d.2]? = some _
      rw [e1, hcA]
      rfl, by
      rw [ccs_newA]
      exact hW.2.1.push hW.1 hn'.symm hfresh, hH.2.2.1 H H1 hgrow (fun q h _ => o2 q h) hW.2.2⟩ z1 ⟨Nat.le_trans hS.1 hgrow, fun q h1 h2 => (o2 q (Nat.lt_of_lt_of_le h1 hS.1)).trans (hS.2.1 q h1 h2), hS.2.2⟩ hl
  exact W.widen (k := d.2 + 1 - s.heap.size) (n := 41 * (d.2 + 1 - s.heap.size)) (cells := d.2 - s.heap.size + 1) (slots := 41 * (d.2 - s.heap.size) + n.toNatClampNeg) (by omega) (by omega) hw2
theorem jd_len1 (hk : jk p R s m args meth c NX cc nL RX0 fr lo ret) (hH : cH G KK) (hK : KK s) {q : Nat} {K : Int32 → Option ρ} (hd : decode cc pc = .ok (.arraylength, 1)) (kk : ∀ v, jj p l e R s m args below meth c (hA G) NX Q (cWo G d) (cnx d) nL σ (pc + 1) lv (.int v :: st) (K v = some res)) : jj p l e R s m args below meth c (hA G) NX Q (cWo G d) (cnx d) nL σ pc lv (.ref q :: st) ((dLen d 1 q).bind K = some res) := by
  intro hz
  unfold dLen at hz
  split at hz
  · rename_i t' n A he
    split at hz
    · rename_i ht
      obtain ⟨ht, -⟩ := ht
      subst ht
      obtain ⟨i, hi⟩ := ccs_dl (G := G) (σ := σ) he
      have hk2 := kk _ hz
      exact ⟨hk2.1, fun H locs ls hW hn hS hl => va_alen hk.1.1 hk.1.2.1 (hH.2.1 s hK).1 hW.1 (69 + i) 1 hi rfl rfl hd (hk2.2 H locs ls hW hn hS hl)⟩
    · cases hz
  · cases hz
theorem jd_ld1 (hk : jk p R s m args meth c NX cc nL RX0 fr lo ret) (hH : cH G KK) (hK : KK s) {q : Nat} {i : Int32} {K : Int32 → Option ρ} (hd : decode cc pc = .ok (.baload, 1)) (kk : ∀ v, jj p l e R s m args below meth c (hA G) NX Q (cWo G d) (cnx d) nL σ (pc + 1) lv (.int v :: st) (K v = some res)) : jj p l e R s m args below meth c (hA G) NX Q (cWo G d) (cnx d) nL σ pc lv (.int i :: .ref q :: st) ((dLd d 1 q i).bind K = some res) := by
  intro hz
  unfold dLd at hz
  cases hx : dI d 1 q with
  | none => rw [hx] at hz; cases hz
  | some x =>
  obtain ⟨n, f⟩ := x
  rw [hx] at hz
  simp only [Option.bind_some] at hz
  by_cases h : i < 0 ∨ n ≤ i.toNatClampNeg
  · rw [if_pos h] at hz; cases hz
  · rw [if_neg h] at hz
    obtain ⟨ix, hi⟩ := ccs_dl (G := G) (σ := σ) (dI_spec hx)
    have hk2 := kk _ hz
    exact ⟨hk2.1, fun H locs ls hW hn hS hl => va_bald hk.1.1 hk.1.2.1 (hH.2.1 s hK).1 hW.1 (69 + ix) 1 hi rfl h hd (hk2.2 H locs ls hW hn hS hl)⟩
theorem jd_st1 (hk : jk p R s m args meth c NX cc nL RX0 fr lo ret) (hH : cH G KK) (hK : KK s) {q : Nat} {i x : Int32} {K : DS → Option ρ} (hd : decode cc pc = .ok (.bastore, 1)) (kk : ∀ d1, jj p l e R s m args below meth c (hA G) NX Q (cWo G d1) (cnx d1) nL σ (pc + 1) lv st (K d1 = some res)) : jj p l e R s m args below meth c (hA G) NX Q (cWo G d) (cnx d) nL σ pc lv (.int x :: .int i :: .ref q :: st) ((dSt d 1 q i x).bind K = some res) := by
  intro hz
  unfold dSt at hz
  cases hx : dI d 1 q with
  | none => rw [hx] at hz; cases hz
  | some y =>
  obtain ⟨n, f⟩ := y
  rw [hx] at hz
  simp only [Option.bind_some] at hz
  by_cases h : i < 0 ∨ n ≤ i.toNatClampNeg
  · rw [if_pos h] at hz; cases hz
  · rw [if_neg h] at hz
    obtain ⟨ix, hi⟩ := dl_spec (dI_spec hx)
    have hat : (ccs G d σ)[69 + ix]? = some (dT G (q, .inl (1, n, .inl f))) := by rw [ccs_D, hi]; rfl
    exact cw_stepD (d' := dSet d q (.inl (1, n, .inl (upd f i.toNatClampNeg (nT 1 x))))) hH rfl (kk _) (fun H locs ls hP hD hS hl go => va_bast hk.1.1 hk.1.2.1 (hH.2.1 s hK).1 hP hD hS (69 + ix) 1 hat rfl h hd (fun H1 locs1 h1 h2 h3 => go H1 locs1 (by rw [ccs_dset hD hi]; exact h1) (by rw [ccs_dset hD hi]; exact h2) h3)) hz
theorem ja_newS2 (hk : jk p R s m args meth c NX cc nL RX0 fr lo ret) (hH : cH G KK) (hK : KK s) {n : Int32} {K : DS → Option ρ} (hd : decode cc pc = .ok (.newarray .short, 2)) (kk : ∀ d1, jj p l e R s m args below meth c (hA G) NX Q (cWo G d1) (cnx d1) nL σ (pc + 2) lv (.ref d.2 :: st) (K d1 = some res)) : jj p l e R s m args below meth c (hA G) NX Q (cWo G d) (cnx d) nL σ pc lv (.int n :: st) ((dNewS d 2 n).bind K = some res) := by
  intro hz
  unfold dNewS at hz
  by_cases h : n < 0 ∨ 41 < n.toNatClampNeg
  · rw [if_pos h] at hz; cases hz
  rw [if_neg h] at hz
  obtain ⟨hle, hw⟩ := kk _ hz
  have hle' : d.2 + 1 ≤ NX := hle
  refine ⟨Nat.le_of_succ_le hle', fun H locs ls hW hn hS hl => ?_⟩
  have hn' : H.size = d.2 := hn
  have hs0 : s.heap.size ≤ d.2 := by have h := hS.1; rw [hn] at h; exact h
  have h0 : ¬ n < 0 := fun q => h (Or.inl q)
  have h41 : n.toNatClampNeg ≤ 41 := Nat.not_lt.mp fun q => h (Or.inr q)
  refine va_newaK (N := n.toNatClampNeg) hk.1.1 hk.1.2.1 (atype := .short) (hk.1.2.2.2.2 _ q1228) rfl hd rfl h0 rfl ?_ ?_ ?_ hn' fun H1 cA e1 z1 o1 hAr hNm => ?_
  · have : componentBytes (newarray.typeOf .short) ≤ 8 := by decide
    exact Nat.le_trans (Nat.mul_le_mul h41 this) (by decide)
  · rw [hk.2.1]; show _ ≤ NX - s.heap.size; dsimp only [cnx]; omega
  · rw [hk.2.1]; show _ ≤ 41 * (NX - s.heap.size); dsimp only [cnx]; omega
  have hcA : cA = hT G 2 := Option.some.inj (hNm.symm.trans ((hH.2.1 s hK).1.2 2 (hT G 2, .short) rfl).2)
  have o2 : ∀ q : Nat, q < H.size → H1[q]? = H[q]? := fun q hq => o1 q (by rw [hn'] at hq; exact hq)
  have hfresh : hA G d.2 := hH.2.2.2.1 H d.2 hW.2.2 (Nat.le_of_eq hn')
  have hgrow : H.size ≤ H1.size := by rw [z1, hn']; exact Nat.le_succ _
  have hw2 := hw H1 locs ls ⟨by
      rw [ccs_newA]
      refine (hW.1.kept (fun k x hx => o2 x.1 (hW.1 k x hx).lt)).app (fun k x hx => ?_)
      have hz1 : k < 1 := (List.getElem?_eq_some_iff.mp hx).1
      rw [show k = 0 by omega] at hx
      cases hx
      show H1[d.2]? = some _
      rw [e1, hcA]
      rfl, by
      rw [ccs_newA]
      exact hW.2.1.push hW.1 hn'.symm hfresh, hH.2.2.1 H H1 hgrow (fun q h _ => o2 q h) hW.2.2⟩ z1 ⟨Nat.le_trans hS.1 hgrow, fun q h1 h2 => (o2 q (Nat.lt_of_lt_of_le h1 hS.1)).trans (hS.2.1 q h1 h2), hS.2.2⟩ hl
  exact W.widen (k := d.2 + 1 - s.heap.size) (n := 41 * (d.2 + 1 - s.heap.size)) (cells := d.2 - s.heap.size + 1) (slots := 41 * (d.2 - s.heap.size) + n.toNatClampNeg) (by omega) (by omega) hw2
theorem jd_len2 (hk : jk p R s m args meth c NX cc nL RX0 fr lo ret) (hH : cH G KK) (hK : KK s) {q : Nat} {K : Int32 → Option ρ} (hd : decode cc pc = .ok (.arraylength, 1)) (kk : ∀ v, jj p l e R s m args below meth c (hA G) NX Q (cWo G d) (cnx d) nL σ (pc + 1) lv (.int v :: st) (K v = some res)) : jj p l e R s m args below meth c (hA G) NX Q (cWo G d) (cnx d) nL σ pc lv (.ref q :: st) ((dLen d 2 q).bind K = some res) := by
  intro hz
  unfold dLen at hz
  split at hz
  · rename_i t' n A he
    split at hz
    · rename_i ht
      obtain ⟨ht, -⟩ := ht
      subst ht
      obtain ⟨i, hi⟩ := ccs_dl (G := G) (σ := σ) he
      have hk2 := kk _ hz
      exact ⟨hk2.1, fun H locs ls hW hn hS hl => va_alen hk.1.1 hk.1.2.1 (hH.2.1 s hK).1 hW.1 (69 + i) 2 hi rfl rfl hd (hk2.2 H locs ls hW hn hS hl)⟩
    · cases hz
  · cases hz
theorem jd_ld2 (hk : jk p R s m args meth c NX cc nL RX0 fr lo ret) (hH : cH G KK) (hK : KK s) {q : Nat} {i : Int32} {K : Int32 → Option ρ} (hd : decode cc pc = .ok (.saload, 1)) (kk : ∀ v, jj p l e R s m args below meth c (hA G) NX Q (cWo G d) (cnx d) nL σ (pc + 1) lv (.int v :: st) (K v = some res)) : jj p l e R s m args below meth c (hA G) NX Q (cWo G d) (cnx d) nL σ pc lv (.int i :: .ref q :: st) ((dLd d 2 q i).bind K = some res) := by
  intro hz
  unfold dLd at hz
  cases hx : dI d 2 q with
  | none => rw [hx] at hz; cases hz
  | some x =>
  obtain ⟨n, f⟩ := x
  rw [hx] at hz
  simp only [Option.bind_some] at hz
  by_cases h : i < 0 ∨ n ≤ i.toNatClampNeg
  · rw [if_pos h] at hz; cases hz
  · rw [if_neg h] at hz
    obtain ⟨ix, hi⟩ := ccs_dl (G := G) (σ := σ) (dI_spec hx)
    have hk2 := kk _ hz
    exact ⟨hk2.1, fun H locs ls hW hn hS hl => va_sald hk.1.1 hk.1.2.1 (hH.2.1 s hK).1 hW.1 (69 + ix) 2 hi rfl h hd (hk2.2 H locs ls hW hn hS hl)⟩
theorem jd_st2 (hk : jk p R s m args meth c NX cc nL RX0 fr lo ret) (hH : cH G KK) (hK : KK s) {q : Nat} {i x : Int32} {K : DS → Option ρ} (hd : decode cc pc = .ok (.sastore, 1)) (kk : ∀ d1, jj p l e R s m args below meth c (hA G) NX Q (cWo G d1) (cnx d1) nL σ (pc + 1) lv st (K d1 = some res)) : jj p l e R s m args below meth c (hA G) NX Q (cWo G d) (cnx d) nL σ pc lv (.int x :: .int i :: .ref q :: st) ((dSt d 2 q i x).bind K = some res) := by
  intro hz
  unfold dSt at hz
  cases hx : dI d 2 q with
  | none => rw [hx] at hz; cases hz
  | some y =>
  obtain ⟨n, f⟩ := y
  rw [hx] at hz
  simp only [Option.bind_some] at hz
  by_cases h : i < 0 ∨ n ≤ i.toNatClampNeg
  · rw [if_pos h] at hz; cases hz
  · rw [if_neg h] at hz
    obtain ⟨ix, hi⟩ := dl_spec (dI_spec hx)
    have hat : (ccs G d σ)[69 + ix]? = some (dT G (q, .inl (2, n, .inl f))) := by rw [ccs_D, hi]; rfl
    exact cw_stepD (d' := dSet d q (.inl (2, n, .inl (upd f i.toNatClampNeg (nT 2 x))))) hH rfl (kk _) (fun H locs ls hP hD hS hl go => va_sast hk.1.1 hk.1.2.1 (hH.2.1 s hK).1 hP hD hS (69 + ix) 2 hat rfl h hd (fun H1 locs1 h1 h2 h3 => go H1 locs1 (by rw [ccs_dset hD hi]; exact h1) (by rw [ccs_dset hD hi]; exact h2) h3)) hz
theorem ja_newS3 (hk : jk p R s m args meth c NX cc nL RX0 fr lo ret) (hH : cH G KK) (hK : KK s) {n : Int32} {K : DS → Option ρ} (hd : decode cc pc = .ok (.newarray .long, 2)) (kk : ∀ d1, jj p l e R s m args below meth c (hA G) NX Q (cWo G d1) (cnx d1) nL σ (pc + 2) lv (.ref d.2 :: st) (K d1 = some res)) : jj p l e R s m args below meth c (hA G) NX Q (cWo G d) (cnx d) nL σ pc lv (.int n :: st) ((dNewS d 3 n).bind K = some res) := by
  intro hz
  unfold dNewS at hz
  by_cases h : n < 0 ∨ 41 < n.toNatClampNeg
  · rw [if_pos h] at hz; cases hz
  rw [if_neg h] at hz
  obtain ⟨hle, hw⟩ := kk _ hz
  have hle' : d.2 + 1 ≤ NX := hle
  refine ⟨Nat.le_of_succ_le hle', fun H locs ls hW hn hS hl => ?_⟩
  have hn' : H.size = d.2 := hn
  have hs0 : s.heap.size ≤ d.2 := by have h := hS.1; rw [hn] at h; exact h
  have h0 : ¬ n < 0 := fun q => h (Or.inl q)
  have h41 : n.toNatClampNeg ≤ 41 := Nat.not_lt.mp fun q => h (Or.inr q)
  refine va_newaK (N := n.toNatClampNeg) hk.1.1 hk.1.2.1 (atype := .long) (hk.1.2.2.2.2 _ q1229) rfl hd rfl h0 rfl ?_ ?_ ?_ hn' fun H1 cA e1 z1 o1 hAr hNm => ?_
  · have : componentBytes (newarray.typeOf .long) ≤ 8 := by decide
    exact Nat.le_trans (Nat.mul_le_mul h41 this) (by decide)
  · rw [hk.2.1]; show _ ≤ NX - s.heap.size; dsimp only [cnx]; omega
  · rw [hk.2.1]; show _ ≤ 41 * (NX - s.heap.size); dsimp only [cnx]; omega
  have hcA : cA = hT G 3 := Option.some.inj (hNm.symm.trans ((hH.2.1 s hK).1.2 3 (hT G 3, .long) rfl).2)
  have o2 : ∀ q : Nat, q < H.size → H1[q]? = H[q]? := fun q hq => o1 q (by rw [hn'] at hq; exact hq)
  have hfresh : hA G d.2 := hH.2.2.2.1 H d.2 hW.2.2 (Nat.le_of_eq hn')
  have hgrow : H.size ≤ H1.size := by rw [z1, hn']; exact Nat.le_succ _
  have hw2 := hw H1 locs ls ⟨by
      rw [ccs_newA]
      refine (hW.1.kept (fun k x hx => o2 x.1 (hW.1 k x hx).lt)).app (fun k x hx => ?_)
      have hz1 : k < 1 := (List.getElem?_eq_some_iff.mp hx).1
      rw [show k = 0 by omega] at hx
      cases hx
      show H1[d.2]? = some _
      rw [e1, hcA]
      rfl, by
      rw [ccs_newA]
      exact hW.2.1.push hW.1 hn'.symm hfresh, hH.2.2.1 H H1 hgrow (fun q h _ => o2 q h) hW.2.2⟩ z1 ⟨Nat.le_trans hS.1 hgrow, fun q h1 h2 => (o2 q (Nat.lt_of_lt_of_le h1 hS.1)).trans (hS.2.1 q h1 h2), hS.2.2⟩ hl
  exact W.widen (k := d.2 + 1 - s.heap.size) (n := 41 * (d.2 + 1 - s.heap.size)) (cells := d.2 - s.heap.size + 1) (slots := 41 * (d.2 - s.heap.size) + n.toNatClampNeg) (by omega) (by omega) hw2
theorem jd_len3 (hk : jk p R s m args meth c NX cc nL RX0 fr lo ret) (hH : cH G KK) (hK : KK s) {q : Nat} {K : Int32 → Option ρ} (hd : decode cc pc = .ok (.arraylength, 1)) (kk : ∀ v, jj p l e R s m args below meth c (hA G) NX Q (cWo G d) (cnx d) nL σ (pc + 1) lv (.int v :: st) (K v = some res)) : jj p l e R s m args below meth c (hA G) NX Q (cWo G d) (cnx d) nL σ pc lv (.ref q :: st) ((dLen d 3 q).bind K = some res) := by
  intro hz
  unfold dLen at hz
  split at hz
  · rename_i t' n A he
    split at hz
    · rename_i ht
      obtain ⟨ht, -⟩ := ht
      subst ht
      obtain ⟨i, hi⟩ := ccs_dl (G := G) (σ := σ) he
      have hk2 := kk _ hz
      exact ⟨hk2.1, fun H locs ls hW hn hS hl => va_alen hk.1.1 hk.1.2.1 (hH.2.1 s hK).1 hW.1 (69 + i) 3 hi rfl rfl hd (hk2.2 H locs ls hW hn hS hl)⟩
    · cases hz
  · cases hz
theorem jd_ld3 (hk : jk p R s m args meth c NX cc nL RX0 fr lo ret) (hH : cH G KK) (hK : KK s) {q : Nat} {i : Int32} {K : Int64 → Option ρ} (hd : decode cc pc = .ok (.laload, 1)) (kk : ∀ v, jj p l e R s m args below meth c (hA G) NX Q (cWo G d) (cnx d) nL σ (pc + 1) lv (.long v :: st) (K v = some res)) : jj p l e R s m args below meth c (hA G) NX Q (cWo G d) (cnx d) nL σ pc lv (.int i :: .ref q :: st) ((dLdJ d q i).bind K = some res) := by
  intro hz
  unfold dLdJ at hz
  cases hx : dJ d q with
  | none => rw [hx] at hz; cases hz
  | some x =>
  obtain ⟨n, f⟩ := x
  rw [hx] at hz
  simp only [Option.bind_some] at hz
  by_cases h : i < 0 ∨ n ≤ i.toNatClampNeg
  · rw [if_pos h] at hz; cases hz
  · rw [if_neg h] at hz
    obtain ⟨ix, hi⟩ := ccs_dl (G := G) (σ := σ) (dJ_spec hx)
    have hk2 := kk _ hz
    exact ⟨hk2.1, fun H locs ls hW hn hS hl => va_lald hk.1.1 hk.1.2.1 (hH.2.1 s hK).1 hW.1 (69 + ix) 3 hi rfl h hd (hk2.2 H locs ls hW hn hS hl)⟩
theorem jd_st3 (hk : jk p R s m args meth c NX cc nL RX0 fr lo ret) (hH : cH G KK) (hK : KK s) {q : Nat} {i : Int32} {x : Int64} {K : DS → Option ρ} (hd : decode cc pc = .ok (.lastore, 1)) (kk : ∀ d1, jj p l e R s m args below meth c (hA G) NX Q (cWo G d1) (cnx d1) nL σ (pc + 1) lv st (K d1 = some res)) : jj p l e R s m args below meth c (hA G) NX Q (cWo G d) (cnx d) nL σ pc lv (.long x :: .int i :: .ref q :: st) ((dStJ d q i x).bind K = some res) := by
  intro hz
  unfold dStJ at hz
  cases hx : dJ d q with
  | none => rw [hx] at hz; cases hz
  | some y =>
  obtain ⟨n, f⟩ := y
  rw [hx] at hz
  simp only [Option.bind_some] at hz
  by_cases h : i < 0 ∨ n ≤ i.toNatClampNeg
  · rw [if_pos h] at hz; cases hz
  · rw [if_neg h] at hz
    obtain ⟨ix, hi⟩ := dl_spec (dJ_spec hx)
    have hat : (ccs G d σ)[69 + ix]? = some (dT G (q, .inl (3, n, .inr (.inl f)))) := by rw [ccs_D, hi]; rfl
    exact cw_stepD (d' := dSet d q (.inl (3, n, .inr (.inl (vp_updL f i.toNatClampNeg x))))) hH rfl (kk _) (fun H locs ls hP hD hS hl go => va_last hk.1.1 hk.1.2.1 (hH.2.1 s hK).1 hP hD hS (69 + ix) 3 hat rfl h hd (fun H1 locs1 h1 h2 h3 => go H1 locs1 (by rw [ccs_dset hD hi]; exact h1) (by rw [ccs_dset hD hi]; exact h2) h3)) hz
theorem ja_newS4 (hk : jk p R s m args meth c NX cc nL RX0 fr lo ret) (hH : cH G KK) (hK : KK s) {n : Int32} {K : DS → Option ρ} (hd : decode cc pc = .ok (.newarray .boolean, 2)) (kk : ∀ d1, jj p l e R s m args below meth c (hA G) NX Q (cWo G d1) (cnx d1) nL σ (pc + 2) lv (.ref d.2 :: st) (K d1 = some res)) : jj p l e R s m args below meth c (hA G) NX Q (cWo G d) (cnx d) nL σ pc lv (.int n :: st) ((dNewS d 4 n).bind K = some res) := by
  intro hz
  unfold dNewS at hz
  by_cases h : n < 0 ∨ 41 < n.toNatClampNeg
  · rw [if_pos h] at hz; cases hz
  rw [if_neg h] at hz
  obtain ⟨hle, hw⟩ := kk _ hz
  have hle' : d.2 + 1 ≤ NX := hle
  refine ⟨Nat.le_of_succ_le hle', fun H locs ls hW hn hS hl => ?_⟩
  have hn' : H.size = d.2 := hn
  have hs0 : s.heap.size ≤ d.2 := by have h := hS.1; rw [hn] at h; exact h
  have h0 : ¬ n < 0 := fun q => h (Or.inl q)
  have h41 : n.toNatClampNeg ≤ 41 := Nat.not_lt.mp fun q => h (Or.inr q)
  refine va_newaK (N := n.toNatClampNeg) hk.1.1 hk.1.2.1 (atype := .boolean) (hk.1.2.2.2.2 _ q1230) rfl hd rfl h0 rfl ?_ ?_ ?_ hn' fun H1 cA e1 z1 o1 hAr hNm => ?_
  · have : componentBytes (newarray.typeOf .boolean) ≤ 8 := by decide
    exact Nat.le_trans (Nat.mul_le_mul h41 this) (by decide)
  · rw [hk.2.1]; show _ ≤ NX - s.heap.size; dsimp only [cnx]; omega
  · rw [hk.2.1]; show _ ≤ 41 * (NX - s.heap.size); dsimp only [cnx]; omega
  have hcA : cA = hT G 4 := Option.some.inj (hNm.symm.trans ((hH.2.1 s hK).1.2 4 (hT G 4, .boolean) rfl).2)
  have o2 : ∀ q : Nat, q < H.size → H1[q]? = H[q]? := fun q hq => o1 q (by rw [hn'] at hq; exact hq)
  have hfresh : hA G d.2 := hH.2.2.2.1 H d.2 hW.2.2 (Nat.le_of_eq hn')
  have hgrow : H.size ≤ H1.size := by rw [z1, hn']; exact Nat.le_succ _
  have hw2 := hw H1 locs ls ⟨by
      rw [ccs_newA]
      refine (hW.1.kept (fun k x hx => o2 x.1 (hW.1 k x hx).lt)).app (fun k x hx => ?_)
      have hz1 : k < 1 := (List.getElem?_eq_some_iff.mp hx).1
      rw [show k = 0 by omega] at hx
      cases hx
      show H1[d.2]? = some _
      rw [e1, hcA]
      rfl, by
      rw [ccs_newA]
      exact hW.2.1.push hW.1 hn'.symm hfresh, hH.2.2.1 H H1 hgrow (fun q h _ => o2 q h) hW.2.2⟩ z1 ⟨Nat.le_trans hS.1 hgrow, fun q h1 h2 => (o2 q (Nat.lt_of_lt_of_le h1 hS.1)).trans (hS.2.1 q h1 h2), hS.2.2⟩ hl
  exact W.widen (k := d.2 + 1 - s.heap.size) (n := 41 * (d.2 + 1 - s.heap.size)) (cells := d.2 - s.heap.size + 1) (slots := 41 * (d.2 - s.heap.size) + n.toNatClampNeg) (by omega) (by omega) hw2
theorem jd_len4 (hk : jk p R s m args meth c NX cc nL RX0 fr lo ret) (hH : cH G KK) (hK : KK s) {q : Nat} {K : Int32 → Option ρ} (hd : decode cc pc = .ok (.arraylength, 1)) (kk : ∀ v, jj p l e R s m args below meth c (hA G) NX Q (cWo G d) (cnx d) nL σ (pc + 1) lv (.int v :: st) (K v = some res)) : jj p l e R s m args below meth c (hA G) NX Q (cWo G d) (cnx d) nL σ pc lv (.ref q :: st) ((dLen d 4 q).bind K = some res) := by
  intro hz
  unfold dLen at hz
  split at hz
  · rename_i t' n A he
    split at hz
    · rename_i ht
      obtain ⟨ht, -⟩ := ht
      subst ht
      obtain ⟨i, hi⟩ := ccs_dl (G := G) (σ := σ) he
      have hk2 := kk _ hz
      exact ⟨hk2.1, fun H locs ls hW hn hS hl => va_alen hk.1.1 hk.1.2.1 (hH.2.1 s hK).1 hW.1 (69 + i) 4 hi rfl rfl hd (hk2.2 H locs ls hW hn hS hl)⟩
    · cases hz
  · cases hz
theorem jd_ld4 (hk : jk p R s m args meth c NX cc nL RX0 fr lo ret) (hH : cH G KK) (hK : KK s) {q : Nat} {i : Int32} {K : Int32 → Option ρ} (hd : decode cc pc = .ok (.baload, 1)) (kk : ∀ v, jj p l e R s m args below meth c (hA G) NX Q (cWo G d) (cnx d) nL σ (pc + 1) lv (.int v :: st) (K v = some res)) : jj p l e R s m args below meth c (hA G) NX Q (cWo G d) (cnx d) nL σ pc lv (.int i :: .ref q :: st) ((dLd d 4 q i).bind K = some res) := by
  intro hz
  unfold dLd at hz
  cases hx : dI d 4 q with
  | none => rw [hx] at hz; cases hz
  | some x =>
  obtain ⟨n, f⟩ := x
  rw [hx] at hz
  simp only [Option.bind_some] at hz
  by_cases h : i < 0 ∨ n ≤ i.toNatClampNeg
  · rw [if_pos h] at hz; cases hz
  · rw [if_neg h] at hz
    obtain ⟨ix, hi⟩ := ccs_dl (G := G) (σ := σ) (dI_spec hx)
    have hk2 := kk _ hz
    exact ⟨hk2.1, fun H locs ls hW hn hS hl => va_zald hk.1.1 hk.1.2.1 (hH.2.1 s hK).1 hW.1 (69 + ix) 4 hi rfl h hd (hk2.2 H locs ls hW hn hS hl)⟩
theorem jd_st4 (hk : jk p R s m args meth c NX cc nL RX0 fr lo ret) (hH : cH G KK) (hK : KK s) {q : Nat} {i x : Int32} {K : DS → Option ρ} (hd : decode cc pc = .ok (.bastore, 1)) (kk : ∀ d1, jj p l e R s m args below meth c (hA G) NX Q (cWo G d1) (cnx d1) nL σ (pc + 1) lv st (K d1 = some res)) : jj p l e R s m args below meth c (hA G) NX Q (cWo G d) (cnx d) nL σ pc lv (.int x :: .int i :: .ref q :: st) ((dSt d 4 q i x).bind K = some res) := by
  intro hz
  unfold dSt at hz
  cases hx : dI d 4 q with
  | none => rw [hx] at hz; cases hz
  | some y =>
  obtain ⟨n, f⟩ := y
  rw [hx] at hz
  simp only [Option.bind_some] at hz
  by_cases h : i < 0 ∨ n ≤ i.toNatClampNeg
  · rw [if_pos h] at hz; cases hz
  · rw [if_neg h] at hz
    obtain ⟨ix, hi⟩ := dl_spec (dI_spec hx)
    have hat : (ccs G d σ)[69 + ix]? = some (dT G (q, .inl (4, n, .inl f))) := by rw [ccs_D, hi]; rfl
    exact cw_stepD (d' := dSet d q (.inl (4, n, .inl (upd f i.toNatClampNeg (nT 4 x))))) hH rfl (kk _) (fun H locs ls hP hD hS hl go => va_zast hk.1.1 hk.1.2.1 (hH.2.1 s hK).1 hP hD hS (69 + ix) 4 hat rfl h hd (fun H1 locs1 h1 h2 h3 => go H1 locs1 (by rw [ccs_dset hD hi]; exact h1) (by rw [ccs_dset hD hi]; exact h2) h3)) hz
end
