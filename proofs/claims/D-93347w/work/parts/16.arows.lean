/-! THE COMPONENT's METHODS that make cells, printed by gen/gen3.py -/
set_option maxRecDepth 100000
theorem ja_in {p : Program} {l : Launch} {e : Env} {R : Room} {s : State} {m : MethodId} {args : Array Value} {below : List Frame} {meth : Method} {c : Code} {A : Nat → Prop} {NX : Nat} {Q : State → Prop} {G : cG} {nL : Nat} {σ : SS} {d : DS} {pc : Nat} {lv : List (Nat × Value)} {st : List Value} {Z : Prop} (h : jj p l e R s m args below meth c A NX Q (cWo G d) (cnx d) nL σ pc lv st Z) : jj p l e R s m args below meth c A NX Q (aWo G) anx nL (σ, d) pc lv st Z := h
def dPutH (d : DS) (k q : Nat) (v : Value) : Option DS := (dci d q).bind fun ci => if 7 ≤ ci ∧ ci ≤ 11 then dPut d ci k q v else none
def dPutA (d : DS) (k q : Nat) (v : Value) : Option DS := (dci d q).bind fun ci => if 14 ≤ ci ∧ ci ≤ 15 then dPut d ci k q v else none
section
variable {p : Program} {l : Launch} {e : Env} {R : Room} {s : State} {m : MethodId} {args : Array Value} {below : List Frame} {meth : Method} {c : Code}
variable {NX : Nat} {Q : State → Prop} {nL : Nat} {cc : ByteArray} {fr lo : Nat} {ret : Option FieldType} {own : String}
variable {pc : Nat} {σ : SS} {lv : List (Nat × Value)} {st : List Value} {G : cG} {d : DS} {ρ : Type} {res : ρ} {KK : State → Prop}
theorem jp_X15_fact (hk : jk p R s m args meth c NX cc nL RX15 fr lo ret) (hH : cH G KK) (hK : KK s) (hmi : meth.name = "<init>") {q : Nat} {x : Int32} {K : DS → Option ρ} (hd : decode cc pc = .ok (.putfield 7, 3)) (kk : ∀ d1, jj p l e R s m args below meth c (hA G) NX Q (cWo G d1) (cnx d1) nL σ (pc + 3) lv st (K d1 = some res)) : jj p l e R s m args below meth c (hA G) NX Q (cWo G d) (cnx d) nL σ pc lv (.int x :: .ref q :: st) ((dPut d 16 0 q (.int x)).bind K = some res) :=
  ja_putF (C := RX15) (T := TX15) (N := 2) hk hH hK hmi in_X15 tyX15 tyX15_ok nmX15 rfl (by decide) q851 rfl rfl rfl (vp_nar_int x) rfl hd kk
theorem jp_X15_n (hk : jk p R s m args meth c NX cc nL RX15 fr lo ret) (hH : cH G KK) (hK : KK s) (hmi : meth.name = "<init>") {q : Nat} {x : Int32} {K : DS → Option ρ} (hd : decode cc pc = .ok (.putfield 13, 3)) (kk : ∀ d1, jj p l e R s m args below meth c (hA G) NX Q (cWo G d1) (cnx d1) nL σ (pc + 3) lv st (K d1 = some res)) : jj p l e R s m args below meth c (hA G) NX Q (cWo G d) (cnx d) nL σ pc lv (.int x :: .ref q :: st) ((dPut d 16 1 q (.int x)).bind K = some res) :=
  ja_putF (C := RX15) (T := TX15) (N := 2) hk hH hK hmi in_X15 tyX15 tyX15_ok nmX15 rfl (by decide) q852 rfl rfl rfl (vp_nar_int x) rfl hd kk
theorem jp_X16_first (hk : jk p R s m args meth c NX cc nL RX16 fr lo ret) (hH : cH G KK) (hK : KK s) (hmi : meth.name = "<init>") {q : Nat} {x : Nat} {K : DS → Option ρ} (hd : decode cc pc = .ok (.putfield 7, 3)) (kk : ∀ d1, jj p l e R s m args below meth c (hA G) NX Q (cWo G d1) (cnx d1) nL σ (pc + 3) lv st (K d1 = some res)) : jj p l e R s m args below meth c (hA G) NX Q (cWo G d) (cnx d) nL σ pc lv (.ref x :: .ref q :: st) ((dPut d 13 0 q (.ref x)).bind K = some res) :=
  ja_putF (C := RX16) (T := TX16) (N := 3) hk hH hK hmi in_X16 tyX16 tyX16_ok nmX16 rfl (by decide) q868 rfl rfl rfl rfl rfl hd kk
theorem jp_X16_second (hk : jk p R s m args meth c NX cc nL RX16 fr lo ret) (hH : cH G KK) (hK : KK s) (hmi : meth.name = "<init>") {q : Nat} {x : Nat} {K : DS → Option ρ} (hd : decode cc pc = .ok (.putfield 17, 3)) (kk : ∀ d1, jj p l e R s m args below meth c (hA G) NX Q (cWo G d1) (cnx d1) nL σ (pc + 3) lv st (K d1 = some res)) : jj p l e R s m args below meth c (hA G) NX Q (cWo G d) (cnx d) nL σ pc lv (.ref x :: .ref q :: st) ((dPut d 13 1 q (.ref x)).bind K = some res) :=
  ja_putF (C := RX16) (T := TX16) (N := 3) hk hH hK hmi in_X16 tyX16 tyX16_ok nmX16 rfl (by decide) q869 rfl rfl rfl rfl rfl hd kk
theorem jp_X16_sign (hk : jk p R s m args meth c NX cc nL RX16 fr lo ret) (hH : cH G KK) (hK : KK s) (hmi : meth.name = "<init>") {q : Nat} {x : Int32} {K : DS → Option ρ} (hd : decode cc pc = .ok (.putfield 13, 3)) (kk : ∀ d1, jj p l e R s m args below meth c (hA G) NX Q (cWo G d1) (cnx d1) nL σ (pc + 3) lv st (K d1 = some res)) : jj p l e R s m args below meth c (hA G) NX Q (cWo G d) (cnx d) nL σ pc lv (.int x :: .ref q :: st) ((dPut d 13 2 q (.int x)).bind K = some res) :=
  ja_putF (C := RX16) (T := TX16) (N := 3) hk hH hK hmi in_X16 tyX16 tyX16_ok nmX16 rfl (by decide) q870 rfl rfl rfl (vp_nar_int x) rfl hd kk
theorem jp_X14_of (hk : jk p R s m args meth c NX cc nL RX14 fr lo ret) (hH : cH G KK) (hK : KK s) (hmi : meth.name = "<init>") {q : Nat} {x : Nat} {K : DS → Option ρ} (hd : decode cc pc = .ok (.putfield 7, 3)) (kk : ∀ d1, jj p l e R s m args below meth c (hA G) NX Q (cWo G d1) (cnx d1) nL σ (pc + 3) lv st (K d1 = some res)) : jj p l e R s m args below meth c (hA G) NX Q (cWo G d) (cnx d) nL σ pc lv (.ref x :: .ref q :: st) ((dPut d 12 0 q (.ref x)).bind K = some res) :=
  ja_putF (C := RX14) (T := TX14) (N := 1) hk hH hK hmi in_X14 tyX14 tyX14_ok nmX14 rfl (by decide) q831 rfl rfl rfl rfl rfl hd kk
theorem jp_X19_kind (hk : jk p R s m args meth c NX cc nL RX19 fr lo ret) (hH : cH G KK) (hK : KK s) (hmi : meth.name = "<init>") {q : Nat} {x : Int32} {K : DS → Option ρ} (hd : decode cc pc = .ok (.putfield 9, 3)) (kk : ∀ d1, jj p l e R s m args below meth c (hA G) NX Q (cWo G d1) (cnx d1) nL σ (pc + 3) lv st (K d1 = some res)) : jj p l e R s m args below meth c (hA G) NX Q (cWo G d) (cnx d) nL σ pc lv (.int x :: .ref q :: st) ((dPut d 17 0 q (.int x)).bind K = some res) :=
  ja_putF (C := RX19) (T := TX19) (N := 4) hk hH hK hmi in_X19 tyX19 tyX19_ok nmX19 rfl (by decide) q916 rfl rfl rfl (vp_nar_int x) rfl hd kk
theorem jp_X19_does (hk : jk p R s m args meth c NX cc nL RX19 fr lo ret) (hH : cH G KK) (hK : KK s) (hmi : meth.name = "<init>") {q : Nat} {x : Int32} {K : DS → Option ρ} (hd : decode cc pc = .ok (.putfield 19, 3)) (kk : ∀ d1, jj p l e R s m args below meth c (hA G) NX Q (cWo G d1) (cnx d1) nL σ (pc + 3) lv st (K d1 = some res)) : jj p l e R s m args below meth c (hA G) NX Q (cWo G d) (cnx d) nL σ pc lv (.int x :: .ref q :: st) ((dPut d 17 1 q (.int x)).bind K = some res) :=
  ja_putF (C := RX19) (T := TX19) (N := 4) hk hH hK hmi in_X19 tyX19 tyX19_ok nmX19 rfl (by decide) q917 rfl rfl rfl (vp_nar_int x) rfl hd kk
theorem jp_X19_n (hk : jk p R s m args meth c NX cc nL RX19 fr lo ret) (hH : cH G KK) (hK : KK s) (hmi : meth.name = "<init>") {q : Nat} {x : Int32} {K : DS → Option ρ} (hd : decode cc pc = .ok (.putfield 22, 3)) (kk : ∀ d1, jj p l e R s m args below meth c (hA G) NX Q (cWo G d1) (cnx d1) nL σ (pc + 3) lv st (K d1 = some res)) : jj p l e R s m args below meth c (hA G) NX Q (cWo G d) (cnx d) nL σ pc lv (.int x :: .ref q :: st) ((dPut d 17 2 q (.int x)).bind K = some res) :=
  ja_putF (C := RX19) (T := TX19) (N := 4) hk hH hK hmi in_X19 tyX19 tyX19_ok nmX19 rfl (by decide) q919 rfl rfl rfl (vp_nar_int x) rfl hd kk
theorem jp_X19_cond (hk : jk p R s m args meth c NX cc nL RX19 fr lo ret) (hH : cH G KK) (hK : KK s) (hmi : meth.name = "<init>") {q : Nat} {x : Option Nat} {K : DS → Option ρ} (hd : decode cc pc = .ok (.putfield 15, 3)) (kk : ∀ d1, jj p l e R s m args below meth c (hA G) NX Q (cWo G d1) (cnx d1) nL σ (pc + 3) lv st (K d1 = some res)) : jj p l e R s m args below meth c (hA G) NX Q (cWo G d) (cnx d) nL σ pc lv (va_rf x :: .ref q :: st) ((dPut d 17 3 q (va_rf x)).bind K = some res) :=
  ja_putF (C := RX19) (T := TX19) (N := 4) hk hH hK hmi in_X19 tyX19 tyX19_ok nmX19 rfl (by decide) q920 rfl rfl rfl (by cases x <;> rfl) (by cases x <;> rfl) hd kk
theorem jp_X20_number (hk : jk p R s m args meth c NX cc nL RX20 fr lo ret) (hH : cH G KK) (hK : KK s) (hmi : meth.name = "<init>") {q : Nat} {x : Int32} {K : DS → Option ρ} (hd : decode cc pc = .ok (.putfield 7, 3)) (kk : ∀ d1, jj p l e R s m args below meth c (hA G) NX Q (cWo G d1) (cnx d1) nL σ (pc + 3) lv st (K d1 = some res)) : jj p l e R s m args below meth c (hA G) NX Q (cWo G d) (cnx d) nL σ pc lv (.int x :: .ref q :: st) ((dPut d 18 0 q (.int x)).bind K = some res) :=
  ja_putF (C := RX20) (T := TX20) (N := 1) hk hH hK hmi in_X20 tyX20 tyX20_ok nmX20 rfl (by decide) q1319 rfl rfl rfl (vp_nar_int x) rfl hd kk
theorem jp_X7_number (hk : jk p R s m args meth c NX cc nL RX7 fr lo ret) (hH : cH G KK) (hK : KK s) (hmi : meth.name = "<init>") {q : Nat} {x : Int32} {K : DS → Option ρ} (hd : decode cc pc = .ok (.putfield 7, 3)) (kk : ∀ d1, jj p l e R s m args below meth c (hA G) NX Q (cWo G d1) (cnx d1) nL σ (pc + 3) lv st (K d1 = some res)) : jj p l e R s m args below meth c (hA G) NX Q (cWo G d) (cnx d) nL σ pc lv (.int x :: .ref q :: st) ((dPutH d 0 q (.int x)).bind K = some res) := by
  intro hz
  unfold dPutH at hz
  cases hc : dci d q with
  | none => rw [hc] at hz; cases hz
  | some ci =>
  rw [hc] at hz
  simp only [Option.bind_some] at hz
  by_cases h : 7 ≤ ci ∧ ci ≤ 11
  · rw [if_pos h] at hz
    rcases (show ci = 7 ∨ ci = 8 ∨ ci = 9 ∨ ci = 10 ∨ ci = 11 by omega) with rfl | rfl | rfl | rfl | rfl
    · exact ja_putF (C := RX8) (T := TX8) (N := 2) (ci := 7) (k := 0) (index := 7) (q := q) (v := .int x) (K := K) hk hH hK hmi in_X8 tyX8 tyX8_ok nmX8 rfl (by decide) q531 rfl rfl rfl (vp_nar_int x) rfl hd kk hz
    · exact ja_putF (C := RX9) (T := TX9) (N := 2) (ci := 8) (k := 0) (index := 7) (q := q) (v := .int x) (K := K) hk hH hK hmi in_X9 tyX9 tyX9_ok nmX9 rfl (by decide) q531 rfl rfl rfl (vp_nar_int x) rfl hd kk hz
    · exact ja_putF (C := RX10) (T := TX10) (N := 2) (ci := 9) (k := 0) (index := 7) (q := q) (v := .int x) (K := K) hk hH hK hmi in_X10 tyX10 tyX10_ok nmX10 rfl (by decide) q531 rfl rfl rfl (vp_nar_int x) rfl hd kk hz
    · exact ja_putF (C := RX11) (T := TX11) (N := 2) (ci := 10) (k := 0) (index := 7) (q := q) (v := .int x) (K := K) hk hH hK hmi in_X11 tyX11 tyX11_ok nmX11 rfl (by decide) q531 rfl rfl rfl (vp_nar_int x) rfl hd kk hz
    · exact ja_putF (C := RX12) (T := TX12) (N := 2) (ci := 11) (k := 0) (index := 7) (q := q) (v := .int x) (K := K) hk hH hK hmi in_X12 tyX12 tyX12_ok nmX12 rfl (by decide) q531 rfl rfl rfl (vp_nar_int x) rfl hd kk hz
  · rw [if_neg h] at hz; cases hz
theorem jp_X7_grace (hk : jk p R s m args meth c NX cc nL RX7 fr lo ret) (hH : cH G KK) (hK : KK s) (hmi : meth.name = "<init>") {q : Nat} {x : Int32} {K : DS → Option ρ} (hd : decode cc pc = .ok (.putfield 13, 3)) (kk : ∀ d1, jj p l e R s m args below meth c (hA G) NX Q (cWo G d1) (cnx d1) nL σ (pc + 3) lv st (K d1 = some res)) : jj p l e R s m args below meth c (hA G) NX Q (cWo G d) (cnx d) nL σ pc lv (.int x :: .ref q :: st) ((dPutH d 1 q (.int x)).bind K = some res) := by
  intro hz
  unfold dPutH at hz
  cases hc : dci d q with
  | none => rw [hc] at hz; cases hz
  | some ci =>
  rw [hc] at hz
  simp only [Option.bind_some] at hz
  by_cases h : 7 ≤ ci ∧ ci ≤ 11
  · rw [if_pos h] at hz
    rcases (show ci = 7 ∨ ci = 8 ∨ ci = 9 ∨ ci = 10 ∨ ci = 11 by omega) with rfl | rfl | rfl | rfl | rfl
    · exact ja_putF (C := RX8) (T := TX8) (N := 2) (ci := 7) (k := 1) (index := 13) (q := q) (v := .int x) (K := K) hk hH hK hmi in_X8 tyX8 tyX8_ok nmX8 rfl (by decide) q532 rfl rfl rfl (vp_nar_int x) rfl hd kk hz
    · exact ja_putF (C := RX9) (T := TX9) (N := 2) (ci := 8) (k := 1) (index := 13) (q := q) (v := .int x) (K := K) hk hH hK hmi in_X9 tyX9 tyX9_ok nmX9 rfl (by decide) q532 rfl rfl rfl (vp_nar_int x) rfl hd kk hz
    · exact ja_putF (C := RX10) (T := TX10) (N := 2) (ci := 9) (k := 1) (index := 13) (q := q) (v := .int x) (K := K) hk hH hK hmi in_X10 tyX10 tyX10_ok nmX10 rfl (by decide) q532 rfl rfl rfl (vp_nar_int x) rfl hd kk hz
    · exact ja_putF (C := RX11) (T := TX11) (N := 2) (ci := 10) (k := 1) (index := 13) (q := q) (v := .int x) (K := K) hk hH hK hmi in_X11 tyX11 tyX11_ok nmX11 rfl (by decide) q532 rfl rfl rfl (vp_nar_int x) rfl hd kk hz
    · exact ja_putF (C := RX12) (T := TX12) (N := 2) (ci := 11) (k := 1) (index := 13) (q := q) (v := .int x) (K := K) hk hH hK hmi in_X12 tyX12 tyX12_ok nmX12 rfl (by decide) q532 rfl rfl rfl (vp_nar_int x) rfl hd kk hz
  · rw [if_neg h] at hz; cases hz
theorem jp_X17_first (hk : jk p R s m args meth c NX cc nL RX17 fr lo ret) (hH : cH G KK) (hK : KK s) (hmi : meth.name = "<init>") {q : Nat} {x : Nat} {K : DS → Option ρ} (hd : decode cc pc = .ok (.putfield 7, 3)) (kk : ∀ d1, jj p l e R s m args below meth c (hA G) NX Q (cWo G d1) (cnx d1) nL σ (pc + 3) lv st (K d1 = some res)) : jj p l e R s m args below meth c (hA G) NX Q (cWo G d) (cnx d) nL σ pc lv (.ref x :: .ref q :: st) ((dPutA d 0 q (.ref x)).bind K = some res) := by
  intro hz
  unfold dPutA at hz
  cases hc : dci d q with
  | none => rw [hc] at hz; cases hz
  | some ci =>
  rw [hc] at hz
  simp only [Option.bind_some] at hz
  by_cases h : 14 ≤ ci ∧ ci ≤ 15
  · rw [if_pos h] at hz
    rcases (show ci = 14 ∨ ci = 15 by omega) with rfl | rfl
    · exact ja_putF (C := RX17) (T := TX17) (N := 2) (ci := 14) (k := 0) (index := 7) (q := q) (v := .ref x) (K := K) hk hH hK hmi in_X17 tyX17 tyX17_ok nmX17 rfl (by decide) q885 rfl rfl rfl rfl rfl hd kk hz
    · exact ja_putF (C := RX18) (T := TX18) (N := 2) (ci := 15) (k := 0) (index := 7) (q := q) (v := .ref x) (K := K) hk hH hK hmi in_X18 tyX18 tyX18_ok nmX18 rfl (by decide) q885 rfl rfl rfl rfl rfl hd kk hz
  · rw [if_neg h] at hz; cases hz
theorem jp_X17_second (hk : jk p R s m args meth c NX cc nL RX17 fr lo ret) (hH : cH G KK) (hK : KK s) (hmi : meth.name = "<init>") {q : Nat} {x : Nat} {K : DS → Option ρ} (hd : decode cc pc = .ok (.putfield 13, 3)) (kk : ∀ d1, jj p l e R s m args below meth c (hA G) NX Q (cWo G d1) (cnx d1) nL σ (pc + 3) lv st (K d1 = some res)) : jj p l e R s m args below meth c (hA G) NX Q (cWo G d) (cnx d) nL σ pc lv (.ref x :: .ref q :: st) ((dPutA d 1 q (.ref x)).bind K = some res) := by
  intro hz
  unfold dPutA at hz
  cases hc : dci d q with
  | none => rw [hc] at hz; cases hz
  | some ci =>
  rw [hc] at hz
  simp only [Option.bind_some] at hz
  by_cases h : 14 ≤ ci ∧ ci ≤ 15
  · rw [if_pos h] at hz
    rcases (show ci = 14 ∨ ci = 15 by omega) with rfl | rfl
    · exact ja_putF (C := RX17) (T := TX17) (N := 2) (ci := 14) (k := 1) (index := 13) (q := q) (v := .ref x) (K := K) hk hH hK hmi in_X17 tyX17 tyX17_ok nmX17 rfl (by decide) q888 rfl rfl rfl rfl rfl hd kk hz
    · exact ja_putF (C := RX18) (T := TX18) (N := 2) (ci := 15) (k := 1) (index := 13) (q := q) (v := .ref x) (K := K) hk hH hK hmi in_X18 tyX18 tyX18_ok nmX18 rfl (by decide) q888 rfl rfl rfl rfl rfl hd kk hz
  · rw [if_neg h] at hz; cases hz
theorem jc_aldS7 (hk : jk p R s m args meth c NX cc nL own fr lo ret) (hH : cH G KK) (hK : KK s) {i : Int32} {K : Nat → Option ρ} (hd : decode cc pc = .ok (.aaload, 1)) (kk : ∀ i, i < 4 → jj p l e R s m args below meth c (hA G) NX Q (cWo G d) (cnx d) nL σ (pc + 1) lv (.ref (ha G (7 + i)) :: st) (K i = some res)) : jj p l e R s m args below meth c (hA G) NX Q (cWo G d) (cnx d) nL σ pc lv (.int i :: .ref (ha G 67) :: st) ((ldS i).bind K = some res) := by
  intro hz
  unfold ldS at hz
  by_cases h : i < 0 ∨ 4 ≤ i.toNatClampNeg
  · rw [if_pos h] at hz; cases hz
  · rw [if_neg h] at hz
    have h4 : i.toNatClampNeg < 4 := by omega
    exact ⟨(kk _ h4 hz).1, fun H locs ls hW hn hS hl => va_aldq hk.1.1 hk.1.2.1 (hH.2.1 s hK).1 hW.1 67 7 (ccs_R G d σ (i := 5) (by decide)) rfl h hd ((kk _ h4 hz).2 H locs ls hW hn hS hl)⟩
theorem jc_held7 (hk : jk p R s m args meth c NX cc nL RX0 fr lo ret) (hH : cH G KK) (hK : KK s) {i : Nat} {Z : Prop} (hi : i < 4) (hd : decode cc pc = .ok (.getfield 525, 3)) (kk : jj p l e R s m args below meth c (hA G) NX Q (cWo G d) (cnx d) nL σ (pc + 3) lv (va_rf (σ.2.2.1 (3 + i)) :: st) Z) : jj p l e R s m args below meth c (hA G) NX Q (cWo G d) (cnx d) nL σ pc lv (.ref (ha G (7 + i)) :: st) Z :=
  cg_getN (C := RX5) (T := TX5) (N := 1) (k := 0) (ci := 4) (host := "LeftUndoes") hk hH hK in_X5 (show (ccs G d σ)[7 + i]? = some (ha G (7 + i), .inr (4, [va_rf (σ.2.2.1 (3 + i))])) by rcases (show i = 0 ∨ i = 1 ∨ i = 2 ∨ i = 3 by omega) with rfl | rfl | rfl | rfl <;> exact ccs_O G d σ (by decide)) rfl (by decide) (List.mem_of_getElem? (i := 16) rfl) rfl rfl hd kk
theorem jc_pheld7 (hk : jk p R s m args meth c NX cc nL RX0 fr lo ret) (hH : cH G KK) (hK : KK s) {i : Nat} {x : Option Nat} {K : SS → Option ρ} (hi : i < 4) (hd : decode cc pc = .ok (.putfield 525, 3)) (kk : ∀ σ', jj p l e R s m args below meth c (hA G) NX Q (cWo G d) (cnx d) nL σ' (pc + 3) lv st (K σ' = some res)) : jj p l e R s m args below meth c (hA G) NX Q (cWo G d) (cnx d) nL σ pc lv (va_rf x :: .ref (ha G (7 + i)) :: st) ((some (sF σ (3 + i) x)).bind K = some res) := by
  rcases (show i = 0 ∨ i = 1 ∨ i = 2 ∨ i = 3 by omega) with rfl | rfl | rfl | rfl
  · exact cg_putN (σ' := sF σ (3 + 0) x) (C := RX5) (T := TX5) (N := 1) (k := 0) (ci := 4) (q0 := 7) (host := "LeftUndoes") hk hH hK in_X5 tyX5 tyX5_ok nmX5 (ccs_O G d σ (by decide)) rfl (by decide) (List.mem_of_getElem? (i := 16) rfl) rfl rfl rfl (by cases x <;> rfl) (by cases x <;> rfl) (Nat.le_of_ble_eq_true rfl) hd (ccs_setO G d σ _ (by decide) _ rfl rfl rfl) (kk _)
  · exact cg_putN (σ' := sF σ (3 + 1) x) (C := RX5) (T := TX5) (N := 1) (k := 0) (ci := 4) (q0 := 8) (host := "LeftUndoes") hk hH hK in_X5 tyX5 tyX5_ok nmX5 (ccs_O G d σ (by decide)) rfl (by decide) (List.mem_of_getElem? (i := 16) rfl) rfl rfl rfl (by cases x <;> rfl) (by cases x <;> rfl) (Nat.le_of_ble_eq_true rfl) hd (ccs_setO G d σ _ (by decide) _ rfl rfl rfl) (kk _)
  · exact cg_putN (σ' := sF σ (3 + 2) x) (C := RX5) (T := TX5) (N := 1) (k := 0) (ci := 4) (q0 := 9) (host := "LeftUndoes") hk hH hK in_X5 tyX5 tyX5_ok nmX5 (ccs_O G d σ (by decide)) rfl (by decide) (List.mem_of_getElem? (i := 16) rfl) rfl rfl rfl (by cases x <;> rfl) (by cases x <;> rfl) (Nat.le_of_ble_eq_true rfl) hd (ccs_setO G d σ _ (by decide) _ rfl rfl rfl) (kk _)
  · exact cg_putN (σ' := sF σ (3 + 3) x) (C := RX5) (T := TX5) (N := 1) (k := 0) (ci := 4) (q0 := 10) (host := "LeftUndoes") hk hH hK in_X5 tyX5 tyX5_ok nmX5 (ccs_O G d σ (by decide)) rfl (by decide) (List.mem_of_getElem? (i := 16) rfl) rfl rfl rfl (by cases x <;> rfl) (by cases x <;> rfl) (Nat.le_of_ble_eq_true rfl) hd (ccs_setO G d σ _ (by decide) _ rfl rfl rfl) (kk _)
theorem jc_aldS11 (hk : jk p R s m args meth c NX cc nL own fr lo ret) (hH : cH G KK) (hK : KK s) {i : Int32} {K : Nat → Option ρ} (hd : decode cc pc = .ok (.aaload, 1)) (kk : ∀ i, i < 4 → jj p l e R s m args below meth c (hA G) NX Q (cWo G d) (cnx d) nL σ (pc + 1) lv (.ref (ha G (11 + i)) :: st) (K i = some res)) : jj p l e R s m args below meth c (hA G) NX Q (cWo G d) (cnx d) nL σ pc lv (.int i :: .ref (ha G 68) :: st) ((ldS i).bind K = some res) := by
  intro hz
  unfold ldS at hz
  by_cases h : i < 0 ∨ 4 ≤ i.toNatClampNeg
  · rw [if_pos h] at hz; cases hz
  · rw [if_neg h] at hz
    have h4 : i.toNatClampNeg < 4 := by omega
    exact ⟨(kk _ h4 hz).1, fun H locs ls hW hn hS hl => va_aldq hk.1.1 hk.1.2.1 (hH.2.1 s hK).1 hW.1 68 7 (ccs_R G d σ (i := 6) (by decide)) rfl h hd ((kk _ h4 hz).2 H locs ls hW hn hS hl)⟩
theorem jc_held11 (hk : jk p R s m args meth c NX cc nL RX0 fr lo ret) (hH : cH G KK) (hK : KK s) {i : Nat} {Z : Prop} (hi : i < 4) (hd : decode cc pc = .ok (.getfield 525, 3)) (kk : jj p l e R s m args below meth c (hA G) NX Q (cWo G d) (cnx d) nL σ (pc + 3) lv (va_rf (σ.2.2.1 (7 + i)) :: st) Z) : jj p l e R s m args below meth c (hA G) NX Q (cWo G d) (cnx d) nL σ pc lv (.ref (ha G (11 + i)) :: st) Z :=
  cg_getN (C := RX5) (T := TX5) (N := 1) (k := 0) (ci := 4) (host := "LeftUndoes") hk hH hK in_X5 (show (ccs G d σ)[11 + i]? = some (ha G (11 + i), .inr (4, [va_rf (σ.2.2.1 (7 + i))])) by rcases (show i = 0 ∨ i = 1 ∨ i = 2 ∨ i = 3 by omega) with rfl | rfl | rfl | rfl <;> exact ccs_O G d σ (by decide)) rfl (by decide) (List.mem_of_getElem? (i := 16) rfl) rfl rfl hd kk
theorem jc_pheld11 (hk : jk p R s m args meth c NX cc nL RX0 fr lo ret) (hH : cH G KK) (hK : KK s) {i : Nat} {x : Option Nat} {K : SS → Option ρ} (hi : i < 4) (hd : decode cc pc = .ok (.putfield 525, 3)) (kk : ∀ σ', jj p l e R s m args below meth c (hA G) NX Q (cWo G d) (cnx d) nL σ' (pc + 3) lv st (K σ' = some res)) : jj p l e R s m args below meth c (hA G) NX Q (cWo G d) (cnx d) nL σ pc lv (va_rf x :: .ref (ha G (11 + i)) :: st) ((some (sF σ (7 + i) x)).bind K = some res) := by
  rcases (show i = 0 ∨ i = 1 ∨ i = 2 ∨ i = 3 by omega) with rfl | rfl | rfl | rfl
  · exact cg_putN (σ' := sF σ (7 + 0) x) (C := RX5) (T := TX5) (N := 1) (k := 0) (ci := 4) (q0 := 11) (host := "LeftUndoes") hk hH hK in_X5 tyX5 tyX5_ok nmX5 (ccs_O G d σ (by decide)) rfl (by decide) (List.mem_of_getElem? (i := 16) rfl) rfl rfl rfl (by cases x <;> rfl) (by cases x <;> rfl) (Nat.le_of_ble_eq_true rfl) hd (ccs_setO G d σ _ (by decide) _ rfl rfl rfl) (kk _)
  · exact cg_putN (σ' := sF σ (7 + 1) x) (C := RX5) (T := TX5) (N := 1) (k := 0) (ci := 4) (q0 := 12) (host := "LeftUndoes") hk hH hK in_X5 tyX5 tyX5_ok nmX5 (ccs_O G d σ (by decide)) rfl (by decide) (List.mem_of_getElem? (i := 16) rfl) rfl rfl rfl (by cases x <;> rfl) (by cases x <;> rfl) (Nat.le_of_ble_eq_true rfl) hd (ccs_setO G d σ _ (by decide) _ rfl rfl rfl) (kk _)
  · exact cg_putN (σ' := sF σ (7 + 2) x) (C := RX5) (T := TX5) (N := 1) (k := 0) (ci := 4) (q0 := 13) (host := "LeftUndoes") hk hH hK in_X5 tyX5 tyX5_ok nmX5 (ccs_O G d σ (by decide)) rfl (by decide) (List.mem_of_getElem? (i := 16) rfl) rfl rfl rfl (by cases x <;> rfl) (by cases x <;> rfl) (Nat.le_of_ble_eq_true rfl) hd (ccs_setO G d σ _ (by decide) _ rfl rfl rfl) (kk _)
  · exact cg_putN (σ' := sF σ (7 + 3) x) (C := RX5) (T := TX5) (N := 1) (k := 0) (ci := 4) (q0 := 14) (host := "LeftUndoes") hk hH hK in_X5 tyX5 tyX5_ok nmX5 (ccs_O G d σ (by decide)) rfl (by decide) (List.mem_of_getElem? (i := 16) rfl) rfl rfl rfl (by cases x <;> rfl) (by cases x <;> rfl) (Nat.le_of_ble_eq_true rfl) hd (ccs_setO G d σ _ (by decide) _ rfl rfl rfl) (kk _)
theorem jj_aload_no (hk : jk p R s m args meth c NX cc nL own fr lo ret) {k : Fin 4} {i : Nat} {x : Option Nat} {Z : Prop} (hd : decode cc pc = .ok (.aload_n k, 1)) (q : Nat) (hi : (k : Nat) = i) (hq : lv[q]? = some (i, va_rf x)) (kk : jj p l e R s m args below meth c (hA G) NX Q (cWo G d) (cnx d) nL σ (pc + 1) lv (va_rf x :: st) Z) : jj p l e R s m args below meth c (hA G) NX Q (cWo G d) (cnx d) nL σ pc lv st Z := by
  cases x
  · exact fun hz => ⟨(kk hz).1, fun H locs ls hW hn hS hl => lv_aload_nN hk.1.1 hk.1.2.1 hd hi (lv_at hl q hq) ((kk hz).2 H locs ls hW hn hS hl)⟩
  · exact jj_aload_n hk hd q hi hq kk
theorem jj_astore_no (hk : jk p R s m args meth c NX cc nL own fr lo ret) {k : Fin 4} {i : Nat} {x : Option Nat} {Z : Prop} (lv' : List (Nat × Value)) (hd : decode cc pc = .ok (.astore_n k, 1)) (hi : (k : Nat) = i) (hin : i < nL) (hl : (i, va_rf x) :: lv.filter (fun q => !(q.1 == i) && !(q.1 + 1 == i && q.2.category == 2)) = lv') (kk : jj p l e R s m args below meth c (hA G) NX Q (cWo G d) (cnx d) nL σ (pc + 1) lv' st Z) : jj p l e R s m args below meth c (hA G) NX Q (cWo G d) (cnx d) nL σ pc lv (va_rf x :: st) Z := by
  cases x
  · exact fun hz => ⟨(kk hz).1, fun H locs ls hW hn hS hl2 => lv_astore_nN hk.1.1 hk.1.2.1 hd hi hl2 hin hl (fun ls' h' => (kk hz).2 H locs ls' hW hn hS h')⟩
  · exact jj_astore_n hk lv' hd hi hin hl kk
theorem jj_aloado (hk : jk p R s m args meth c NX cc nL own fr lo ret) {i : Nat} {x : Option Nat} {Z : Prop} (hd : decode cc pc = .ok (.aload i, 2)) (q : Nat) (hq : lv[q]? = some (i, va_rf x)) (kk : jj p l e R s m args below meth c (hA G) NX Q (cWo G d) (cnx d) nL σ (pc + 2) lv (va_rf x :: st) Z) : jj p l e R s m args below meth c (hA G) NX Q (cWo G d) (cnx d) nL σ pc lv st Z := by
  cases x
  · exact fun hz => ⟨(kk hz).1, fun H locs ls hW hn hS hl => lv_aloadN hk.1.1 hk.1.2.1 hd (lv_at hl q hq) ((kk hz).2 H locs ls hW hn hS hl)⟩
  · exact jj_aload hk hd q hq kk
theorem jj_astoreo (hk : jk p R s m args meth c NX cc nL own fr lo ret) {i : Nat} {x : Option Nat} {Z : Prop} (lv' : List (Nat × Value)) (hd : decode cc pc = .ok (.astore i, 2)) (hin : i < nL) (hl : (i, va_rf x) :: lv.filter (fun q => !(q.1 == i) && !(q.1 + 1 == i && q.2.category == 2)) = lv') (kk : jj p l e R s m args below meth c (hA G) NX Q (cWo G d) (cnx d) nL σ (pc + 2) lv' st Z) : jj p l e R s m args below meth c (hA G) NX Q (cWo G d) (cnx d) nL σ pc lv (va_rf x :: st) Z := by
  cases x
  · exact fun hz => ⟨(kk hz).1, fun H locs ls hW hn hS hl2 => lv_astoreN hk.1.1 hk.1.2.1 hd hl2 hin hl (fun ls' h' => (kk hz).2 H locs ls' hW hn hS h')⟩
  · exact jj_astore hk lv' hd hin hl kk
end
