/-! CALL ROWS of methods that throw what the machine throws, printed by gen/gen5.py -/
set_option maxRecDepth 100000
section
variable {p : Program} {l : Launch} {e : Env} {R : Room} {s : State} {m : MethodId} {args : Array Value} {below : List Frame} {meth : Method} {c : Code}
variable {G : cG} {d : DS} {KK : State → Prop}
variable {NX : Nat} {nL : Nat} {cc : ByteArray} {fr lo frc loc : Nat} {ret : Option FieldType}
variable {pc : Nat} {σ : SS} {lv : List (Nat × Value)} {st : List Value} {τ : Type} {nf : τ → Nat} {Ψ : τ → Outcome → SS × DS → Prop} {res : XR τ}
variable {own : String}
theorem jy_SUi (hk : jk p R s m args meth c (ynx nf res) cc nL own fr lo ret) (hH : cH G KK) (hK : KK s) (ht : ∀ x ∈ c.exceptionTable.toList, False) {y : MethodName} {bytes : ByteArray} {nLc frc loc idx n : Nat} {rt : Option FieldType} {F : Option (XR (Int32 × SS × DS))} {K : (Int32 × SS × DS) → Option (XR τ)} (As : List Value) {st0 : List Value} (hM : ∀ r, F = some r → jMY l y (ws_ y bytes nLc rt) frc loc (As) G KK (σ, d) xnA (jUa (fun x : Int32 => .int x)) r)
    (hl : GoodIn lw_all (va_wsS own idx y (ws_ y bytes nLc rt))) (hy : y.cls ≠ "java/lang/invoke/MethodHandle" ∧ y.cls ≠ "java/lang/invoke/VarHandle" ∧ (parseMethodDescriptor y.desc).map (fun d => d.parameters.length) = some n) (hlen : As.length = n) (hst : st0 = (As.reverse ++ st)) (hd : decode cc pc = .ok (.invokestatic idx, 3)) (hr : frc + 1 ≤ fr ∧ 8 + (nLc + 11) + loc ≤ lo) (hw : (st.map fun v => v.category).sum ≤ 8)
    (kk : ∀ r : (Int32 × SS × DS), jj p l e R s m args below meth c (hA G) (ynx nf res) (jZY below args s G nf Ψ res) (cWo G r.2.2) (cnx r.2.2) nL r.2.1 (pc + 3) lv (.int r.1 :: st) (K r = some res)) : jj p l e R s m args below meth c (hA G) (ynx nf res) (jZY below args s G nf Ψ res) (cWo G d) (cnx d) nL σ pc lv st0 (yb xnA d F K = some res) := by
  subst hst
  intro hz
  unfold yb at hz
  cases hF : F with
  | none => rw [hF] at hz; cases hz
  | some r1 =>
    rw [hF] at hz
    simp only [Option.bind_some] at hz
    split at hz
    · rename_i hmo
      refine jy_run (len := 3) (Ψ1 := (jUa (fun x : Int32 => .int x))) (v := fun r => some (.int r.1)) (sg := fun r => r.2.1) (dd := fun r => r.2.2) (a1 := As.toArray) hk hH ht hmo (fun r o z h => ⟨by have h1 := h.1; cases h1; rfl, h.2⟩) (fun r => rfl) (fun H locs ls hW hn hS hlv hle => ?_) kk hz
      exact vx_runS (As := As) (rest := st) hk.1 (hM r1 hF) (va_cwS n hk.1.2.2.2.2 hl rfl rfl rfl hy (by rw [hk.2.1]; exact hr)) ⟨ablind hH.1, fun U hU hWm => ⟨rfl, by rw [hU]; exact hW, by rw [hU]; exact hn, hH.1 _ _ hWm hK⟩⟩ rfl hlen hlv.1 rfl (lv_room hw) hd (by rw [hk.2.1]; have h9 : d.2 ≤ ynx xnA r1 := hmo; have h8 : ynx xnA r1 ≤ _ := hle; have hs0 : s.heap.size ≤ d.2 := (by have h := hS.1; rw [hn] at h; exact h); constructor <;> (show _ ≤ _; dsimp only [anx]; omega))
    · cases hz
theorem jyh_SUi {res : Int32 × SS × DS} (hk : jk p R s m args meth c (res.2.2.2 + 25) cc nL own fr lo ret) (hH : cH G KK) (hK : KK s) {y : MethodName} {bytes : ByteArray} {nLc frc loc idx n : Nat} {rt : Option FieldType} {F : Option (XR (Int32 × SS × DS))} {K : (Int32 × SS × DS) → Option (Int32 × SS × DS)} {Hh : Nat × SS × DS → Option (Int32 × SS)} (As : List Value) {st0 : List Value} (hM : ∀ r, F = some r → jMY l y (ws_ y bytes nLc rt) frc loc (As) G KK (σ, d) xnA (jUa (fun x : Int32 => .int x)) r)
    (hl : GoodIn lw_all (va_wsS own idx y (ws_ y bytes nLc rt))) (hy : y.cls ≠ "java/lang/invoke/MethodHandle" ∧ y.cls ≠ "java/lang/invoke/VarHandle" ∧ (parseMethodDescriptor y.desc).map (fun d => d.parameters.length) = some n) (hlen : As.length = n) (hst : st0 = (As.reverse ++ st)) (hd : decode cc pc = .ok (.invokestatic idx, 3)) (hr : frc + 1 ≤ fr ∧ 8 + (nLc + 11) + loc ≤ lo) (hw : (st.map fun v => v.category).sum ≤ 8)
    (kx : ∀ (y : Nat × SS × DS) (r' : Int32 × SS), Hh y = some r' → ∃ h, jCatch s c own (yE y.1) args pc h ∧ ∀ (R : Room) (s : State) (q : Nat) (d' : DS), (y.1 ≤ 2 → q = ha G y.1) → jk p R s m args meth c d'.2 cc nL own fr lo ret → KK s → jj p l e R s m args below meth c (hA G) d'.2 (jZ below args s (hA G) d'.2 (jU r') (cWo G d') (cnx d')) (cWo G d') (cnx d') nL y.2.1 h lv [.ref q] (Hh y = some r')) (kk : ∀ r : (Int32 × SS × DS), jj p l e R s m args below meth c (hA G) (res.2.2.2 + 25) (jZ below args s (hA G) (res.2.2.2 + 25) (jUs res) (aWo G) anx) (cWo G r.2.2) (cnx r.2.2) nL r.2.1 (pc + 3) lv (.int r.1 :: st) (K r = some res)) : jj p l e R s m args below meth c (hA G) (res.2.2.2 + 25) (jZ below args s (hA G) (res.2.2.2 + 25) (jUs res) (aWo G) anx) (cWo G d) (cnx d) nL σ pc lv st0 (yh xnA d F Hh K = some res) := by
  subst hst
  intro hz
  unfold yh at hz
  cases hF : F with
  | none => rw [hF] at hz; cases hz
  | some r1 =>
    rw [hF] at hz
    simp only [Option.bind_some] at hz
    split at hz
    · rename_i hmo
      refine jy_runH (len := 3) (Ψ1 := (jUa (fun x : Int32 => .int x))) (v := fun r => some (.int r.1)) (sg := fun r => r.2.1) (dd := fun r => r.2.2) (a1 := As.toArray) hk hH hK hmo (fun r o z h => ⟨by have h1 := h.1; cases h1; rfl, h.2⟩) (fun r => rfl) (fun H locs ls hW hn hS hlv hle => ?_) kx kk hz
      exact vx_runS (As := As) (rest := st) hk.1 (hM r1 hF) (va_cwS n hk.1.2.2.2.2 hl rfl rfl rfl hy (by rw [hk.2.1]; exact hr)) ⟨ablind hH.1, fun U hU hWm => ⟨rfl, by rw [hU]; exact hW, by rw [hU]; exact hn, hH.1 _ _ hWm hK⟩⟩ rfl hlen hlv.1 rfl (lv_room hw) hd (by rw [hk.2.1]; have h9 : d.2 ≤ ynx xnA r1 := hmo; have h8 : ynx xnA r1 ≤ _ := hle; have hs0 : s.heap.size ≤ d.2 := (by have h := hS.1; rw [hn] at h; exact h); constructor <;> (show _ ≤ _; dsimp only [anx]; omega))
    · cases hz
theorem jy_SUa (hk : jk p R s m args meth c (ynx nf res) cc nL own fr lo ret) (hH : cH G KK) (hK : KK s) (ht : ∀ x ∈ c.exceptionTable.toList, False) {y : MethodName} {bytes : ByteArray} {nLc frc loc idx n : Nat} {rt : Option FieldType} {F : Option (XR (Nat × SS × DS))} {K : (Nat × SS × DS) → Option (XR τ)} (As : List Value) {st0 : List Value} (hM : ∀ r, F = some r → jMY l y (ws_ y bytes nLc rt) frc loc (As) G KK (σ, d) xnA (jUa (fun x : Nat => .ref x)) r)
    (hl : GoodIn lw_all (va_wsS own idx y (ws_ y bytes nLc rt))) (hy : y.cls ≠ "java/lang/invoke/MethodHandle" ∧ y.cls ≠ "java/lang/invoke/VarHandle" ∧ (parseMethodDescriptor y.desc).map (fun d => d.parameters.length) = some n) (hlen : As.length = n) (hst : st0 = (As.reverse ++ st)) (hd : decode cc pc = .ok (.invokestatic idx, 3)) (hr : frc + 1 ≤ fr ∧ 8 + (nLc + 11) + loc ≤ lo) (hw : (st.map fun v => v.category).sum ≤ 8)
    (kk : ∀ r : (Nat × SS × DS), jj p l e R s m args below meth c (hA G) (ynx nf res) (jZY below args s G nf Ψ res) (cWo G r.2.2) (cnx r.2.2) nL r.2.1 (pc + 3) lv (.ref r.1 :: st) (K r = some res)) : jj p l e R s m args below meth c (hA G) (ynx nf res) (jZY below args s G nf Ψ res) (cWo G d) (cnx d) nL σ pc lv st0 (yb xnA d F K = some res) := by
  subst hst
  intro hz
  unfold yb at hz
  cases hF : F with
  | none => rw [hF] at hz; cases hz
  | some r1 =>
    rw [hF] at hz
    simp only [Option.bind_some] at hz
    split at hz
    · rename_i hmo
      refine jy_run (len := 3) (Ψ1 := (jUa (fun x : Nat => .ref x))) (v := fun r => some (.ref r.1)) (sg := fun r => r.2.1) (dd := fun r => r.2.2) (a1 := As.toArray) hk hH ht hmo (fun r o z h => ⟨by have h1 := h.1; cases h1; rfl, h.2⟩) (fun r => rfl) (fun H locs ls hW hn hS hlv hle => ?_) kk hz
      exact vx_runS (As := As) (rest := st) hk.1 (hM r1 hF) (va_cwS n hk.1.2.2.2.2 hl rfl rfl rfl hy (by rw [hk.2.1]; exact hr)) ⟨ablind hH.1, fun U hU hWm => ⟨rfl, by rw [hU]; exact hW, by rw [hU]; exact hn, hH.1 _ _ hWm hK⟩⟩ rfl hlen hlv.1 rfl (lv_room hw) hd (by rw [hk.2.1]; have h9 : d.2 ≤ ynx xnA r1 := hmo; have h8 : ynx xnA r1 ≤ _ := hle; have hs0 : s.heap.size ≤ d.2 := (by have h := hS.1; rw [hn] at h; exact h); constructor <;> (show _ ≤ _; dsimp only [anx]; omega))
    · cases hz
theorem jyh_SUa {res : Int32 × SS × DS} (hk : jk p R s m args meth c (res.2.2.2 + 25) cc nL own fr lo ret) (hH : cH G KK) (hK : KK s) {y : MethodName} {bytes : ByteArray} {nLc frc loc idx n : Nat} {rt : Option FieldType} {F : Option (XR (Nat × SS × DS))} {K : (Nat × SS × DS) → Option (Int32 × SS × DS)} {Hh : Nat × SS × DS → Option (Int32 × SS)} (As : List Value) {st0 : List Value} (hM : ∀ r, F = some r → jMY l y (ws_ y bytes nLc rt) frc loc (As) G KK (σ, d) xnA (jUa (fun x : Nat => .ref x)) r)
    (hl : GoodIn lw_all (va_wsS own idx y (ws_ y bytes nLc rt))) (hy : y.cls ≠ "java/lang/invoke/MethodHandle" ∧ y.cls ≠ "java/lang/invoke/VarHandle" ∧ (parseMethodDescriptor y.desc).map (fun d => d.parameters.length) = some n) (hlen : As.length = n) (hst : st0 = (As.reverse ++ st)) (hd : decode cc pc = .ok (.invokestatic idx, 3)) (hr : frc + 1 ≤ fr ∧ 8 + (nLc + 11) + loc ≤ lo) (hw : (st.map fun v => v.category).sum ≤ 8)
    (kx : ∀ (y : Nat × SS × DS) (r' : Int32 × SS), Hh y = some r' → ∃ h, jCatch s c own (yE y.1) args pc h ∧ ∀ (R : Room) (s : State) (q : Nat) (d' : DS), (y.1 ≤ 2 → q = ha G y.1) → jk p R s m args meth c d'.2 cc nL own fr lo ret → KK s → jj p l e R s m args below meth c (hA G) d'.2 (jZ below args s (hA G) d'.2 (jU r') (cWo G d') (cnx d')) (cWo G d') (cnx d') nL y.2.1 h lv [.ref q] (Hh y = some r')) (kk : ∀ r : (Nat × SS × DS), jj p l e R s m args below meth c (hA G) (res.2.2.2 + 25) (jZ below args s (hA G) (res.2.2.2 + 25) (jUs res) (aWo G) anx) (cWo G r.2.2) (cnx r.2.2) nL r.2.1 (pc + 3) lv (.ref r.1 :: st) (K r = some res)) : jj p l e R s m args below meth c (hA G) (res.2.2.2 + 25) (jZ below args s (hA G) (res.2.2.2 + 25) (jUs res) (aWo G) anx) (cWo G d) (cnx d) nL σ pc lv st0 (yh xnA d F Hh K = some res) := by
  subst hst
  intro hz
  unfold yh at hz
  cases hF : F with
  | none => rw [hF] at hz; cases hz
  | some r1 =>
    rw [hF] at hz
    simp only [Option.bind_some] at hz
    split at hz
    · rename_i hmo
      refine jy_runH (len := 3) (Ψ1 := (jUa (fun x : Nat => .ref x))) (v := fun r => some (.ref r.1)) (sg := fun r => r.2.1) (dd := fun r => r.2.2) (a1 := As.toArray) hk hH hK hmo (fun r o z h => ⟨by have h1 := h.1; cases h1; rfl, h.2⟩) (fun r => rfl) (fun H locs ls hW hn hS hlv hle => ?_) kx kk hz
      exact vx_runS (As := As) (rest := st) hk.1 (hM r1 hF) (va_cwS n hk.1.2.2.2.2 hl rfl rfl rfl hy (by rw [hk.2.1]; exact hr)) ⟨ablind hH.1, fun U hU hWm => ⟨rfl, by rw [hU]; exact hW, by rw [hU]; exact hn, hH.1 _ _ hWm hK⟩⟩ rfl hlen hlv.1 rfl (lv_room hw) hd (by rw [hk.2.1]; have h9 : d.2 ≤ ynx xnA r1 := hmo; have h8 : ynx xnA r1 ≤ _ := hle; have hs0 : s.heap.size ≤ d.2 := (by have h := hS.1; rw [hn] at h; exact h); constructor <;> (show _ ≤ _; dsimp only [anx]; omega))
    · cases hz
theorem jy_SUo (hk : jk p R s m args meth c (ynx nf res) cc nL own fr lo ret) (hH : cH G KK) (hK : KK s) (ht : ∀ x ∈ c.exceptionTable.toList, False) {y : MethodName} {bytes : ByteArray} {nLc frc loc idx n : Nat} {rt : Option FieldType} {F : Option (XR (Option Nat × SS × DS))} {K : (Option Nat × SS × DS) → Option (XR τ)} (As : List Value) {st0 : List Value} (hM : ∀ r, F = some r → jMY l y (ws_ y bytes nLc rt) frc loc (As) G KK (σ, d) xnA (jUa va_rf) r)
    (hl : GoodIn lw_all (va_wsS own idx y (ws_ y bytes nLc rt))) (hy : y.cls ≠ "java/lang/invoke/MethodHandle" ∧ y.cls ≠ "java/lang/invoke/VarHandle" ∧ (parseMethodDescriptor y.desc).map (fun d => d.parameters.length) = some n) (hlen : As.length = n) (hst : st0 = (As.reverse ++ st)) (hd : decode cc pc = .ok (.invokestatic idx, 3)) (hr : frc + 1 ≤ fr ∧ 8 + (nLc + 11) + loc ≤ lo) (hw : (st.map fun v => v.category).sum ≤ 8)
    (kk : ∀ r : (Option Nat × SS × DS), jj p l e R s m args below meth c (hA G) (ynx nf res) (jZY below args s G nf Ψ res) (cWo G r.2.2) (cnx r.2.2) nL r.2.1 (pc + 3) lv (va_rf r.1 :: st) (K r = some res)) : jj p l e R s m args below meth c (hA G) (ynx nf res) (jZY below args s G nf Ψ res) (cWo G d) (cnx d) nL σ pc lv st0 (yb xnA d F K = some res) := by
  subst hst
  intro hz
  unfold yb at hz
  cases hF : F with
  | none => rw [hF] at hz; cases hz
  | some r1 =>
    rw [hF] at hz
    simp only [Option.bind_some] at hz
    split at hz
    · rename_i hmo
      refine jy_run (len := 3) (Ψ1 := (jUa va_rf)) (v := fun r => some (va_rf r.1)) (sg := fun r => r.2.1) (dd := fun r => r.2.2) (a1 := As.toArray) hk hH ht hmo (fun r o z h => ⟨by have h1 := h.1; cases h1; rfl, h.2⟩) (fun r => rfl) (fun H locs ls hW hn hS hlv hle => ?_) kk hz
      exact vx_runS (As := As) (rest := st) hk.1 (hM r1 hF) (va_cwS n hk.1.2.2.2.2 hl rfl rfl rfl hy (by rw [hk.2.1]; exact hr)) ⟨ablind hH.1, fun U hU hWm => ⟨rfl, by rw [hU]; exact hW, by rw [hU]; exact hn, hH.1 _ _ hWm hK⟩⟩ rfl hlen hlv.1 rfl (lv_room hw) hd (by rw [hk.2.1]; have h9 : d.2 ≤ ynx xnA r1 := hmo; have h8 : ynx xnA r1 ≤ _ := hle; have hs0 : s.heap.size ≤ d.2 := (by have h := hS.1; rw [hn] at h; exact h); constructor <;> (show _ ≤ _; dsimp only [anx]; omega))
    · cases hz
theorem jyh_SUo {res : Int32 × SS × DS} (hk : jk p R s m args meth c (res.2.2.2 + 25) cc nL own fr lo ret) (hH : cH G KK) (hK : KK s) {y : MethodName} {bytes : ByteArray} {nLc frc loc idx n : Nat} {rt : Option FieldType} {F : Option (XR (Option Nat × SS × DS))} {K : (Option Nat × SS × DS) → Option (Int32 × SS × DS)} {Hh : Nat × SS × DS → Option (Int32 × SS)} (As : List Value) {st0 : List Value} (hM : ∀ r, F = some r → jMY l y (ws_ y bytes nLc rt) frc loc (As) G KK (σ, d) xnA (jUa va_rf) r)
    (hl : GoodIn lw_all (va_wsS own idx y (ws_ y bytes nLc rt))) (hy : y.cls ≠ "java/lang/invoke/MethodHandle" ∧ y.cls ≠ "java/lang/invoke/VarHandle" ∧ (parseMethodDescriptor y.desc).map (fun d => d.parameters.length) = some n) (hlen : As.length = n) (hst : st0 = (As.reverse ++ st)) (hd : decode cc pc = .ok (.invokestatic idx, 3)) (hr : frc + 1 ≤ fr ∧ 8 + (nLc + 11) + loc ≤ lo) (hw : (st.map fun v => v.category).sum ≤ 8)
    (kx : ∀ (y : Nat × SS × DS) (r' : Int32 × SS), Hh y = some r' → ∃ h, jCatch s c own (yE y.1) args pc h ∧ ∀ (R : Room) (s : State) (q : Nat) (d' : DS), (y.1 ≤ 2 → q = ha G y.1) → jk p R s m args meth c d'.2 cc nL own fr lo ret → KK s → jj p l e R s m args below meth c (hA G) d'.2 (jZ below args s (hA G) d'.2 (jU r') (cWo G d') (cnx d')) (cWo G d') (cnx d') nL y.2.1 h lv [.ref q] (Hh y = some r')) (kk : ∀ r : (Option Nat × SS × DS), jj p l e R s m args below meth c (hA G) (res.2.2.2 + 25) (jZ below args s (hA G) (res.2.2.2 + 25) (jUs res) (aWo G) anx) (cWo G r.2.2) (cnx r.2.2) nL r.2.1 (pc + 3) lv (va_rf r.1 :: st) (K r = some res)) : jj p l e R s m args below meth c (hA G) (res.2.2.2 + 25) (jZ below args s (hA G) (res.2.2.2 + 25) (jUs res) (aWo G) anx) (cWo G d) (cnx d) nL σ pc lv st0 (yh xnA d F Hh K = some res) := by
  subst hst
  intro hz
  unfold yh at hz
  cases hF : F with
  | none => rw [hF] at hz; cases hz
  | some r1 =>
    rw [hF] at hz
    simp only [Option.bind_some] at hz
    split at hz
    · rename_i hmo
      refine jy_runH (len := 3) (Ψ1 := (jUa va_rf)) (v := fun r => some (va_rf r.1)) (sg := fun r => r.2.1) (dd := fun r => r.2.2) (a1 := As.toArray) hk hH hK hmo (fun r o z h => ⟨by have h1 := h.1; cases h1; rfl, h.2⟩) (fun r => rfl) (fun H locs ls hW hn hS hlv hle => ?_) kx kk hz
      exact vx_runS (As := As) (rest := st) hk.1 (hM r1 hF) (va_cwS n hk.1.2.2.2.2 hl rfl rfl rfl hy (by rw [hk.2.1]; exact hr)) ⟨ablind hH.1, fun U hU hWm => ⟨rfl, by rw [hU]; exact hW, by rw [hU]; exact hn, hH.1 _ _ hWm hK⟩⟩ rfl hlen hlv.1 rfl (lv_room hw) hd (by rw [hk.2.1]; have h9 : d.2 ≤ ynx xnA r1 := hmo; have h8 : ynx xnA r1 ≤ _ := hle; have hs0 : s.heap.size ≤ d.2 := (by have h := hS.1; rw [hn] at h; exact h); constructor <;> (show _ ≤ _; dsimp only [anx]; omega))
    · cases hz
theorem jy_SV (hk : jk p R s m args meth c (ynx nf res) cc nL own fr lo ret) (hH : cH G KK) (hK : KK s) (ht : ∀ x ∈ c.exceptionTable.toList, False) {y : MethodName} {bytes : ByteArray} {nLc frc loc idx n : Nat} {rt : Option FieldType} {F : Option (XR (SS × DS))} {K : (SS × DS) → Option (XR τ)} (As : List Value) {st0 : List Value} (hM : ∀ r, F = some r → jMY l y (ws_ y bytes nLc rt) frc loc (As) G KK (σ, d) xnV jVa r)
    (hl : GoodIn lw_all (va_wsS own idx y (ws_ y bytes nLc rt))) (hy : y.cls ≠ "java/lang/invoke/MethodHandle" ∧ y.cls ≠ "java/lang/invoke/VarHandle" ∧ (parseMethodDescriptor y.desc).map (fun d => d.parameters.length) = some n) (hlen : As.length = n) (hst : st0 = (As.reverse ++ st)) (hd : decode cc pc = .ok (.invokestatic idx, 3)) (hr : frc + 1 ≤ fr ∧ 8 + (nLc + 11) + loc ≤ lo) (hw : (st.map fun v => v.category).sum ≤ 8)
    (kk : ∀ r : (SS × DS), jj p l e R s m args below meth c (hA G) (ynx nf res) (jZY below args s G nf Ψ res) (cWo G r.2) (cnx r.2) nL r.1 (pc + 3) lv st (K r = some res)) : jj p l e R s m args below meth c (hA G) (ynx nf res) (jZY below args s G nf Ψ res) (cWo G d) (cnx d) nL σ pc lv st0 (yb xnV d F K = some res) := by
  subst hst
  intro hz
  unfold yb at hz
  cases hF : F with
  | none => rw [hF] at hz; cases hz
  | some r1 =>
    rw [hF] at hz
    simp only [Option.bind_some] at hz
    split at hz
    · rename_i hmo
      refine jy_run (len := 3) (Ψ1 := jVa) (v := fun r => none) (sg := fun r => r.1) (dd := fun r => r.2) (a1 := As.toArray) hk hH ht hmo (fun r o z h => ⟨by have h1 := h.1; cases h1; rfl, h.2⟩) (fun r => rfl) (fun H locs ls hW hn hS hlv hle => ?_) kk hz
      exact vx_runS (As := As) (rest := st) hk.1 (hM r1 hF) (va_cwS n hk.1.2.2.2.2 hl rfl rfl rfl hy (by rw [hk.2.1]; exact hr)) ⟨ablind hH.1, fun U hU hWm => ⟨rfl, by rw [hU]; exact hW, by rw [hU]; exact hn, hH.1 _ _ hWm hK⟩⟩ rfl hlen hlv.1 rfl (lv_room hw) hd (by rw [hk.2.1]; have h9 : d.2 ≤ ynx xnV r1 := hmo; have h8 : ynx xnV r1 ≤ _ := hle; have hs0 : s.heap.size ≤ d.2 := (by have h := hS.1; rw [hn] at h; exact h); constructor <;> (show _ ≤ _; dsimp only [anx]; omega))
    · cases hz
theorem jyh_SV {res : Int32 × SS × DS} (hk : jk p R s m args meth c (res.2.2.2 + 25) cc nL own fr lo ret) (hH : cH G KK) (hK : KK s) {y : MethodName} {bytes : ByteArray} {nLc frc loc idx n : Nat} {rt : Option FieldType} {F : Option (XR (SS × DS))} {K : (SS × DS) → Option (Int32 × SS × DS)} {Hh : Nat × SS × DS → Option (Int32 × SS)} (As : List Value) {st0 : List Value} (hM : ∀ r, F = some r → jMY l y (ws_ y bytes nLc rt) frc loc (As) G KK (σ, d) xnV jVa r)
    (hl : GoodIn lw_all (va_wsS own idx y (ws_ y bytes nLc rt))) (hy : y.cls ≠ "java/lang/invoke/MethodHandle" ∧ y.cls ≠ "java/lang/invoke/VarHandle" ∧ (parseMethodDescriptor y.desc).map (fun d => d.parameters.length) = some n) (hlen : As.length = n) (hst : st0 = (As.reverse ++ st)) (hd : decode cc pc = .ok (.invokestatic idx, 3)) (hr : frc + 1 ≤ fr ∧ 8 + (nLc + 11) + loc ≤ lo) (hw : (st.map fun v => v.category).sum ≤ 8)
    (kx : ∀ (y : Nat × SS × DS) (r' : Int32 × SS), Hh y = some r' → ∃ h, jCatch s c own (yE y.1) args pc h ∧ ∀ (R : Room) (s : State) (q : Nat) (d' : DS), (y.1 ≤ 2 → q = ha G y.1) → jk p R s m args meth c d'.2 cc nL own fr lo ret → KK s → jj p l e R s m args below meth c (hA G) d'.2 (jZ below args s (hA G) d'.2 (jU r') (cWo G d') (cnx d')) (cWo G d') (cnx d') nL y.2.1 h lv [.ref q] (Hh y = some r')) (kk : ∀ r : (SS × DS), jj p l e R s m args below meth c (hA G) (res.2.2.2 + 25) (jZ below args s (hA G) (res.2.2.2 + 25) (jUs res) (aWo G) anx) (cWo G r.2) (cnx r.2) nL r.1 (pc + 3) lv st (K r = some res)) : jj p l e R s m args below meth c (hA G) (res.2.2.2 + 25) (jZ below args s (hA G) (res.2.2.2 + 25) (jUs res) (aWo G) anx) (cWo G d) (cnx d) nL σ pc lv st0 (yh xnV d F Hh K = some res) := by
  subst hst
  intro hz
  unfold yh at hz
  cases hF : F with
  | none => rw [hF] at hz; cases hz
  | some r1 =>
    rw [hF] at hz
    simp only [Option.bind_some] at hz
    split at hz
    · rename_i hmo
      refine jy_runH (len := 3) (Ψ1 := jVa) (v := fun r => none) (sg := fun r => r.1) (dd := fun r => r.2) (a1 := As.toArray) hk hH hK hmo (fun r o z h => ⟨by have h1 := h.1; cases h1; rfl, h.2⟩) (fun r => rfl) (fun H locs ls hW hn hS hlv hle => ?_) kx kk hz
      exact vx_runS (As := As) (rest := st) hk.1 (hM r1 hF) (va_cwS n hk.1.2.2.2.2 hl rfl rfl rfl hy (by rw [hk.2.1]; exact hr)) ⟨ablind hH.1, fun U hU hWm => ⟨rfl, by rw [hU]; exact hW, by rw [hU]; exact hn, hH.1 _ _ hWm hK⟩⟩ rfl hlen hlv.1 rfl (lv_room hw) hd (by rw [hk.2.1]; have h9 : d.2 ≤ ynx xnV r1 := hmo; have h8 : ynx xnV r1 ≤ _ := hle; have hs0 : s.heap.size ≤ d.2 := (by have h := hS.1; rw [hn] at h; exact h); constructor <;> (show _ ≤ _; dsimp only [anx]; omega))
    · cases hz
theorem jy_VUi (hk : jk p R s m args meth c (ynx nf res) cc nL own fr lo ret) (hH : cH G KK) (hK : KK s) (ht : ∀ x ∈ c.exceptionTable.toList, False) {y : MethodName} {bytes : ByteArray} {C : String} {b : Nat} {nLc frc loc idx n : Nat} {rt : Option FieldType} {F : Option (XR (Int32 × SS × DS))} {K : (Int32 × SS × DS) → Option (XR τ)} (As : List Value) {st0 : List Value} (hM : ∀ r, F = some r → jMY l y (ws_ y bytes nLc rt) frc loc (.ref b :: As) G KK (σ, d) xnA (jUa (fun x : Int32 => .int x)) r)
    (hl : GoodIn lw_all (wsV own idx C y (ws_ y bytes nLc rt))) (hrv : cRv G d σ s b C) (hy : y.cls = C ∧ y.cls ≠ "java/lang/invoke/MethodHandle" ∧ y.cls ≠ "java/lang/invoke/VarHandle" ∧ (parseMethodDescriptor y.desc).map (fun d => d.parameters.length) = some n) (hlen : As.length = n) (hst : st0 = (As.reverse ++ .ref b :: st)) (hd : decode cc pc = .ok (.invokevirtual idx, 3)) (hr : frc + 1 ≤ fr ∧ 8 + (nLc + 11) + loc ≤ lo) (hw : (st.map fun v => v.category).sum ≤ 8)
    (kk : ∀ r : (Int32 × SS × DS), jj p l e R s m args below meth c (hA G) (ynx nf res) (jZY below args s G nf Ψ res) (cWo G r.2.2) (cnx r.2.2) nL r.2.1 (pc + 3) lv (.int r.1 :: st) (K r = some res)) : jj p l e R s m args below meth c (hA G) (ynx nf res) (jZY below args s G nf Ψ res) (cWo G d) (cnx d) nL σ pc lv st0 (yb xnA d F K = some res) := by
  subst hst
  intro hz
  unfold yb at hz
  cases hF : F with
  | none => rw [hF] at hz; cases hz
  | some r1 =>
    rw [hF] at hz
    simp only [Option.bind_some] at hz
    split at hz
    · rename_i hmo
      refine jy_run (len := 3) (Ψ1 := (jUa (fun x : Int32 => .int x))) (v := fun r => some (.int r.1)) (sg := fun r => r.2.1) (dd := fun r => r.2.2) (a1 := (Value.ref b :: As).toArray) hk hH ht hmo (fun r o z h => ⟨by have h1 := h.1; cases h1; rfl, h.2⟩) (fun r => rfl) (fun H locs ls hW hn hS hlv hle => ?_) kk hz
      exact vx_runV (As := As) (rest := st) hk.1 (hM r1 hF) (cwV n hk.1.2.2.2.2 hl rfl rfl rfl hy (by rw [hk.2.1]; exact hr)) ⟨ablind hH.1, hrv H hW, fun U hU hWm => ⟨rfl, by rw [hU]; exact hW, by rw [hU]; exact hn, hH.1 _ _ hWm hK⟩⟩ rfl hlen hlv.1 rfl (lv_room hw) hd (by rw [hk.2.1]; have h9 : d.2 ≤ ynx xnA r1 := hmo; have h8 : ynx xnA r1 ≤ _ := hle; have hs0 : s.heap.size ≤ d.2 := (by have h := hS.1; rw [hn] at h; exact h); constructor <;> (show _ ≤ _; dsimp only [anx]; omega))
    · cases hz
theorem jyh_VUi {res : Int32 × SS × DS} (hk : jk p R s m args meth c (res.2.2.2 + 25) cc nL own fr lo ret) (hH : cH G KK) (hK : KK s) {y : MethodName} {bytes : ByteArray} {C : String} {b : Nat} {nLc frc loc idx n : Nat} {rt : Option FieldType} {F : Option (XR (Int32 × SS × DS))} {K : (Int32 × SS × DS) → Option (Int32 × SS × DS)} {Hh : Nat × SS × DS → Option (Int32 × SS)} (As : List Value) {st0 : List Value} (hM : ∀ r, F = some r → jMY l y (ws_ y bytes nLc rt) frc loc (.ref b :: As) G KK (σ, d) xnA (jUa (fun x : Int32 => .int x)) r)
    (hl : GoodIn lw_all (wsV own idx C y (ws_ y bytes nLc rt))) (hrv : cRv G d σ s b C) (hy : y.cls = C ∧ y.cls ≠ "java/lang/invoke/MethodHandle" ∧ y.cls ≠ "java/lang/invoke/VarHandle" ∧ (parseMethodDescriptor y.desc).map (fun d => d.parameters.length) = some n) (hlen : As.length = n) (hst : st0 = (As.reverse ++ .ref b :: st)) (hd : decode cc pc = .ok (.invokevirtual idx, 3)) (hr : frc + 1 ≤ fr ∧ 8 + (nLc + 11) + loc ≤ lo) (hw : (st.map fun v => v.category).sum ≤ 8)
    (kx : ∀ (y : Nat × SS × DS) (r' : Int32 × SS), Hh y = some r' → ∃ h, jCatch s c own (yE y.1) args pc h ∧ ∀ (R : Room) (s : State) (q : Nat) (d' : DS), (y.1 ≤ 2 → q = ha G y.1) → jk p R s m args meth c d'.2 cc nL own fr lo ret → KK s → jj p l e R s m args below meth c (hA G) d'.2 (jZ below args s (hA G) d'.2 (jU r') (cWo G d') (cnx d')) (cWo G d') (cnx d') nL y.2.1 h lv [.ref q] (Hh y = some r')) (kk : ∀ r : (Int32 × SS × DS), jj p l e R s m args below meth c (hA G) (res.2.2.2 + 25) (jZ below args s (hA G) (res.2.2.2 + 25) (jUs res) (aWo G) anx) (cWo G r.2.2) (cnx r.2.2) nL r.2.1 (pc + 3) lv (.int r.1 :: st) (K r = some res)) : jj p l e R s m args below meth c (hA G) (res.2.2.2 + 25) (jZ below args s (hA G) (res.2.2.2 + 25) (jUs res) (aWo G) anx) (cWo G d) (cnx d) nL σ pc lv st0 (yh xnA d F Hh K = some res) := by
  subst hst
  intro hz
  unfold yh at hz
  cases hF : F with
  | none => rw [hF] at hz; cases hz
  | some r1 =>
    rw [hF] at hz
    simp only [Option.bind_some] at hz
    split at hz
    · rename_i hmo
      refine jy_runH (len := 3) (Ψ1 := (jUa (fun x : Int32 => .int x))) (v := fun r => some (.int r.1)) (sg := fun r => r.2.1) (dd := fun r => r.2.2) (a1 := (Value.ref b :: As).toArray) hk hH hK hmo (fun r o z h => ⟨by have h1 := h.1; cases h1; rfl, h.2⟩) (fun r => rfl) (fun H locs ls hW hn hS hlv hle => ?_) kx kk hz
      exact vx_runV (As := As) (rest := st) hk.1 (hM r1 hF) (cwV n hk.1.2.2.2.2 hl rfl rfl rfl hy (by rw [hk.2.1]; exact hr)) ⟨ablind hH.1, hrv H hW, fun U hU hWm => ⟨rfl, by rw [hU]; exact hW, by rw [hU]; exact hn, hH.1 _ _ hWm hK⟩⟩ rfl hlen hlv.1 rfl (lv_room hw) hd (by rw [hk.2.1]; have h9 : d.2 ≤ ynx xnA r1 := hmo; have h8 : ynx xnA r1 ≤ _ := hle; have hs0 : s.heap.size ≤ d.2 := (by have h := hS.1; rw [hn] at h; exact h); constructor <;> (show _ ≤ _; dsimp only [anx]; omega))
    · cases hz
theorem jy_VUa (hk : jk p R s m args meth c (ynx nf res) cc nL own fr lo ret) (hH : cH G KK) (hK : KK s) (ht : ∀ x ∈ c.exceptionTable.toList, False) {y : MethodName} {bytes : ByteArray} {C : String} {b : Nat} {nLc frc loc idx n : Nat} {rt : Option FieldType} {F : Option (XR (Nat × SS × DS))} {K : (Nat × SS × DS) → Option (XR τ)} (As : List Value) {st0 : List Value} (hM : ∀ r, F = some r → jMY l y (ws_ y bytes nLc rt) frc loc (.ref b :: As) G KK (σ, d) xnA (jUa (fun x : Nat => .ref x)) r)
    (hl : GoodIn lw_all (wsV own idx C y (ws_ y bytes nLc rt))) (hrv : cRv G d σ s b C) (hy : y.cls = C ∧ y.cls ≠ "java/lang/invoke/MethodHandle" ∧ y.cls ≠ "java/lang/invoke/VarHandle" ∧ (parseMethodDescriptor y.desc).map (fun d => d.parameters.length) = some n) (hlen : As.length = n) (hst : st0 = (As.reverse ++ .ref b :: st)) (hd : decode cc pc = .ok (.invokevirtual idx, 3)) (hr : frc + 1 ≤ fr ∧ 8 + (nLc + 11) + loc ≤ lo) (hw : (st.map fun v => v.category).sum ≤ 8)
    (kk : ∀ r : (Nat × SS × DS), jj p l e R s m args below meth c (hA G) (ynx nf res) (jZY below args s G nf Ψ res) (cWo G r.2.2) (cnx r.2.2) nL r.2.1 (pc + 3) lv (.ref r.1 :: st) (K r = some res)) : jj p l e R s m args below meth c (hA G) (ynx nf res) (jZY below args s G nf Ψ res) (cWo G d) (cnx d) nL σ pc lv st0 (yb xnA d F K = some res) := by
  subst hst
  intro hz
  unfold yb at hz
  cases hF : F with
  | none => rw [hF] at hz; cases hz
  | some r1 =>
    rw [hF] at hz
    simp only [Option.bind_some] at hz
    split at hz
    · rename_i hmo
      refine jy_run (len := 3) (Ψ1 := (jUa (fun x : Nat => .ref x))) (v := fun r => some (.ref r.1)) (sg := fun r => r.2.1) (dd := fun r => r.2.2) (a1 := (Value.ref b :: As).toArray) hk hH ht hmo (fun r o z h => ⟨by have h1 := h.1; cases h1; rfl, h.2⟩) (fun r => rfl) (fun H locs ls hW hn hS hlv hle => ?_) kk hz
      exact vx_runV (As := As) (rest := st) hk.1 (hM r1 hF) (cwV n hk.1.2.2.2.2 hl rfl rfl rfl hy (by rw [hk.2.1]; exact hr)) ⟨ablind hH.1, hrv H hW, fun U hU hWm => ⟨rfl, by rw [hU]; exact hW, by rw [hU]; exact hn, hH.1 _ _ hWm hK⟩⟩ rfl hlen hlv.1 rfl (lv_room hw) hd (by rw [hk.2.1]; have h9 : d.2 ≤ ynx xnA r1 := hmo; have h8 : ynx xnA r1 ≤ _ := hle; have hs0 : s.heap.size ≤ d.2 := (by have h := hS.1; rw [hn] at h; exact h); constructor <;> (show _ ≤ _; dsimp only [anx]; omega))
    · cases hz
theorem jyh_VUa {res : Int32 × SS × DS} (hk : jk p R s m args meth c (res.2.2.2 + 25) cc nL own fr lo ret) (hH : cH G KK) (hK : KK s) {y : MethodName} {bytes : ByteArray} {C : String} {b : Nat} {nLc frc loc idx n : Nat} {rt : Option FieldType} {F : Option (XR (Nat × SS × DS))} {K : (Nat × SS × DS) → Option (Int32 × SS × DS)} {Hh : Nat × SS × DS → Option (Int32 × SS)} (As : List Value) {st0 : List Value} (hM : ∀ r, F = some r → jMY l y (ws_ y bytes nLc rt) frc loc (.ref b :: As) G KK (σ, d) xnA (jUa (fun x : Nat => .ref x)) r)
    (hl : GoodIn lw_all (wsV own idx C y (ws_ y bytes nLc rt))) (hrv : cRv G d σ s b C) (hy : y.cls = C ∧ y.cls ≠ "java/lang/invoke/MethodHandle" ∧ y.cls ≠ "java/lang/invoke/VarHandle" ∧ (parseMethodDescriptor y.desc).map (fun d => d.parameters.length) = some n) (hlen : As.length = n) (hst : st0 = (As.reverse ++ .ref b :: st)) (hd : decode cc pc = .ok (.invokevirtual idx, 3)) (hr : frc + 1 ≤ fr ∧ 8 + (nLc + 11) + loc ≤ lo) (hw : (st.map fun v => v.category).sum ≤ 8)
    (kx : ∀ (y : Nat × SS × DS) (r' : Int32 × SS), Hh y = some r' → ∃ h, jCatch s c own (yE y.1) args pc h ∧ ∀ (R : Room) (s : State) (q : Nat) (d' : DS), (y.1 ≤ 2 → q = ha G y.1) → jk p R s m args meth c d'.2 cc nL own fr lo ret → KK s → jj p l e R s m args below meth c (hA G) d'.2 (jZ below args s (hA G) d'.2 (jU r') (cWo G d') (cnx d')) (cWo G d') (cnx d') nL y.2.1 h lv [.ref q] (Hh y = some r')) (kk : ∀ r : (Nat × SS × DS), jj p l e R s m args below meth c (hA G) (res.2.2.2 + 25) (jZ below args s (hA G) (res.2.2.2 + 25) (jUs res) (aWo G) anx) (cWo G r.2.2) (cnx r.2.2) nL r.2.1 (pc + 3) lv (.ref r.1 :: st) (K r = some res)) : jj p l e R s m args below meth c (hA G) (res.2.2.2 + 25) (jZ below args s (hA G) (res.2.2.2 + 25) (jUs res) (aWo G) anx) (cWo G d) (cnx d) nL σ pc lv st0 (yh xnA d F Hh K = some res) := by
  subst hst
  intro hz
  unfold yh at hz
  cases hF : F with
  | none => rw [hF] at hz; cases hz
  | some r1 =>
    rw [hF] at hz
    simp only [Option.bind_some] at hz
    split at hz
    · rename_i hmo
      refine jy_runH (len := 3) (Ψ1 := (jUa (fun x : Nat => .ref x))) (v := fun r => some (.ref r.1)) (sg := fun r => r.2.1) (dd := fun r => r.2.2) (a1 := (Value.ref b :: As).toArray) hk hH hK hmo (fun r o z h => ⟨by have h1 := h.1; cases h1; rfl, h.2⟩) (fun r => rfl) (fun H locs ls hW hn hS hlv hle => ?_) kx kk hz
      exact vx_runV (As := As) (rest := st) hk.1 (hM r1 hF) (cwV n hk.1.2.2.2.2 hl rfl rfl rfl hy (by rw [hk.2.1]; exact hr)) ⟨ablind hH.1, hrv H hW, fun U hU hWm => ⟨rfl, by rw [hU]; exact hW, by rw [hU]; exact hn, hH.1 _ _ hWm hK⟩⟩ rfl hlen hlv.1 rfl (lv_room hw) hd (by rw [hk.2.1]; have h9 : d.2 ≤ ynx xnA r1 := hmo; have h8 : ynx xnA r1 ≤ _ := hle; have hs0 : s.heap.size ≤ d.2 := (by have h := hS.1; rw [hn] at h; exact h); constructor <;> (show _ ≤ _; dsimp only [anx]; omega))
    · cases hz
theorem jy_VUo (hk : jk p R s m args meth c (ynx nf res) cc nL own fr lo ret) (hH : cH G KK) (hK : KK s) (ht : ∀ x ∈ c.exceptionTable.toList, False) {y : MethodName} {bytes : ByteArray} {C : String} {b : Nat} {nLc frc loc idx n : Nat} {rt : Option FieldType} {F : Option (XR (Option Nat × SS × DS))} {K : (Option Nat × SS × DS) → Option (XR τ)} (As : List Value) {st0 : List Value} (hM : ∀ r, F = some r → jMY l y (ws_ y bytes nLc rt) frc loc (.ref b :: As) G KK (σ, d) xnA (jUa va_rf) r)
    (hl : GoodIn lw_all (wsV own idx C y (ws_ y bytes nLc rt))) (hrv : cRv G d σ s b C) (hy : y.cls = C ∧ y.cls ≠ "java/lang/invoke/MethodHandle" ∧ y.cls ≠ "java/lang/invoke/VarHandle" ∧ (parseMethodDescriptor y.desc).map (fun d => d.parameters.length) = some n) (hlen : As.length = n) (hst : st0 = (As.reverse ++ .ref b :: st)) (hd : decode cc pc = .ok (.invokevirtual idx, 3)) (hr : frc + 1 ≤ fr ∧ 8 + (nLc + 11) + loc ≤ lo) (hw : (st.map fun v => v.category).sum ≤ 8)
    (kk : ∀ r : (Option Nat × SS × DS), jj p l e R s m args below meth c (hA G) (ynx nf res) (jZY below args s G nf Ψ res) (cWo G r.2.2) (cnx r.2.2) nL r.2.1 (pc + 3) lv (va_rf r.1 :: st) (K r = some res)) : jj p l e R s m args below meth c (hA G) (ynx nf res) (jZY below args s G nf Ψ res) (cWo G d) (cnx d) nL σ pc lv st0 (yb xnA d F K = some res) := by
  subst hst
  intro hz
  unfold yb at hz
  cases hF : F with
  | none => rw [hF] at hz; cases hz
  | some r1 =>
    rw [hF] at hz
    simp only [Option.bind_some] at hz
    split at hz
    · rename_i hmo
      refine jy_run (len := 3) (Ψ1 := (jUa va_rf)) (v := fun r => some (va_rf r.1)) (sg := fun r => r.2.1) (dd := fun r => r.2.2) (a1 := (Value.ref b :: As).toArray) hk hH ht hmo (fun r o z h => ⟨by have h1 := h.1; cases h1; rfl, h.2⟩) (fun r => rfl) (fun H locs ls hW hn hS hlv hle => ?_) kk hz
      exact vx_runV (As := As) (rest := st) hk.1 (hM r1 hF) (cwV n hk.1.2.2.2.2 hl rfl rfl rfl hy (by rw [hk.2.1]; exact hr)) ⟨ablind hH.1, hrv H hW, fun U hU hWm => ⟨rfl, by rw [hU]; exact hW, by rw [hU]; exact hn, hH.1 _ _ hWm hK⟩⟩ rfl hlen hlv.1 rfl (lv_room hw) hd (by rw [hk.2.1]; have h9 : d.2 ≤ ynx xnA r1 := hmo; have h8 : ynx xnA r1 ≤ _ := hle; have hs0 : s.heap.size ≤ d.2 := (by have h := hS.1; rw [hn] at h; exact h); constructor <;> (show _ ≤ _; dsimp only [anx]; omega))
    · cases hz
theorem jyh_VUo {res : Int32 × SS × DS} (hk : jk p R s m args meth c (res.2.2.2 + 25) cc nL own fr lo ret) (hH : cH G KK) (hK : KK s) {y : MethodName} {bytes : ByteArray} {C : String} {b : Nat} {nLc frc loc idx n : Nat} {rt : Option FieldType} {F : Option (XR (Option Nat × SS × DS))} {K : (Option Nat × SS × DS) → Option (Int32 × SS × DS)} {Hh : Nat × SS × DS → Option (Int32 × SS)} (As : List Value) {st0 : List Value} (hM : ∀ r, F = some r → jMY l y (ws_ y bytes nLc rt) frc loc (.ref b :: As) G KK (σ, d) xnA (jUa va_rf) r)
    (hl : GoodIn lw_all (wsV own idx C y (ws_ y bytes nLc rt))) (hrv : cRv G d σ s b C) (hy : y.cls = C ∧ y.cls ≠ "java/lang/invoke/MethodHandle" ∧ y.cls ≠ "java/lang/invoke/VarHandle" ∧ (parseMethodDescriptor y.desc).map (fun d => d.parameters.length) = some n) (hlen : As.length = n) (hst : st0 = (As.reverse ++ .ref b :: st)) (hd : decode cc pc = .ok (.invokevirtual idx, 3)) (hr : frc + 1 ≤ fr ∧ 8 + (nLc + 11) + loc ≤ lo) (hw : (st.map fun v => v.category).sum ≤ 8)
    (kx : ∀ (y : Nat × SS × DS) (r' : Int32 × SS), Hh y = some r' → ∃ h, jCatch s c own (yE y.1) args pc h ∧ ∀ (R : Room) (s : State) (q : Nat) (d' : DS), (y.1 ≤ 2 → q = ha G y.1) → jk p R s m args meth c d'.2 cc nL own fr lo ret → KK s → jj p l e R s m args below meth c (hA G) d'.2 (jZ below args s (hA G) d'.2 (jU r') (cWo G d') (cnx d')) (cWo G d') (cnx d') nL y.2.1 h lv [.ref q] (Hh y = some r')) (kk : ∀ r : (Option Nat × SS × DS), jj p l e R s m args below meth c (hA G) (res.2.2.2 + 25) (jZ below args s (hA G) (res.2.2.2 + 25) (jUs res) (aWo G) anx) (cWo G r.2.2) (cnx r.2.2) nL r.2.1 (pc + 3) lv (va_rf r.1 :: st) (K r = some res)) : jj p l e R s m args below meth c (hA G) (res.2.2.2 + 25) (jZ below args s (hA G) (res.2.2.2 + 25) (jUs res) (aWo G) anx) (cWo G d) (cnx d) nL σ pc lv st0 (yh xnA d F Hh K = some res) := by
  subst hst
  intro hz
  unfold yh at hz
  cases hF : F with
  | none => rw [hF] at hz; cases hz
  | some r1 =>
    rw [hF] at hz
    simp only [Option.bind_some] at hz
    split at hz
    · rename_i hmo
      refine jy_runH (len := 3) (Ψ1 := (jUa va_rf)) (v := fun r => some (va_rf r.1)) (sg := fun r => r.2.1) (dd := fun r => r.2.2) (a1 := (Value.ref b :: As).toArray) hk hH hK hmo (fun r o z h => ⟨by have h1 := h.1; cases h1; rfl, h.2⟩) (fun r => rfl) (fun H locs ls hW hn hS hlv hle => ?_) kx kk hz
      exact vx_runV (As := As) (rest := st) hk.1 (hM r1 hF) (cwV n hk.1.2.2.2.2 hl rfl rfl rfl hy (by rw [hk.2.1]; exact hr)) ⟨ablind hH.1, hrv H hW, fun U hU hWm => ⟨rfl, by rw [hU]; exact hW, by rw [hU]; exact hn, hH.1 _ _ hWm hK⟩⟩ rfl hlen hlv.1 rfl (lv_room hw) hd (by rw [hk.2.1]; have h9 : d.2 ≤ ynx xnA r1 := hmo; have h8 : ynx xnA r1 ≤ _ := hle; have hs0 : s.heap.size ≤ d.2 := (by have h := hS.1; rw [hn] at h; exact h); constructor <;> (show _ ≤ _; dsimp only [anx]; omega))
    · cases hz
theorem jy_VV (hk : jk p R s m args meth c (ynx nf res) cc nL own fr lo ret) (hH : cH G KK) (hK : KK s) (ht : ∀ x ∈ c.exceptionTable.toList, False) {y : MethodName} {bytes : ByteArray} {C : String} {b : Nat} {nLc frc loc idx n : Nat} {rt : Option FieldType} {F : Option (XR (SS × DS))} {K : (SS × DS) → Option (XR τ)} (As : List Value) {st0 : List Value} (hM : ∀ r, F = some r → jMY l y (ws_ y bytes nLc rt) frc loc (.ref b :: As) G KK (σ, d) xnV jVa r)
    (hl : GoodIn lw_all (wsV own idx C y (ws_ y bytes nLc rt))) (hrv : cRv G d σ s b C) (hy : y.cls = C ∧ y.cls ≠ "java/lang/invoke/MethodHandle" ∧ y.cls ≠ "java/lang/invoke/VarHandle" ∧ (parseMethodDescriptor y.desc).map (fun d => d.parameters.length) = some n) (hlen : As.length = n) (hst : st0 = (As.reverse ++ .ref b :: st)) (hd : decode cc pc = .ok (.invokevirtual idx, 3)) (hr : frc + 1 ≤ fr ∧ 8 + (nLc + 11) + loc ≤ lo) (hw : (st.map fun v => v.category).sum ≤ 8)
    (kk : ∀ r : (SS × DS), jj p l e R s m args below meth c (hA G) (ynx nf res) (jZY below args s G nf Ψ res) (cWo G r.2) (cnx r.2) nL r.1 (pc + 3) lv st (K r = some res)) : jj p l e R s m args below meth c (hA G) (ynx nf res) (jZY below args s G nf Ψ res) (cWo G d) (cnx d) nL σ pc lv st0 (yb xnV d F K = some res) := by
  subst hst
  intro hz
  unfold yb at hz
  cases hF : F with
  | none => rw [hF] at hz; cases hz
  | some r1 =>
    rw [hF] at hz
    simp only [Option.bind_some] at hz
    split at hz
    · rename_i hmo
      refine jy_run (len := 3) (Ψ1 := jVa) (v := fun r => none) (sg := fun r => r.1) (dd := fun r => r.2) (a1 := (Value.ref b :: As).toArray) hk hH ht hmo (fun r o z h => ⟨by have h1 := h.1; cases h1; rfl, h.2⟩) (fun r => rfl) (fun H locs ls hW hn hS hlv hle => ?_) kk hz
      exact vx_runV (As := As) (rest := st) hk.1 (hM r1 hF) (cwV n hk.1.2.2.2.2 hl rfl rfl rfl hy (by rw [hk.2.1]; exact hr)) ⟨ablind hH.1, hrv H hW, fun U hU hWm => ⟨rfl, by rw [hU]; exact hW, by rw [hU]; exact hn, hH.1 _ _ hWm hK⟩⟩ rfl hlen hlv.1 rfl (lv_room hw) hd (by rw [hk.2.1]; have h9 : d.2 ≤ ynx xnV r1 := hmo; have h8 : ynx xnV r1 ≤ _ := hle; have hs0 : s.heap.size ≤ d.2 := (by have h := hS.1; rw [hn] at h; exact h); constructor <;> (show _ ≤ _; dsimp only [anx]; omega))
    · cases hz
theorem jyh_VV {res : Int32 × SS × DS} (hk : jk p R s m args meth c (res.2.2.2 + 25) cc nL own fr lo ret) (hH : cH G KK) (hK : KK s) {y : MethodName} {bytes : ByteArray} {C : String} {b : Nat} {nLc frc loc idx n : Nat} {rt : Option FieldType} {F : Option (XR (SS × DS))} {K : (SS × DS) → Option (Int32 × SS × DS)} {Hh : Nat × SS × DS → Option (Int32 × SS)} (As : List Value) {st0 : List Value} (hM : ∀ r, F = some r → jMY l y (ws_ y bytes nLc rt) frc loc (.ref b :: As) G KK (σ, d) xnV jVa r)
    (hl : GoodIn lw_all (wsV own idx C y (ws_ y bytes nLc rt))) (hrv : cRv G d σ s b C) (hy : y.cls = C ∧ y.cls ≠ "java/lang/invoke/MethodHandle" ∧ y.cls ≠ "java/lang/invoke/VarHandle" ∧ (parseMethodDescriptor y.desc).map (fun d => d.parameters.length) = some n) (hlen : As.length = n) (hst : st0 = (As.reverse ++ .ref b :: st)) (hd : decode cc pc = .ok (.invokevirtual idx, 3)) (hr : frc + 1 ≤ fr ∧ 8 + (nLc + 11) + loc ≤ lo) (hw : (st.map fun v => v.category).sum ≤ 8)
    (kx : ∀ (y : Nat × SS × DS) (r' : Int32 × SS), Hh y = some r' → ∃ h, jCatch s c own (yE y.1) args pc h ∧ ∀ (R : Room) (s : State) (q : Nat) (d' : DS), (y.1 ≤ 2 → q = ha G y.1) → jk p R s m args meth c d'.2 cc nL own fr lo ret → KK s → jj p l e R s m args below meth c (hA G) d'.2 (jZ below args s (hA G) d'.2 (jU r') (cWo G d') (cnx d')) (cWo G d') (cnx d') nL y.2.1 h lv [.ref q] (Hh y = some r')) (kk : ∀ r : (SS × DS), jj p l e R s m args below meth c (hA G) (res.2.2.2 + 25) (jZ below args s (hA G) (res.2.2.2 + 25) (jUs res) (aWo G) anx) (cWo G r.2) (cnx r.2) nL r.1 (pc + 3) lv st (K r = some res)) : jj p l e R s m args below meth c (hA G) (res.2.2.2 + 25) (jZ below args s (hA G) (res.2.2.2 + 25) (jUs res) (aWo G) anx) (cWo G d) (cnx d) nL σ pc lv st0 (yh xnV d F Hh K = some res) := by
  subst hst
  intro hz
  unfold yh at hz
  cases hF : F with
  | none => rw [hF] at hz; cases hz
  | some r1 =>
    rw [hF] at hz
    simp only [Option.bind_some] at hz
    split at hz
    · rename_i hmo
      refine jy_runH (len := 3) (Ψ1 := jVa) (v := fun r => none) (sg := fun r => r.1) (dd := fun r => r.2) (a1 := (Value.ref b :: As).toArray) hk hH hK hmo (fun r o z h => ⟨by have h1 := h.1; cases h1; rfl, h.2⟩) (fun r => rfl) (fun H locs ls hW hn hS hlv hle => ?_) kx kk hz
      exact vx_runV (As := As) (rest := st) hk.1 (hM r1 hF) (cwV n hk.1.2.2.2.2 hl rfl rfl rfl hy (by rw [hk.2.1]; exact hr)) ⟨ablind hH.1, hrv H hW, fun U hU hWm => ⟨rfl, by rw [hU]; exact hW, by rw [hU]; exact hn, hH.1 _ _ hWm hK⟩⟩ rfl hlen hlv.1 rfl (lv_room hw) hd (by rw [hk.2.1]; have h9 : d.2 ≤ ynx xnV r1 := hmo; have h8 : ynx xnV r1 ≤ _ := hle; have hs0 : s.heap.size ≤ d.2 := (by have h := hS.1; rw [hn] at h; exact h); constructor <;> (show _ ≤ _; dsimp only [anx]; omega))
    · cases hz
variable {Q : State → Prop}
theorem jd_X0_tnumber {ρ : Type} {res : ρ} (hk : jk p R s m args meth c NX cc nL RX0 fr lo ret) (hH : cH G KK) (hK : KK s) {q : Nat} {K : Int32 → Option ρ} (hd : decode cc pc = .ok (.getfield 567, 3)) (kk : ∀ v, jj p l e R s m args below meth c (hA G) NX Q (cWo G d) (cnx d) nL σ (pc + 3) lv (.int v :: st) (K v = some res)) : jj p l e R s m args below meth c (hA G) NX Q (cWo G d) (cnx d) nL σ pc lv (.ref q :: st) ((dInt d 18 0 q).bind K = some res) := by
  intro hz
  cases hv : dInt d 18 0 q with
  | none => rw [hv] at hz; cases hz
  | some x =>
    rw [hv] at hz
    obtain ⟨fs, he, hx⟩ := dInt_spec hv
    obtain ⟨i, hi⟩ := ccs_dl (G := G) (σ := σ) he
    exact cg_getN (q0 := 69 + i) (ci := 18) (k := 0) (C := RX20) (T := TX20) (N := 1) (host := "LeftUndoes") hk hH hK in_X20 hi rfl (by decide) (List.mem_of_getElem? (i := 28) rfl) rfl hx hd (kk x) hz
theorem jc_ranswer {Z : Prop} (hk : jk p R s m args meth c NX cc nL RX0 fr lo ret) (hH : cH G KK) (hK : KK s) (hd : decode cc pc = .ok (.getfield 550, 3)) (kk : jj p l e R s m args below meth c (hA G) NX Q (cWo G d) (cnx d) nL σ (pc + 3) lv (.int (σ.1 71) :: st) Z) : jj p l e R s m args below meth c (hA G) NX Q (cWo G d) (cnx d) nL σ pc lv (.ref (ha G 1) :: st) Z :=
  cg_get (q0 := 1) (ci := 5) (k := 6) (C := RX1) (T := TX1) (N := 7) hk hH hK in_X1 (ccs_O G d σ (by decide)) rfl (by decide) q233 rfl rfl hd kk
end
