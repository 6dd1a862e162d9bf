/-! THE COMPONENT's METHODS that read texts or throw, printed by gen/gen4.py -/
set_option maxRecDepth 100000
def f0_allRules_L17 (N : Nat)  : Nat → SS → DS → Nat → Int32 → Option (XR (Nat × SS × DS))
  | 0, _, _, _, _ => none
  | n + 1, σ, d, x1, x2 => (if (σ.1 41) ≤ (σ.1 42) then (dNewA d x2).bind fun d1 => (dCpR d1 x1 (0 : Int32) d.2 (0 : Int32) x2).bind fun d2 => some (Sum.inr (d.2, σ, d2)) else (if x2 = (8 : Int32) then (some (sI σ 72 (σ.1 42))).bind fun σ5 => some (Sum.inl (2, σ5, d)) else xb xnA d (f0_rule N σ d) fun r3 => (dStR r3.2.2 x1 x2 r3.1).bind fun d4 => f0_allRules_L17 N n r3.2.1 d4 x1 (x2 + 1)))
def f0_allRules (N : Nat) (σ : SS) (d : DS) : Option (XR (Nat × SS × DS)) := (dNewA d (8 : Int32)).bind fun d1 => (some (sI σ 43 (0 : Int32))).bind fun σ2 => (f0_next N σ2).bind fun r3 => f0_allRules_L17 N N r3 d1 d.2 (0 : Int32)
section
variable {p : Program} {l : Launch} {e : Env} {R : Room} {s : State} {m : MethodId} {args : Array Value} {below : List Frame} {meth : Method} {c : Code}
variable {G : cG} {d : DS} {KK : State → Prop}
variable {NX : Nat} {Q : State → Prop} {nL : Nat} {cc : ByteArray} {fr lo frc loc : Nat} {ret : Option FieldType}
variable {pc : Nat} {σ : SS} {lv : List (Nat × Value)} {st : List Value} {ρ : Type} {res : ρ}

end
section
variable {p : Program} {l : Launch} {e : Env} {R : Room} {s : State} {m : MethodId} {args : Array Value} {below : List Frame} {meth : Method} {c : Code}
variable {G : cG} {d : DS} {KK : State → Prop}
variable {NX : Nat} {nL : Nat} {cc : ByteArray} {fr lo frc loc : Nat} {ret : Option FieldType}
variable {pc : Nat} {σ : SS} {lv : List (Nat × Value)} {st : List Value} {τ : Type} {nf : τ → Nat} {Ψ : τ → Outcome → SS × DS → Prop} {res : XR τ}
theorem kx_X0_0_rule (hk : jk p R s m args meth c (xnx nf res) cc nL RX0 fr lo ret) (hH : cH G KK) (hK : KK s) (ht : ∀ x ∈ c.exceptionTable.toList, False)  {F : Option (XR (Nat × SS × DS))} {K : (Nat × SS × DS) → Option (XR τ)} (hM : ∀ r, F = some r → jMX l yX0_rule (ws_ yX0_rule cX0_rule 5 (some (.object "LeftUndoes$Rule"))) frc loc [.ref (ha G 0)] G KK (σ, d) xnA (jUa (fun x : Nat => .ref x)) r) (hd : decode cc pc = .ok (.invokevirtual 333, 3)) (hr : frc + 1 ≤ fr ∧ 8 + (5 + 11) + loc ≤ lo) (hw : (st.map fun v => v.category).sum ≤ 8) (kk : ∀ r : (Nat × SS × DS), jj p l e R s m args below meth c (hA G) (xnx nf res) (jZX below args s G nf Ψ res) (cWo G r.2.2) (cnx r.2.2) nL r.2.1 (pc + 3) lv (.ref r.1 :: st) (K r = some res)) : jj p l e R s m args below meth c (hA G) (xnx nf res) (jZX below args s G nf Ψ res) (cWo G d) (cnx d) nL σ pc lv (.ref (ha G 0) :: st) (xb xnA d F K = some res) :=
  jx_VUa (n := 0) hk hH hK ht [] hM (lw_V q744 q746 qs12 q118 q747) (cRv_at (q := (RX0, TX0, 32)) (ci := 1) (q0 := 0) hH hK rfl rfl) (by decide +kernel) rfl rfl hd hr hw kk
end
section
variable {p : Program} {l : Launch} {e : Env} {R : Room} {s : State} {m : MethodId} {args : Array Value} {below : List Frame} {meth : Method} {c : Code}
variable {G : cG} {KK : State → Prop}
set_option maxHeartbeats 4000000 in
theorem wb_f0_allRules_L17 {res : (XR (Nat × SS × DS))} (hk : jk p R s m args meth c (xnx xnA res) cX0_allRules 4 RX0 658 20245 (some (.array (.object "LeftUndoes$Rule")))) (hH : cH G KK) (hK : KK s) (ht : ∀ x ∈ c.exceptionTable.toList, False) (N : Nat) : ∀ (n : Nat) (σ : SS) (d : DS) (x1 : Nat) (x2 : Int32), jj p l e R s m args below meth c (hA G) (xnx xnA res) (jZX below args s G xnA (jUa (fun x : Nat => .ref x)) res) (cWo G d) (cnx d) 4 σ 17 [(0, .ref (ha G 0)), (1, .ref x1), (2, .int x2)] [] (f0_allRules_L17 N n σ d x1 x2 = some res) := by
  intro n
  induction n with
  | zero => intro σ d x1 x2; exact jj_eq (fun hz => by rw [f0_allRules_L17] at hz; exact hz) jj_no
  | succ n ih =>
    intro σ d x1 x2
    rw [f0_allRules_L17]
    refine jj_aload_n hk (pc := 17) dX0_allRules_17 0 rfl rfl ?_
    refine jc_g_at hk hH hK (pc := 18) dX0_allRules_18 ?_
    refine jj_aload_n hk (pc := 21) dX0_allRules_21 0 rfl rfl ?_
    refine jc_g_tapeMany hk hH hK (pc := 22) dX0_allRules_22 ?_
    refine jj_icmp_ge hk (pc := 25) 52 dX0_allRules_25 (by decide) ?_ ?_
    · refine jj_iload_n hk (pc := 52) dX0_allRules_52 2 rfl rfl ?_
      refine ja_newR hk hH hK (pc := 53) dX0_allRules_53 (fun d1 => ?_)
      refine jj_astore_n hk (pc := 56) [(3, .ref d.2), (0, .ref (ha G 0)), (1, .ref x1), (2, .int x2)] dX0_allRules_56 rfl (Nat.le_of_ble_eq_true rfl) rfl ?_
      refine jj_aload_n hk (pc := 57) dX0_allRules_57 2 rfl rfl ?_
      refine jj_iconst hk (pc := 58) (v := (0 : Int32)) dX0_allRules_58 (by decide) ?_
      refine jj_aload_n hk (pc := 59) dX0_allRules_59 0 rfl rfl ?_
      refine jj_iconst hk (pc := 60) (v := (0 : Int32)) dX0_allRules_60 (by decide) ?_
      refine jj_iload_n hk (pc := 61) dX0_allRules_61 3 rfl rfl ?_
      refine ja_cpR hk hH hK (pc := 62) dX0_allRules_62 ⟨Nat.le_of_ble_eq_true rfl, Nat.le_of_ble_eq_true rfl⟩ (Nat.le_of_ble_eq_true rfl) (fun d2 => ?_)
      refine jj_aload_n hk (pc := 65) dX0_allRules_65 0 rfl rfl ?_
      exact jx_retUa hk (pc := 66) (Or.inr ⟨_, rfl⟩) dX0_allRules_66
    · refine jj_iload_n hk (pc := 28) dX0_allRules_28 2 rfl rfl ?_
      refine jj_bipush hk (pc := 29) (v := (8 : Int32)) dX0_allRules_29 (by decide) ?_
      refine jj_icmp_ne hk (pc := 31) 39 dX0_allRules_31 (by decide) ?_ ?_
      · refine jj_aload_n hk (pc := 39) dX0_allRules_39 1 rfl rfl ?_
        refine jj_iload_n hk (pc := 40) dX0_allRules_40 2 rfl rfl ?_
        refine jj_aload_n hk (pc := 41) dX0_allRules_41 0 rfl rfl ?_
        refine kx_X0_0_rule hk hH hK ht (pc := 42)  (fun r h => cc_f0_rule l hH N σ d r h) dX0_allRules_42 ⟨Nat.le_of_ble_eq_true rfl, Nat.le_of_ble_eq_true rfl⟩ (Nat.le_of_ble_eq_true rfl) (fun r3 => ?_)
        refine ja_stR hk hH hK (pc := 45) dX0_allRules_45 (fun d4 => ?_)
        refine jj_iinc hk (pc := 46) [(2, .int (x2 + 1)), (0, .ref (ha G 0)), (1, .ref x1)] dX0_allRules_46 2 rfl rfl (Nat.le_of_ble_eq_true rfl) rfl ?_
        refine jj_goto hk (pc := 49) 17 dX0_allRules_49 (by decide) ?_
        refine jj_loc [(0, .ref (ha G 0)), (1, .ref x1), (2, .int (x2 + 1))] [1, 2, 0] rfl ?_
        exact ih r3.2.1 d4 x1 (x2 + 1)
      · refine jj_aload_n hk (pc := 34) dX0_allRules_34 0 rfl rfl ?_
        refine kc_faultHere hk hH hK (pc := 35) dX0_allRules_35 ⟨Nat.le_of_ble_eq_true rfl, Nat.le_of_ble_eq_true rfl⟩ (Nat.le_of_ble_eq_true rfl) (fun σ5 => ?_)
        exact jx_athrow hk hH hK ht (pc := 38) (Or.inr rfl) dX0_allRules_38
set_option maxHeartbeats 4000000 in
theorem cc_f0_allRules (l : Launch) {G : cG} {KK : State → Prop} (hH : cH G KK) (N : Nat) (σ : SS) (d : DS)  (res : (XR (Nat × SS × DS))) (hf : f0_allRules N σ d = some res) : jMX l yX0_allRules (ws_ yX0_allRules cX0_allRules 4 (some (.array (.object "LeftUndoes$Rule")))) 658 20245 [.ref (ha G 0)] G KK (σ, d) xnA (jUa (fun x : Nat => .ref x)) res := by
  refine jx_start [(0, .ref (ha G 0))] (by decide) (Nat.le_of_ble_eq_true rfl) rfl (fun p e R s m args below meth c hk hK ht => ?_) hf
  have hk : jk p R s m args meth c (xnx xnA res) cX0_allRules 4 RX0 658 20245 (some (.array (.object "LeftUndoes$Rule"))) := hk
  unfold f0_allRules
  refine jj_bipush hk (pc := 0) (v := (8 : Int32)) dX0_allRules_0 (by decide) ?_
  refine ja_newR hk hH hK (pc := 2) dX0_allRules_2 (fun d1 => ?_)
  refine jj_astore_n hk (pc := 5) [(1, .ref d.2), (0, .ref (ha G 0))] dX0_allRules_5 rfl (Nat.le_of_ble_eq_true rfl) rfl ?_
  refine jj_iconst hk (pc := 6) (v := (0 : Int32)) dX0_allRules_6 (by decide) ?_
  refine jj_istore_n hk (pc := 7) [(2, .int (0 : Int32)), (1, .ref d.2), (0, .ref (ha G 0))] dX0_allRules_7 rfl (Nat.le_of_ble_eq_true rfl) rfl ?_
  refine jj_aload_n hk (pc := 8) dX0_allRules_8 2 rfl rfl ?_
  refine jj_iconst hk (pc := 9) (v := (0 : Int32)) dX0_allRules_9 (by decide) ?_
  refine jc_p_end hk hH hK (pc := 10) dX0_allRules_10 (fun σ2 => ?_)
  refine jj_aload_n hk (pc := 13) dX0_allRules_13 2 rfl rfl ?_
  refine kc_X0_0_next hk hH hK (pc := 14)  (fun r h => cc_f0_next l hH d1 N σ2 r h) dX0_allRules_14 ⟨Nat.le_of_ble_eq_true rfl, Nat.le_of_ble_eq_true rfl⟩ (Nat.le_of_ble_eq_true rfl) (fun r3 => ?_)
  refine jj_loc [(0, .ref (ha G 0)), (1, .ref d.2), (2, .int (0 : Int32))] [2, 1, 0] rfl ?_
  exact wb_f0_allRules_L17 hk hH hK ht N N r3 d1 d.2 (0 : Int32)
end
