/-! THE LAW's START: where all lies behind the two constructors, what it shows -/
set_option maxRecDepth 100000
set_option maxHeartbeats 2000000
/-- the cells' addresses -/
def st_a (z : Nat) (i : Nat) : Nat := match i with
  | 0 => (z + 0)
  | 1 => (z + 1 + 0)
  | 2 => (z + 1 + 1)
  | 3 => (z + 1 + 2)
  | 4 => (z + 1 + 17)
  | 5 => (z + 1 + 32)
  | 6 => (z + 1 + 61)
  | 7 => (z + 1 + 63)
  | 8 => (z + 1 + 65)
  | 9 => (z + 1 + 67)
  | 10 => (z + 1 + 69)
  | 11 => (z + 1 + 64)
  | 12 => (z + 1 + 66)
  | 13 => (z + 1 + 68)
  | 14 => (z + 1 + 70)
  | 15 => (z + 1 + 3)
  | 16 => (z + 1 + 4)
  | 17 => (z + 1 + 5)
  | 18 => (z + 1 + 6)
  | 19 => (z + 1 + 7)
  | 20 => (z + 1 + 8)
  | 21 => (z + 1 + 9)
  | 22 => (z + 1 + 10)
  | 23 => (z + 1 + 11)
  | 24 => (z + 1 + 12)
  | 25 => (z + 1 + 13)
  | 26 => (z + 1 + 14)
  | 27 => (z + 1 + 15)
  | 28 => (z + 1 + 18)
  | 29 => (z + 1 + 19)
  | 30 => (z + 1 + 20)
  | 31 => (z + 1 + 21)
  | 32 => (z + 1 + 22)
  | 33 => (z + 1 + 23)
  | 34 => (z + 1 + 24)
  | 35 => (z + 1 + 25)
  | 36 => (z + 1 + 26)
  | 37 => (z + 1 + 27)
  | 38 => (z + 1 + 28)
  | 39 => (z + 1 + 29)
  | 40 => (z + 1 + 30)
  | 41 => (z + 1 + 33)
  | 42 => (z + 1 + 34)
  | 43 => (z + 1 + 35)
  | 44 => (z + 1 + 36)
  | 45 => (z + 1 + 37)
  | 46 => (z + 1 + 38)
  | 47 => (z + 1 + 39)
  | 48 => (z + 1 + 40)
  | 49 => (z + 1 + 41)
  | 50 => (z + 1 + 42)
  | 51 => (z + 1 + 43)
  | 52 => (z + 1 + 44)
  | 53 => (z + 1 + 45)
  | 54 => (z + 1 + 52)
  | 55 => (z + 1 + 53)
  | 56 => (z + 1 + 54)
  | 57 => (z + 1 + 55)
  | 58 => (z + 1 + 56)
  | 59 => (z + 1 + 58)
  | 60 => (z + 1 + 62)
  | 61 => (z + 1 + 51)
  | 62 => (z + 1 + 47)
  | 63 => (z + 1 + 57)
  | 64 => (z + 1 + 48)
  | 65 => (z + 1 + 49)
  | 66 => (z + 1 + 50)
  | 67 => (z + 1 + 59)
  | 68 => (z + 1 + 60)
  | _ => z
def st_v (i : Nat) : Value := match i with
  | 5 => .int 0
  | 11 => .int 0
  | _ => .null
def st_i (k : Nat) : Int32 := match k with
  | 2 => 12
  | 6 => 1
  | 9 => 12
  | 13 => 1
  | 16 => 12
  | 20 => 1
  | _ => 0
def st_f (z : Nat) (k : Nat) : Option Nat := match k with
  | 0 => some (z + 1 + 16)
  | 1 => some (z + 1 + 31)
  | 2 => some (z + 1 + 46)
  | _ => none
/-- the component's picture at the start -/
def sg0 (z : Nat) : SS := (st_i, fun _ _ => 0, st_f z, fun _ _ => none)
def dd0 (z : Nat) : DS := ([((z + 1 + 16), .inl (8, 0, .inr (.inr (.inr (.inr (fun _ => none)))))), ((z + 1 + 31), .inl (8, 0, .inr (.inr (.inr (.inr (fun _ => none)))))), ((z + 1 + 46), .inl (8, 0, .inr (.inr (.inr (.inr (fun _ => none))))))], z + 91)
def st_m (j : Nat) : Nat → Int32 := match j with
  | 0 => (upd (upd (fun _ => 0) (Int32.toNatClampNeg 7) 1) (Int32.toNatClampNeg 2) 12)
  | 11 => (upd (upd (upd (upd (fun _ => 0) (Int32.toNatClampNeg 0) (-1)) (Int32.toNatClampNeg 1) (-1)) (Int32.toNatClampNeg 2) (-1)) (Int32.toNatClampNeg 3) (-1))
  | _ => fun _ => 0
/-- the model's picture at the start -/
def mu0 : MS := (fun _ => 0, st_m)
def st_ma (z : Nat) (j : Nat) : Nat := match j with
  | 0 => (z + 73 + 0)
  | 1 => (z + 73 + 1)
  | 2 => (z + 73 + 2)
  | 3 => (z + 73 + 3)
  | 4 => (z + 73 + 4)
  | 5 => (z + 73 + 5)
  | 6 => (z + 73 + 6)
  | 7 => (z + 73 + 7)
  | 8 => (z + 73 + 8)
  | 9 => (z + 73 + 9)
  | 10 => (z + 73 + 10)
  | 11 => (z + 73 + 11)
  | 12 => (z + 73 + 12)
  | 13 => (z + 73 + 13)
  | 14 => (z + 73 + 14)
  | 15 => (z + 73 + 15)
  | 16 => (z + 73 + 16)
  | 17 => (z + 73 + 17)
  | _ => z
def st_J (D : va_G) (T : Nat → ClassId) (z : Nat) : jG := (D, jcl, T 0, z + 72, st_ma z, z + 91, fun q => z + 72 ≤ q ∧ q < z + 91)
/-- what of the heap stays: texts and statics of the start, and that the heap has grown to a -/
def st_X (s : State) (S : Nat → Nat) (a : Nat) : Heap → Prop := fun H => (vk_S 21 lenS bytS S (fun i => S (100 + i)) (fun q => s.heap.size ≤ q) s H ∧ va_Z "java/lang/String" "COMPACT_STRINGS" "Z" (.int 1) (fun q => s.heap.size ≤ q) s H ∧ va_Zq "jdk/internal/util/Preconditions" "SIOOBE_FORMATTER" "Ljava/util/function/BiFunction;" (fun q => s.heap.size ≤ q) s H ∧ vx_Zq Bundle.tN "UNASSIGNED_STACK" Bundle.steD (fun q => s.heap.size ≤ q) s H ∧ vx_Zq Bundle.tN "SUPPRESSED_SENTINEL" Bundle.listD (fun q => s.heap.size ≤ q) s H) ∧ a ≤ H.size
def st_G (s : State) (D : va_G) (T : Nat → ClassId) (S : Nat → Nat) (A : Nat → Prop) (a : Nat) : cG := (D, T, st_a s.heap.size, A, st_v, S, st_X s S a)
theorem st_kept {s : State} {S : Nat → Nat} {a : Nat} {H H1 : Heap} (hz : H.size ≤ H1.size) (hq : ∀ q, q < H.size → ¬ s.heap.size ≤ q → H1[q]? = H[q]?) (h : st_X s S a H) : st_X s S a H1 :=
  ⟨⟨vk_S.kept h.1.1 hq, va_Z.kept h.1.2.1 hq, va_Zq.kept h.1.2.2.1 hq, vx_Zq.kept h.1.2.2.2.1 hq, vx_Zq.kept h.1.2.2.2.2 hq⟩, Nat.le_trans h.2 hz⟩
theorem st_cH {s : State} {args : Array Value} {D : va_G} {T : Nat → ClassId} {S : Nat → Nat} (hts : ∀ w ∈ lw_tbl, w.before args s = true) (hgv : (Jvm.Cond.and given_1 narrow_1).before args s = true) (hmr : modulesRight_1 s = true) (hF : lwF s D T S) {A : Nat → Prop} {a : Nat} (hA1 : ∀ q, A q → s.heap.size ≤ q) (hA2 : ∀ q, a ≤ q → A q) : cH (st_G s D T S A a) (fun U => s.WarmedH U.vm) := by
  obtain ⟨f1, -, f3⟩ := hF
  have hnc : ∀ i, i < 11 → ∀ j, j < 13 → cYes (cNoS.getD i "") (cNoT.getD j "") = false → va_Nc (cNoS.getD i "") (cNoT.getD j "") s := fun i hi j hj h => by
    rcases nP_neg i hi j hj with h1 | h1
    · rw [h] at h1; cases h1
    · exact va_Nc.of (flat_of_before _ hgv _ (List.mem_of_getElem? h1))
  refine ⟨fun u U hW h => State.WarmedH.trans h hW, fun U hU => ⟨va_K.moved hU.alike f1, fun w hw => cNw_A hw s U hU (va_Nw.of (fN_on w hw) (hts w (fN_tbl w hw))), fun C hC => va_AO.moved hU.alike (va_AO.of (hts _ (fA_tbl C hC)))⟩, fun H H1 hz hq hX => st_kept hz (fun q h1 h2 => hq q h1 (fun h3 => h2 (hA1 q h3))) hX, fun H q hX hq => hA2 q (Nat.le_trans hX.2 hq), fun U H hU hX => ?_, fun U hU => ⟨fun i hi => vk_R.warm hU (f3 i hi), fun C hC T' hT h => ?_, fun x hx => ?_, fun w hw => ?_, ⟨s, args, hU, hts, hgv, hmr⟩⟩⟩
  · obtain ⟨⟨h1, h2, h3, h4, h5⟩, -⟩ := hX
    exact ⟨vk_S.narrow (vk_S.moved hU.alike h1) hA1, va_Z.narrow (va_Z.moved hU.alike h2) hA1, va_Zq.narrow (va_Zq.moved hU.alike h3) hA1, vx_Zq.narrow (vx_Zq.moved hU.alike h4) hA1, vx_Zq.narrow (vx_Zq.moved hU.alike h5) hA1⟩
  · obtain ⟨i, hi⟩ := List.getElem?_of_mem hC
    obtain ⟨j, hj⟩ := List.getElem?_of_mem hT
    have hi2 := (List.getElem?_eq_some_iff.mp hi).1
    have hj2 := (List.getElem?_eq_some_iff.mp hj).1
    have e1 : cNoS.getD i "" = C := by rw [List.getD_eq_getElem?_getD, hi]; rfl
    have e2 : cNoT.getD j "" = T' := by rw [List.getD_eq_getElem?_getD, hj]; rfl
    have := hnc i hi2 j hj2 (by rw [e1, e2]; exact h)
    rw [e1, e2] at this
    exact va_Nc.moved hU.alike this
  · obtain ⟨i, hi⟩ := List.getElem?_of_mem hx
    have hi2 : i < 3 := (List.getElem?_eq_some_iff.mp hi).1
    have h1 := nP_neX i hi2
    rw [hi] at h1
    exact va_Nc.moved hU.alike (va_Nc.of (flat_of_before _ hgv _ (List.mem_of_getElem? h1)))
  · exact fV_warm hU (List.all_eq_true.mp fV_all w hw) (hts w (vw_all w hw))
/-- an array of references told by another function that agrees inside -/
theorem va_at_ext {D : va_G} {cl : List vw_C} {H : Heap} {a n : Nat} {t : ClassId} {f g : Nat → Option Nat} (hfg : ∀ j, j < n → f j = g j) (h : va_at D cl (a, .inl (t, n, .inr (.inr (.inr (.inr f))))) H) : va_at D cl (a, .inl (t, n, .inr (.inr (.inr (.inr g))))) H := by
  have e : vp_cell t (n, .inr (.inr (.inr (.inr f)))) = vp_cell t (n, .inr (.inr (.inr (.inr g)))) := by
    rw [vp_cell_q, vp_cell_q]
    unfold arrV
    congr 1
    apply Array.ext
    · simp
    · intro i h1 h2
      simp only [Array.getElem_ofFn]
      rw [hfg i (by simpa using h1)]
  show H[a]? = some _
  rw [← e]
  exact h
theorem va_P_fix {D : va_G} {cl : List vw_C} {A : Nat → Prop} {ws : va_W} {H : Heap} (hP : va_P D cl ws H) (hD : va_D A ws) {i a n : Nat} {t : ClassId} {f : Nat → Option Nat} (g : Nat → Option Nat) (hi : ws[i]? = some (a, .inl (t, n, .inr (.inr (.inr (.inr f)))))) (hfg : ∀ j, j < n → f j = g j) : va_P D cl (ws.set i (a, .inl (t, n, .inr (.inr (.inr (.inr g)))))) H ∧ va_D A (ws.set i (a, .inl (t, n, .inr (.inr (.inr (.inr g)))))) :=
  ⟨hP.set hD hi (va_at_ext hfg (hP i _ hi)) (fun _ _ => rfl), hD.set hi⟩
/-- the component's cells in the order of their birth -/
def st_E (z : Nat) (T : Nat → ClassId) (S : Nat → Nat) : va_W := [((z + 0), .inr (1, [.ref (z + 1 + 0), .ref (z + 1 + 1), .ref (z + 1 + 2), .ref (z + 1 + 17), .ref (z + 1 + 32), .ref (z + 1 + 47), .int 0, .ref (z + 1 + 48), .ref (z + 1 + 49), .ref (z + 1 + 50), .ref (z + 1 + 51), .int 0, .int 0, .int 0, .ref (z + 1 + 52), .ref (z + 1 + 53), .ref (z + 1 + 54), .ref (z + 1 + 55), .ref (z + 1 + 56), .int 0, .int 0, .int 0, .int 0, .int 0, .int 0, .ref (z + 1 + 57), .int 0, .ref (z + 1 + 58), .int 0, .ref (z + 1 + 59), .ref (z + 1 + 60), .ref (z + 1 + 61)])),
  ((z + 1 + 0), .inr (5, [.null, .null, .null, .null, .null, .int 0, .int 0])),
  ((z + 1 + 1), .inr (6, [.null, .null, .null, .null, .null, .int 0, .int 0])),
  ((z + 1 + 2), .inr (2, [.int 0, .int 0, .int 12, .int 0, .int 0, .int 0, .int 1, .ref (z + 1 + 3), .ref (z + 1 + 4), .ref (z + 1 + 5), .ref (z + 1 + 6), .ref (z + 1 + 7), .ref (z + 1 + 8), .ref (z + 1 + 9), .ref (z + 1 + 10), .ref (z + 1 + 11), .ref (z + 1 + 12), .ref (z + 1 + 13), .ref (z + 1 + 14), .ref (z + 1 + 15), .ref (z + 1 + 16)])),
  ((z + 1 + 3), .inl (T 0, 6, .inl (fun _ => 0))),
  ((z + 1 + 4), .inl (T 0, 6, .inl (fun _ => 0))),
  ((z + 1 + 5), .inl (T 0, 6, .inl (fun _ => 0))),
  ((z + 1 + 6), .inl (T 0, 10, .inl (fun _ => 0))),
  ((z + 1 + 7), .inl (T 0, 10, .inl (fun _ => 0))),
  ((z + 1 + 8), .inl (T 0, 10, .inl (fun _ => 0))),
  ((z + 1 + 9), .inl (T 0, 10, .inl (fun _ => 0))),
  ((z + 1 + 10), .inl (T 0, 10, .inl (fun _ => 0))),
  ((z + 1 + 11), .inl (T 0, 36, .inl (fun _ => 0))),
  ((z + 1 + 12), .inl (T 0, 6, .inl (fun _ => 0))),
  ((z + 1 + 13), .inl (T 0, 6, .inl (fun _ => 0))),
  ((z + 1 + 14), .inl (T 0, 6, .inl (fun _ => 0))),
  ((z + 1 + 15), .inl (T 0, 6, .inl (fun _ => 0))),
  ((z + 1 + 16), .inl (T 8, 0, .inr (.inr (.inr (.inr (fun _ => none)))))),
  ((z + 1 + 17), .inr (2, [.int 0, .int 0, .int 12, .int 0, .int 0, .int 0, .int 1, .ref (z + 1 + 18), .ref (z + 1 + 19), .ref (z + 1 + 20), .ref (z + 1 + 21), .ref (z + 1 + 22), .ref (z + 1 + 23), .ref (z + 1 + 24), .ref (z + 1 + 25), .ref (z + 1 + 26), .ref (z + 1 + 27), .ref (z + 1 + 28), .ref (z + 1 + 29), .ref (z + 1 + 30), .ref (z + 1 + 31)])),
  ((z + 1 + 18), .inl (T 0, 6, .inl (fun _ => 0))),
  ((z + 1 + 19), .inl (T 0, 6, .inl (fun _ => 0))),
  ((z + 1 + 20), .inl (T 0, 6, .inl (fun _ => 0))),
  ((z + 1 + 21), .inl (T 0, 10, .inl (fun _ => 0))),
  ((z + 1 + 22), .inl (T 0, 10, .inl (fun _ => 0))),
  ((z + 1 + 23), .inl (T 0, 10, .inl (fun _ => 0))),
  ((z + 1 + 24), .inl (T 0, 10, .inl (fun _ => 0))),
  ((z + 1 + 25), .inl (T 0, 10, .inl (fun _ => 0))),
  ((z + 1 + 26), .inl (T 0, 36, .inl (fun _ => 0))),
  ((z + 1 + 27), .inl (T 0, 6, .inl (fun _ => 0))),
  ((z + 1 + 28), .inl (T 0, 6, .inl (fun _ => 0))),
  ((z + 1 + 29), .inl (T 0, 6, .inl (fun _ => 0))),
  ((z + 1 + 30), .inl (T 0, 6, .inl (fun _ => 0))),
  ((z + 1 + 31), .inl (T 8, 0, .inr (.inr (.inr (.inr (fun _ => none)))))),
  ((z + 1 + 32), .inr (2, [.int 0, .int 0, .int 12, .int 0, .int 0, .int 0, .int 1, .ref (z + 1 + 33), .ref (z + 1 + 34), .ref (z + 1 + 35), .ref (z + 1 + 36), .ref (z + 1 + 37), .ref (z + 1 + 38), .ref (z + 1 + 39), .ref (z + 1 + 40), .ref (z + 1 + 41), .ref (z + 1 + 42), .ref (z + 1 + 43), .ref (z + 1 + 44), .ref (z + 1 + 45), .ref (z + 1 + 46)])),
  ((z + 1 + 33), .inl (T 0, 6, .inl (fun _ => 0))),
  ((z + 1 + 34), .inl (T 0, 6, .inl (fun _ => 0))),
  ((z + 1 + 35), .inl (T 0, 6, .inl (fun _ => 0))),
  ((z + 1 + 36), .inl (T 0, 10, .inl (fun _ => 0))),
  ((z + 1 + 37), .inl (T 0, 10, .inl (fun _ => 0))),
  ((z + 1 + 38), .inl (T 0, 10, .inl (fun _ => 0))),
  ((z + 1 + 39), .inl (T 0, 10, .inl (fun _ => 0))),
  ((z + 1 + 40), .inl (T 0, 10, .inl (fun _ => 0))),
  ((z + 1 + 41), .inl (T 0, 36, .inl (fun _ => 0))),
  ((z + 1 + 42), .inl (T 0, 6, .inl (fun _ => 0))),
  ((z + 1 + 43), .inl (T 0, 6, .inl (fun _ => 0))),
  ((z + 1 + 44), .inl (T 0, 6, .inl (fun _ => 0))),
  ((z + 1 + 45), .inl (T 0, 6, .inl (fun _ => 0))),
  ((z + 1 + 46), .inl (T 8, 0, .inr (.inr (.inr (.inr (fun _ => none)))))),
  ((z + 1 + 47), .inl (T 5, 6, .inr (.inr (.inr (.inr (fun _ => none)))))),
  ((z + 1 + 48), .inl (T 6, 6, .inr (.inr (.inr (.inr (va_up (va_up (va_up (va_up (va_up (va_up (fun _ => none) (Int32.toNatClampNeg 0) (some (S 0))) (Int32.toNatClampNeg 1) (some (S 1))) (Int32.toNatClampNeg 2) (some (S 2))) (Int32.toNatClampNeg 3) (some (S 3))) (Int32.toNatClampNeg 4) (some (S 4))) (Int32.toNatClampNeg 5) (some (S 5)))))))),
  ((z + 1 + 49), .inl (T 6, 3, .inr (.inr (.inr (.inr (va_up (va_up (va_up (fun _ => none) (Int32.toNatClampNeg 0) (some (S 6))) (Int32.toNatClampNeg 1) (some (S 7))) (Int32.toNatClampNeg 2) (some (S 8)))))))),
  ((z + 1 + 50), .inl (T 6, 5, .inr (.inr (.inr (.inr (va_up (va_up (va_up (va_up (va_up (fun _ => none) (Int32.toNatClampNeg 0) (some (S 9))) (Int32.toNatClampNeg 1) (some (S 10))) (Int32.toNatClampNeg 2) (some (S 11))) (Int32.toNatClampNeg 3) (some (S 12))) (Int32.toNatClampNeg 4) (some (S 13)))))))),
  ((z + 1 + 51), .inl (T 1, 200, .inl (fun _ => 0))),
  ((z + 1 + 52), .inl (T 0, 5, .inl (fun _ => 0))),
  ((z + 1 + 53), .inl (T 0, 50, .inl (fun _ => 0))),
  ((z + 1 + 54), .inl (T 0, 64, .inl (fun _ => 0))),
  ((z + 1 + 55), .inl (T 0, 4, .inl (fun _ => 0))),
  ((z + 1 + 56), .inl (T 0, 4, .inl (fun _ => 0))),
  ((z + 1 + 57), .inl (T 5, 45, .inr (.inr (.inr (.inr (fun _ => none)))))),
  ((z + 1 + 58), .inl (T 0, 12, .inl (fun _ => 0))),
  ((z + 1 + 59), .inl (T 7, 4, .inr (.inr (.inr (.inr (va_up (va_up (va_up (va_up (fun _ => none) (Int32.toNatClampNeg 0) (some (z + 1 + 63))) (Int32.toNatClampNeg 1) (some (z + 1 + 65))) (Int32.toNatClampNeg 2) (some (z + 1 + 67))) (Int32.toNatClampNeg 3) (some (z + 1 + 69)))))))),
  ((z + 1 + 60), .inl (T 7, 4, .inr (.inr (.inr (.inr (va_up (va_up (va_up (va_up (fun _ => none) (Int32.toNatClampNeg 0) (some (z + 1 + 64))) (Int32.toNatClampNeg 1) (some (z + 1 + 66))) (Int32.toNatClampNeg 2) (some (z + 1 + 68))) (Int32.toNatClampNeg 3) (some (z + 1 + 70)))))))),
  ((z + 1 + 61), .inr (3, [.ref (z + 1 + 62), .int 0])),
  ((z + 1 + 62), .inl (T 0, 30, .inl (fun _ => 0))),
  ((z + 1 + 63), .inr (4, [.null])),
  ((z + 1 + 64), .inr (4, [.null])),
  ((z + 1 + 65), .inr (4, [.null])),
  ((z + 1 + 66), .inr (4, [.null])),
  ((z + 1 + 67), .inr (4, [.null])),
  ((z + 1 + 68), .inr (4, [.null])),
  ((z + 1 + 69), .inr (4, [.null])),
  ((z + 1 + 70), .inr (4, [.null]))]
/-- the same, the arrays of texts and shelves told by their laws -/
def st_F (z : Nat) (T : Nat → ClassId) (S : Nat → Nat) : va_W := [((z + 0), .inr (1, [.ref (z + 1 + 0), .ref (z + 1 + 1), .ref (z + 1 + 2), .ref (z + 1 + 17), .ref (z + 1 + 32), .ref (z + 1 + 47), .int 0, .ref (z + 1 + 48), .ref (z + 1 + 49), .ref (z + 1 + 50), .ref (z + 1 + 51), .int 0, .int 0, .int 0, .ref (z + 1 + 52), .ref (z + 1 + 53), .ref (z + 1 + 54), .ref (z + 1 + 55), .ref (z + 1 + 56), .int 0, .int 0, .int 0, .int 0, .int 0, .int 0, .ref (z + 1 + 57), .int 0, .ref (z + 1 + 58), .int 0, .ref (z + 1 + 59), .ref (z + 1 + 60), .ref (z + 1 + 61)])),
  ((z + 1 + 0), .inr (5, [.null, .null, .null, .null, .null, .int 0, .int 0])),
  ((z + 1 + 1), .inr (6, [.null, .null, .null, .null, .null, .int 0, .int 0])),
  ((z + 1 + 2), .inr (2, [.int 0, .int 0, .int 12, .int 0, .int 0, .int 0, .int 1, .ref (z + 1 + 3), .ref (z + 1 + 4), .ref (z + 1 + 5), .ref (z + 1 + 6), .ref (z + 1 + 7), .ref (z + 1 + 8), .ref (z + 1 + 9), .ref (z + 1 + 10), .ref (z + 1 + 11), .ref (z + 1 + 12), .ref (z + 1 + 13), .ref (z + 1 + 14), .ref (z + 1 + 15), .ref (z + 1 + 16)])),
  ((z + 1 + 3), .inl (T 0, 6, .inl (fun _ => 0))),
  ((z + 1 + 4), .inl (T 0, 6, .inl (fun _ => 0))),
  ((z + 1 + 5), .inl (T 0, 6, .inl (fun _ => 0))),
  ((z + 1 + 6), .inl (T 0, 10, .inl (fun _ => 0))),
  ((z + 1 + 7), .inl (T 0, 10, .inl (fun _ => 0))),
  ((z + 1 + 8), .inl (T 0, 10, .inl (fun _ => 0))),
  ((z + 1 + 9), .inl (T 0, 10, .inl (fun _ => 0))),
  ((z + 1 + 10), .inl (T 0, 10, .inl (fun _ => 0))),
  ((z + 1 + 11), .inl (T 0, 36, .inl (fun _ => 0))),
  ((z + 1 + 12), .inl (T 0, 6, .inl (fun _ => 0))),
  ((z + 1 + 13), .inl (T 0, 6, .inl (fun _ => 0))),
  ((z + 1 + 14), .inl (T 0, 6, .inl (fun _ => 0))),
  ((z + 1 + 15), .inl (T 0, 6, .inl (fun _ => 0))),
  ((z + 1 + 16), .inl (T 8, 0, .inr (.inr (.inr (.inr (fun _ => none)))))),
  ((z + 1 + 17), .inr (2, [.int 0, .int 0, .int 12, .int 0, .int 0, .int 0, .int 1, .ref (z + 1 + 18), .ref (z + 1 + 19), .ref (z + 1 + 20), .ref (z + 1 + 21), .ref (z + 1 + 22), .ref (z + 1 + 23), .ref (z + 1 + 24), .ref (z + 1 + 25), .ref (z + 1 + 26), .ref (z + 1 + 27), .ref (z + 1 + 28), .ref (z + 1 + 29), .ref (z + 1 + 30), .ref (z + 1 + 31)])),
  ((z + 1 + 18), .inl (T 0, 6, .inl (fun _ => 0))),
  ((z + 1 + 19), .inl (T 0, 6, .inl (fun _ => 0))),
  ((z + 1 + 20), .inl (T 0, 6, .inl (fun _ => 0))),
  ((z + 1 + 21), .inl (T 0, 10, .inl (fun _ => 0))),
  ((z + 1 + 22), .inl (T 0, 10, .inl (fun _ => 0))),
  ((z + 1 + 23), .inl (T 0, 10, .inl (fun _ => 0))),
  ((z + 1 + 24), .inl (T 0, 10, .inl (fun _ => 0))),
  ((z + 1 + 25), .inl (T 0, 10, .inl (fun _ => 0))),
  ((z + 1 + 26), .inl (T 0, 36, .inl (fun _ => 0))),
  ((z + 1 + 27), .inl (T 0, 6, .inl (fun _ => 0))),
  ((z + 1 + 28), .inl (T 0, 6, .inl (fun _ => 0))),
  ((z + 1 + 29), .inl (T 0, 6, .inl (fun _ => 0))),
  ((z + 1 + 30), .inl (T 0, 6, .inl (fun _ => 0))),
  ((z + 1 + 31), .inl (T 8, 0, .inr (.inr (.inr (.inr (fun _ => none)))))),
  ((z + 1 + 32), .inr (2, [.int 0, .int 0, .int 12, .int 0, .int 0, .int 0, .int 1, .ref (z + 1 + 33), .ref (z + 1 + 34), .ref (z + 1 + 35), .ref (z + 1 + 36), .ref (z + 1 + 37), .ref (z + 1 + 38), .ref (z + 1 + 39), .ref (z + 1 + 40), .ref (z + 1 + 41), .ref (z + 1 + 42), .ref (z + 1 + 43), .ref (z + 1 + 44), .ref (z + 1 + 45), .ref (z + 1 + 46)])),
  ((z + 1 + 33), .inl (T 0, 6, .inl (fun _ => 0))),
  ((z + 1 + 34), .inl (T 0, 6, .inl (fun _ => 0))),
  ((z + 1 + 35), .inl (T 0, 6, .inl (fun _ => 0))),
  ((z + 1 + 36), .inl (T 0, 10, .inl (fun _ => 0))),
  ((z + 1 + 37), .inl (T 0, 10, .inl (fun _ => 0))),
  ((z + 1 + 38), .inl (T 0, 10, .inl (fun _ => 0))),
  ((z + 1 + 39), .inl (T 0, 10, .inl (fun _ => 0))),
  ((z + 1 + 40), .inl (T 0, 10, .inl (fun _ => 0))),
  ((z + 1 + 41), .inl (T 0, 36, .inl (fun _ => 0))),
  ((z + 1 + 42), .inl (T 0, 6, .inl (fun _ => 0))),
  ((z + 1 + 43), .inl (T 0, 6, .inl (fun _ => 0))),
  ((z + 1 + 44), .inl (T 0, 6, .inl (fun _ => 0))),
  ((z + 1 + 45), .inl (T 0, 6, .inl (fun _ => 0))),
  ((z + 1 + 46), .inl (T 8, 0, .inr (.inr (.inr (.inr (fun _ => none)))))),
  ((z + 1 + 47), .inl (T 5, 6, .inr (.inr (.inr (.inr (fun _ => none)))))),
  ((z + 1 + 48), .inl (T 6, 6, .inr (.inr (.inr (.inr (fun i => some (S i))))))),
  ((z + 1 + 49), .inl (T 6, 3, .inr (.inr (.inr (.inr (fun i => some (S (6 + i)))))))),
  ((z + 1 + 50), .inl (T 6, 5, .inr (.inr (.inr (.inr (fun i => some (S (9 + i)))))))),
  ((z + 1 + 51), .inl (T 1, 200, .inl (fun _ => 0))),
  ((z + 1 + 52), .inl (T 0, 5, .inl (fun _ => 0))),
  ((z + 1 + 53), .inl (T 0, 50, .inl (fun _ => 0))),
  ((z + 1 + 54), .inl (T 0, 64, .inl (fun _ => 0))),
  ((z + 1 + 55), .inl (T 0, 4, .inl (fun _ => 0))),
  ((z + 1 + 56), .inl (T 0, 4, .inl (fun _ => 0))),
  ((z + 1 + 57), .inl (T 5, 45, .inr (.inr (.inr (.inr (fun _ => none)))))),
  ((z + 1 + 58), .inl (T 0, 12, .inl (fun _ => 0))),
  ((z + 1 + 59), .inl (T 7, 4, .inr (.inr (.inr (.inr (fun i => some (st_a z (7 + i)))))))),
  ((z + 1 + 60), .inl (T 7, 4, .inr (.inr (.inr (.inr (fun i => some (st_a z (11 + i)))))))),
  ((z + 1 + 61), .inr (3, [.ref (z + 1 + 62), .int 0])),
  ((z + 1 + 62), .inl (T 0, 30, .inl (fun _ => 0))),
  ((z + 1 + 63), .inr (4, [.null])),
  ((z + 1 + 64), .inr (4, [.null])),
  ((z + 1 + 65), .inr (4, [.null])),
  ((z + 1 + 66), .inr (4, [.null])),
  ((z + 1 + 67), .inr (4, [.null])),
  ((z + 1 + 68), .inr (4, [.null])),
  ((z + 1 + 69), .inr (4, [.null])),
  ((z + 1 + 70), .inr (4, [.null]))]
def st_o : List Nat := [0, 1, 2, 3, 18, 33, 62, 64, 66, 68, 70, 65, 67, 69, 71, 4, 5, 6, 7, 8, 9, 10, 11, 12, 13, 14, 15, 16, 19, 20, 21, 22, 23, 24, 25, 26, 27, 28, 29, 30, 31, 34, 35, 36, 37, 38, 39, 40, 41, 42, 43, 44, 45, 46, 53, 54, 55, 56, 57, 59, 63, 52, 48, 58, 49, 50, 51, 60, 61, 17, 32, 47]
theorem st_fix {D : va_G} {A : Nat → Prop} {z : Nat} {T : Nat → ClassId} {S : Nat → Nat} {H : Heap} (hP : va_P D jcl (st_E z T S) H) (hD : va_D A (st_E z T S)) : va_P D jcl (st_F z T S) H ∧ va_D A (st_F z T S) := by
  obtain ⟨p0, d0⟩ := va_P_fix hP hD (i := 49) (fun i => some (S i)) rfl (fun j hj => match j, hj with | 0, _ => rfl | 1, _ => rfl | 2, _ => rfl | 3, _ => rfl | 4, _ => rfl | 5, _ => rfl | n + 6, h => absurd h (by omega))
  obtain ⟨p1, d1⟩ := va_P_fix p0 d0 (i := 50) (fun i => some (S (6 + i))) rfl (fun j hj => match j, hj with | 0, _ => rfl | 1, _ => rfl | 2, _ => rfl | n + 3, h => absurd h (by omega))
  obtain ⟨p2, d2⟩ := va_P_fix p1 d1 (i := 51) (fun i => some (S (9 + i))) rfl (fun j hj => match j, hj with | 0, _ => rfl | 1, _ => rfl | 2, _ => rfl | 3, _ => rfl | 4, _ => rfl | n + 5, h => absurd h (by omega))
  obtain ⟨p3, d3⟩ := va_P_fix p2 d2 (i := 60) (fun i => some (st_a z (7 + i))) rfl (fun j hj => match j, hj with | 0, _ => rfl | 1, _ => rfl | 2, _ => rfl | 3, _ => rfl | n + 4, h => absurd h (by omega))
  obtain ⟨p4, d4⟩ := va_P_fix p3 d3 (i := 61) (fun i => some (st_a z (11 + i))) rfl (fun j hj => match j, hj with | 0, _ => rfl | 1, _ => rfl | 2, _ => rfl | 3, _ => rfl | n + 4, h => absurd h (by omega))
  exact ⟨p4, d4⟩
theorem st_ccs (s : State) (D : va_G) (T : Nat → ClassId) (S : Nat → Nat) (A : Nat → Prop) (a : Nat) : st_o.map (fun i => (st_F s.heap.size T S)[i]?) = (ccs (st_G s D T S A a) (dd0 s.heap.size) (sg0 s.heap.size)).map some := rfl
theorem st_ccs2 (s : State) (D : va_G) (T : Nat → ClassId) (S : Nat → Nat) (A : Nat → Prop) (a : Nat) : st_o.filterMap (fun i => (st_F s.heap.size T S)[i]?) = ccs (st_G s D T S A a) (dd0 s.heap.size) (sg0 s.heap.size) := rfl
def st_M (z : Nat) (T : Nat → ClassId) : va_W := [((z + 72), .inr (0, [.ref (z + 73 + 0), .ref (z + 73 + 1), .ref (z + 73 + 2), .int 0, .ref (z + 73 + 3), .ref (z + 73 + 4), .ref (z + 73 + 5), .ref (z + 73 + 6), .ref (z + 73 + 7), .ref (z + 73 + 8), .int 0, .int 0, .int 0, .int 0, .int 0, .int 0, .int 0, .int 0, .int 0, .int 0, .ref (z + 73 + 9), .int 0, .ref (z + 73 + 10), .int 0, .int 0, .int 0, .int 0, .int 0, .int 0, .int 0, .ref (z + 73 + 11), .ref (z + 73 + 12), .ref (z + 73 + 13), .ref (z + 73 + 14), .ref (z + 73 + 15), .ref (z + 73 + 16), .ref (z + 73 + 17), .int 0, .int 0, .int 0, .int 0, .int 0])),
  ((z + 73 + 0), .inl (T 0, 368, .inl (upd (upd (fun _ => 0) (Int32.toNatClampNeg 7) 1) (Int32.toNatClampNeg 2) 12))),
  ((z + 73 + 1), .inl (T 0, 368, .inl (fun _ => 0))),
  ((z + 73 + 2), .inl (T 0, 368, .inl (fun _ => 0))),
  ((z + 73 + 3), .inl (T 0, 200, .inl (fun _ => 0))),
  ((z + 73 + 4), .inl (T 0, 64, .inl (fun _ => 0))),
  ((z + 73 + 5), .inl (T 0, 64, .inl (fun _ => 0))),
  ((z + 73 + 6), .inl (T 0, 60, .inl (fun _ => 0))),
  ((z + 73 + 7), .inl (T 0, 4, .inl (fun _ => 0))),
  ((z + 73 + 8), .inl (T 0, 4, .inl (fun _ => 0))),
  ((z + 73 + 9), .inl (T 0, 12, .inl (fun _ => 0))),
  ((z + 73 + 10), .inl (T 0, 200, .inl (fun _ => 0))),
  ((z + 73 + 11), .inl (T 0, 4, .inl (upd (upd (upd (upd (fun _ => 0) (Int32.toNatClampNeg 0) (-1)) (Int32.toNatClampNeg 1) (-1)) (Int32.toNatClampNeg 2) (-1)) (Int32.toNatClampNeg 3) (-1)))),
  ((z + 73 + 12), .inl (T 0, 4, .inl (fun _ => 0))),
  ((z + 73 + 13), .inl (T 0, 160, .inl (fun _ => 0))),
  ((z + 73 + 14), .inl (T 0, 4, .inl (fun _ => 0))),
  ((z + 73 + 15), .inl (T 0, 4, .inl (fun _ => 0))),
  ((z + 73 + 16), .inl (T 0, 4, .inl (fun _ => 0))),
  ((z + 73 + 17), .inl (T 0, 30, .inl (fun _ => 0)))]
def st_mo : List Nat := [0, 1, 2, 3, 4, 5, 6, 7, 8, 9, 10, 11, 12, 13, 14, 15, 16, 17, 18]
theorem st_mcs (D : va_G) (T : Nat → ClassId) (z : Nat) : st_mo.map (fun i => (st_M z T)[i]?) = (mcs (st_J D T z) mu0).map some := rfl
theorem st_mcs2 (D : va_G) (T : Nat → ClassId) (z : Nat) : st_mo.filterMap (fun i => (st_M z T)[i]?) = mcs (st_J D T z) mu0 := rfl
