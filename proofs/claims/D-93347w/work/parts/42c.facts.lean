/-! FACTS OF THE LAW's START -/
set_option maxRecDepth 100000
set_option maxHeartbeats 2000000
def fVm (w : Cond) : Bool := goodWord w || (match w with | .declares _ => true | .castable _ _ => true | .methodLinkNest _ _ _ _ => true | .fieldLinkNest _ _ _ _ _ _ => true | _ => false)
theorem fV_all : cVM.all fVm = true := by decide +kernel
theorem fV_warm {s U : State} {args : Array Value} {w : Cond} (hW : s.WarmedH U.vm) (hf : fVm w = true) (h : w.before args s = true) : w.before #[] U = true := by
  unfold fVm at hf
  rw [Bool.or_eq_true] at hf
  rcases hf with hf | hf
  · exact word_at hW (good_of_word hf) h
  · split at hf
    · exact va_Nw.warmD hW (va_Nw.of rfl h)
    · exact va_Nw.warmC hW (va_Nw.of rfl h)
    · exact va_Nw.warmM hW (va_Nw.of rfl h)
    · exact va_Nw.warmF hW (va_Nw.of rfl h)
    · cases hf
theorem fN_tbl : ∀ w ∈ cNw, w ∈ lw_tbl := by
  intro w hw
  simp only [cNw, List.mem_cons, List.not_mem_nil, or_false] at hw
  rcases hw with rfl | rfl | rfl | rfl | rfl | rfl | rfl | rfl | rfl | rfl | rfl | rfl | rfl | rfl | rfl | rfl | rfl | rfl | rfl | rfl | rfl | rfl | rfl | rfl | rfl | rfl | rfl | rfl | rfl | rfl | rfl | rfl | rfl | rfl | rfl | rfl | rfl | rfl | rfl | rfl | rfl | rfl | rfl | rfl | rfl | rfl | rfl | rfl | rfl | rfl | rfl | rfl | rfl | rfl | rfl | rfl | rfl | rfl | rfl | rfl | rfl | rfl | rfl | rfl | rfl | rfl
  · exact q163
  · exact q164
  · exact q165
  · exact q166
  · exact q167
  · exact q168
  · exact q169
  · exact q208
  · exact q251
  · exact q252
  · exact q259
  · exact q268
  · exact q382
  · exact q387
  · exact q389
  · exact q397
  · exact q401
  · exact q608
  · exact q621
  · exact q625
  · exact q740
  · exact q827
  · exact q867
  · exact q884
  · exact q1215
  · exact q1267
  · exact q1291
  · exact q1293
  · exact q1320
  · exact q1363
  · exact q1368
  · exact q1369
  · exact q1386
  · exact q1387
  · exact q1393
  · exact q1396
  · exact q1399
  · exact q1402
  · exact q1407
  · exact q1409
  · exact q1411
  · exact q1413
  · exact q1415
  · exact q1424
  · exact q1430
  · exact q1431
  · exact q1432
  · exact q1433
  · exact q1434
  · exact q1449
  · exact q1456
  · exact q1463
  · exact q1464
  · exact q1465
  · exact q1466
  · exact q1467
  · exact q1470
  · exact q1502
  · exact q2240
  · exact q2241
  · exact q2242
  · exact q2243
  · exact q2244
  · exact q2245
  · exact q2246
  · exact q2247
theorem fN_on : ∀ w ∈ cNw, w.onTables = true := by
  intro w hw
  simp only [cNw, List.mem_cons, List.not_mem_nil, or_false] at hw
  rcases hw with rfl | rfl | rfl | rfl | rfl | rfl | rfl | rfl | rfl | rfl | rfl | rfl | rfl | rfl | rfl | rfl | rfl | rfl | rfl | rfl | rfl | rfl | rfl | rfl | rfl | rfl | rfl | rfl | rfl | rfl | rfl | rfl | rfl | rfl | rfl | rfl | rfl | rfl | rfl | rfl | rfl | rfl | rfl | rfl | rfl | rfl | rfl | rfl | rfl | rfl | rfl | rfl | rfl | rfl | rfl | rfl | rfl | rfl | rfl | rfl | rfl | rfl | rfl | rfl | rfl | rfl <;> rfl
theorem fR_tbl : ∀ i, i < 21 → Cond.stringRef "LeftUndoes" (ixS.getD i 0) (txS.getD i "") ∈ lw_tbl := fun i hi => match i, hi with | 0, _ => q364 | 1, _ => q365 | 2, _ => q366 | 3, _ => q367 | 4, _ => q368 | 5, _ => q369 | 6, _ => q370 | 7, _ => q371 | 8, _ => q372 | 9, _ => q373 | 10, _ => q374 | 11, _ => q375 | 12, _ => q376 | 13, _ => q377 | 14, _ => q821 | 15, _ => q835 | 16, _ => q836 | 17, _ => q878 | 18, _ => q896 | 19, _ => q804 | 20, _ => q910 | n + 21, h => absurd h (by omega)
theorem fA_tbl : ∀ C ∈ cAO, Cond.arrayOver (.object C) ∈ lw_tbl := by
  intro C hC
  simp only [cAO, List.mem_cons, List.not_mem_nil, or_false] at hC
  rcases hC with rfl | rfl | rfl | rfl
  · exact q361
  · exact q363
  · exact q379
  · exact q273
theorem fC_all {s : State} {args : Array Value} (hts : ∀ w ∈ lw_tbl, w.before args s = true) : ∀ c : Nat, ∃ x : ClassId × (Nat → Nat), ∀ q, jcl[c]? = some q → u_Kn s q.1 q.2.1 q.2.2 x.1 x.2 := by
  intro c
  match c with
  | 0 =>
    obtain ⟨a, b, h⟩ := u_known (C := RX6) (T := TX6) (N := 42) (n := 42) hts (fun w h => lw_all_tbl (in_X6 w h)) (hts _ (lw_all_tbl q1542))
    exact ⟨(a, b), fun q hq => by cases hq; exact h⟩
  | 1 =>
    obtain ⟨a, b, h⟩ := u_known (C := RX0) (T := TX0) (N := 32) (n := 32) hts (fun w h => lw_all_tbl (in_X0 w h)) (hts _ (lw_all_tbl q154))
    exact ⟨(a, b), fun q hq => by cases hq; exact h⟩
  | 2 =>
    obtain ⟨a, b, h⟩ := u_known (C := RX3) (T := TX3) (N := 21) (n := 21) hts (fun w h => lw_all_tbl (in_X3 w h)) (hts _ (lw_all_tbl q267))
    exact ⟨(a, b), fun q hq => by cases hq; exact h⟩
  | 3 =>
    obtain ⟨a, b, h⟩ := u_known (C := RX4) (T := TX4) (N := 2) (n := 2) hts (fun w h => lw_all_tbl (in_X4 w h)) (hts _ (lw_all_tbl q381))
    exact ⟨(a, b), fun q hq => by cases hq; exact h⟩
  | 4 =>
    obtain ⟨a, b, h⟩ := u_known (C := RX5) (T := TX5) (N := 1) (n := 1) hts (fun w h => lw_all_tbl (in_X5 w h)) (hts _ (lw_all_tbl q396))
    exact ⟨(a, b), fun q hq => by cases hq; exact h⟩
  | 5 =>
    obtain ⟨a, b, h⟩ := u_known (C := RX1) (T := TX1) (N := 7) (n := 7) hts (fun w h => lw_all_tbl (in_X1 w h)) (hts _ (lw_all_tbl q162))
    exact ⟨(a, b), fun q hq => by cases hq; exact h⟩
  | 6 =>
    obtain ⟨a, b, h⟩ := u_known (C := RX2) (T := TX2) (N := 7) (n := 7) hts (fun w h => lw_all_tbl (in_X2 w h)) (hts _ (lw_all_tbl q250))
    exact ⟨(a, b), fun q hq => by cases hq; exact h⟩
  | 7 =>
    obtain ⟨a, b, h⟩ := u_known (C := RX8) (T := TX8) (N := 2) (n := 2) hts (fun w h => lw_all_tbl (in_X8 w h)) (hts _ (lw_all_tbl q523))
    exact ⟨(a, b), fun q hq => by cases hq; exact h⟩
  | 8 =>
    obtain ⟨a, b, h⟩ := u_known (C := RX9) (T := TX9) (N := 2) (n := 2) hts (fun w h => lw_all_tbl (in_X9 w h)) (hts _ (lw_all_tbl q539))
    exact ⟨(a, b), fun q hq => by cases hq; exact h⟩
  | 9 =>
    obtain ⟨a, b, h⟩ := u_known (C := RX10) (T := TX10) (N := 2) (n := 2) hts (fun w h => lw_all_tbl (in_X10 w h)) (hts _ (lw_all_tbl q548))
    exact ⟨(a, b), fun q hq => by cases hq; exact h⟩
  | 10 =>
    obtain ⟨a, b, h⟩ := u_known (C := RX11) (T := TX11) (N := 2) (n := 2) hts (fun w h => lw_all_tbl (in_X11 w h)) (hts _ (lw_all_tbl q557))
    exact ⟨(a, b), fun q hq => by cases hq; exact h⟩
  | 11 =>
    obtain ⟨a, b, h⟩ := u_known (C := RX12) (T := TX12) (N := 2) (n := 2) hts (fun w h => lw_all_tbl (in_X12 w h)) (hts _ (lw_all_tbl q566))
    exact ⟨(a, b), fun q hq => by cases hq; exact h⟩
  | 12 =>
    obtain ⟨a, b, h⟩ := u_known (C := RX14) (T := TX14) (N := 1) (n := 1) hts (fun w h => lw_all_tbl (in_X14 w h)) (hts _ (lw_all_tbl q823))
    exact ⟨(a, b), fun q hq => by cases hq; exact h⟩
  | 13 =>
    obtain ⟨a, b, h⟩ := u_known (C := RX16) (T := TX16) (N := 3) (n := 3) hts (fun w h => lw_all_tbl (in_X16 w h)) (hts _ (lw_all_tbl q863))
    exact ⟨(a, b), fun q hq => by cases hq; exact h⟩
  | 14 =>
    obtain ⟨a, b, h⟩ := u_known (C := RX17) (T := TX17) (N := 2) (n := 2) hts (fun w h => lw_all_tbl (in_X17 w h)) (hts _ (lw_all_tbl q880))
    exact ⟨(a, b), fun q hq => by cases hq; exact h⟩
  | 15 =>
    obtain ⟨a, b, h⟩ := u_known (C := RX18) (T := TX18) (N := 2) (n := 2) hts (fun w h => lw_all_tbl (in_X18 w h)) (hts _ (lw_all_tbl q898))
    exact ⟨(a, b), fun q hq => by cases hq; exact h⟩
  | 16 =>
    obtain ⟨a, b, h⟩ := u_known (C := RX15) (T := TX15) (N := 2) (n := 2) hts (fun w h => lw_all_tbl (in_X15 w h)) (hts _ (lw_all_tbl q846))
    exact ⟨(a, b), fun q hq => by cases hq; exact h⟩
  | 17 =>
    obtain ⟨a, b, h⟩ := u_known (C := RX19) (T := TX19) (N := 4) (n := 4) hts (fun w h => lw_all_tbl (in_X19 w h)) (hts _ (lw_all_tbl q911))
    exact ⟨(a, b), fun q hq => by cases hq; exact h⟩
  | 18 =>
    obtain ⟨a, b, h⟩ := u_known (C := RX20) (T := TX20) (N := 1) (n := 1) hts (fun w h => lw_all_tbl (in_X20 w h)) (hts _ (lw_all_tbl q1314))
    exact ⟨(a, b), fun q hq => by cases hq; exact h⟩
  | n + 19 => exact ⟨(0, fun _ => 0), fun q hq => by cases hq⟩
def fTy (i : Nat) : FieldType := [.int, .byte, .short, .long, .boolean, .object "LeftUndoes$Hand", .object "java/lang/String", .object "LeftUndoes$Shelf", .object "LeftUndoes$Rule"].getD i .int
theorem fT_all {s : State} {args : Array Value} (hts : ∀ w ∈ lw_tbl, w.before args s = true) : ∀ i : Nat, ∃ cA : ClassId, i < 9 → ArrOfT s cA (fTy i) ∧ va_RA s cA (fTy i) := by
  intro i
  match i with
  | 0 =>
    obtain ⟨cA, kA, comp, h1, h2, h3⟩ := Cond.arrayClass_spec (hts _ (lw_all_tbl q359))
    exact ⟨cA, fun _ => ⟨fun n z => ⟨fun k h => (by cases h), kA, h2, comp, h3⟩, h1⟩⟩
  | 1 =>
    obtain ⟨cA, kA, comp, h1, h2, h3⟩ := Cond.arrayClass_spec (hts _ (lw_all_tbl q395))
    exact ⟨cA, fun _ => ⟨fun n z => ⟨fun k h => (by cases h), kA, h2, comp, h3⟩, h1⟩⟩
  | 2 =>
    obtain ⟨cA, kA, comp, h1, h2, h3⟩ := Cond.arrayClass_spec (hts _ (lw_all_tbl q1228))
    exact ⟨cA, fun _ => ⟨fun n z => ⟨fun k h => (by cases h), kA, h2, comp, h3⟩, h1⟩⟩
  | 3 =>
    obtain ⟨cA, kA, comp, h1, h2, h3⟩ := Cond.arrayClass_spec (hts _ (lw_all_tbl q1229))
    exact ⟨cA, fun _ => ⟨fun n z => ⟨fun k h => (by cases h), kA, h2, comp, h3⟩, h1⟩⟩
  | 4 =>
    obtain ⟨cA, kA, comp, h1, h2, h3⟩ := Cond.arrayClass_spec (hts _ (lw_all_tbl q1230))
    exact ⟨cA, fun _ => ⟨fun n z => ⟨fun k h => (by cases h), kA, h2, comp, h3⟩, h1⟩⟩
  | 5 =>
    obtain ⟨comp, c, k, h1, h2, h3, h4, h5⟩ := Cond.arrayOver_spec (hts _ q361)
    exact ⟨c, fun _ => ⟨fun n z => ⟨fun k h => (by cases h), k, h3, comp, h4⟩, k, comp, h3, h4, h1, h5⟩⟩
  | 6 =>
    obtain ⟨comp, c, k, h1, h2, h3, h4, h5⟩ := Cond.arrayOver_spec (hts _ q363)
    exact ⟨c, fun _ => ⟨fun n z => ⟨fun k h => (by cases h), k, h3, comp, h4⟩, k, comp, h3, h4, h1, h5⟩⟩
  | 7 =>
    obtain ⟨comp, c, k, h1, h2, h3, h4, h5⟩ := Cond.arrayOver_spec (hts _ q379)
    exact ⟨c, fun _ => ⟨fun n z => ⟨fun k h => (by cases h), k, h3, comp, h4⟩, k, comp, h3, h4, h1, h5⟩⟩
  | 8 =>
    obtain ⟨comp, c, k, h1, h2, h3, h4, h5⟩ := Cond.arrayOver_spec (hts _ q273)
    exact ⟨c, fun _ => ⟨fun n z => ⟨fun k h => (by cases h), k, h3, comp, h4⟩, k, comp, h3, h4, h1, h5⟩⟩
  | n + 9 => exact ⟨0, fun h => absurd h (by omega)⟩
/-- all that is known at the law's start: the class numbers D, the classes of arrays T, the texts' addresses S -/
def lwF (s : State) (D : va_G) (T : Nat → ClassId) (S : Nat → Nat) : Prop :=
  va_K D jcl ((List.range 9).map fun i => (T i, fTy i)) s ∧ (vk_S 21 lenS bytS S (fun i => S (100 + i)) (fun q => s.heap.size ≤ q) s s.heap ∧ va_Z "java/lang/String" "COMPACT_STRINGS" "Z" (.int 1) (fun q => s.heap.size ≤ q) s s.heap ∧ va_Zq "jdk/internal/util/Preconditions" "SIOOBE_FORMATTER" "Ljava/util/function/BiFunction;" (fun q => s.heap.size ≤ q) s s.heap ∧ vx_Zq Bundle.tN "UNASSIGNED_STACK" Bundle.steD (fun q => s.heap.size ≤ q) s s.heap ∧ vx_Zq Bundle.tN "SUPPRESSED_SENTINEL" Bundle.listD (fun q => s.heap.size ≤ q) s s.heap) ∧ (∀ i, i < 21 → vk_R "LeftUndoes" (ixS.getD i 0) (txS.getD i "") (S i) s)
theorem lw_facts {s : State} {args : Array Value} (hts : ∀ w ∈ lw_tbl, w.before args s = true) (hgv : (Jvm.Cond.and given_1 narrow_1).before args s = true) : ∃ D T S, lwF s D T S := by
  have hF : ∀ w ∈ nwF, w.before args s = true := flat_of_before _ hgv
  have g : ∀ {i : Nat} {w : Cond}, nwF[i]? = some w → w.before args s = true := fun h => hF _ (List.mem_of_getElem? h)
  obtain ⟨dd, hdd⟩ := Classical.axiomOfChoice (fC_all hts)
  obtain ⟨T, hT⟩ := Classical.axiomOfChoice (fT_all hts)
  have hA : ∀ a : Nat, a < s.heap.size → ¬ (fun q => s.heap.size ≤ q) a := fun a h h2 => Nat.lt_irrefl _ (Nat.lt_of_lt_of_le h h2)
  obtain ⟨adK, adV, hS, hE⟩ := vk_Sof (args := args) (s := s) (N := 21) (tm := tmS) (len := lenS) (byt := bytS) (A := fun q => s.heap.size ≤ q) (by decide) (fun i h => g (nP_hex i h)) (fun i h => g (nP_hco i h)) (fun i h => g (nP_har i h)) (fun i h => g (nP_hle i h)) (fun i hi j hj => g (nP_hel i hi j hj)) (fun i j hi hj hij => by
    rcases Nat.lt_or_gt_of_ne hij with h | h
    · rcases nP_hne i hi j hj h with h | h
      · exact Or.inl (g h)
      · exact Or.inr (g h)
    · rcases nP_hne j hj i hi h with h | h
      · exact Or.inr (g h)
      · exact Or.inl (g h)) hA
  have e1 : ∀ i, i < 21 → (fun i => if i < 100 then adK i else adV (i - 100)) i = adK i := fun i h => if_pos (by omega)
  refine ⟨(fun c => (dd c).1, fun c => (dd c).2), T, fun i => if i < 100 then adK i else adV (i - 100), ⟨fun c q hq => hdd c q hq, fun k q hq => ?_⟩, ⟨⟨fun i hi => ?_, fun i j hi hj h => ?_⟩, ?_, ?_, ?_, ?_⟩, fun i hi => ?_⟩
  · have hk : k < 9 := by have := (List.getElem?_eq_some_iff.mp hq).1; simpa using this
    rw [List.getElem?_map, List.getElem?_range hk] at hq
    cases hq
    exact hT k hk
  · have h1 := hS.1 i hi
    rw [e1 i hi]
    have e2 : (fun i => (fun i => if i < 100 then adK i else adV (i - 100)) (100 + i)) i = adV i := by
      show (if 100 + i < 100 then _ else _) = _
      rw [if_neg (by omega), Nat.add_sub_cancel_left]
    rw [e2]
    exact h1
  · rw [e1 i hi, e1 j hj] at h
    exact hS.2 i j hi hj h
  · exact va_Zof (hts _ q765) (hts _ (lw_all_tbl q134)) (va_eqt (g nP_cs)) hA
  · exact va_Zqof (hts _ q781) (hts _ (lw_all_tbl q136)) (g nP_si) hA
  · exact vx_Zqof (hts _ q188) (hts _ (lw_all_tbl q119)) (g nP_us) hA
  · exact vx_Zqof (hts _ q190) (hts _ (lw_all_tbl q119)) (g nP_ss) hA
  · rw [e1 i hi]
    exact vk_R.of (hts _ (fR_tbl i hi)) (hE i hi)

