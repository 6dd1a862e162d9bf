/-! THE COMPONENT's METHODS that throw or catch what the machine throws, printed by gen/gen5.py -/
set_option maxRecDepth 100000
def y0_must (σ : SS) (d : DS) (a0 : Bool) (a1 : Int32) : Option (XR (SS × DS)) := (if a0 = true then some (Sum.inr (σ, d)) else (some (sI σ 71 a1)).bind fun σ1 => some (Sum.inl (1, σ1, d)))
def f0_rowOf (σ : SS) (d : DS) (a0 : Int32) (a1 : Int32) : Option (XR (Nat × SS × DS)) := (if a0 = (0 : Int32) then (if a1 < 0 then some (Sum.inl (3, σ, d)) else (dNewS d 1 a1).bind fun d1 => some (Sum.inr (d.2, σ, d1))) else (if a0 = (1 : Int32) then (if a1 < 0 then some (Sum.inl (3, σ, d)) else (dNewS d 2 a1).bind fun d2 => some (Sum.inr (d.2, σ, d2))) else (if a0 = (2 : Int32) then (if a1 < 0 then some (Sum.inl (3, σ, d)) else (dNewS d 0 a1).bind fun d3 => some (Sum.inr (d.2, σ, d3))) else (if a0 = (3 : Int32) then (if a1 < 0 then some (Sum.inl (3, σ, d)) else (dNewS d 3 a1).bind fun d4 => some (Sum.inr (d.2, σ, d4))) else (if a1 < 0 then some (Sum.inl (3, σ, d)) else (dNewS d 4 a1).bind fun d5 => some (Sum.inr (d.2, σ, d5)))))))
def f0_length (σ : SS) (d : DS) (a0 : Option Nat) : Option (XR (Int32 × SS × DS)) := (dIs d "[B" a0).bind fun b1 => (if b1 = true then ((dCk d "[B" a0).bind fun b => (if b = true then (if a0.isNone = true then some (Sum.inl (5, σ, d)) else (a0.bind (dLen d 1)).bind fun v9 => some (Sum.inr (v9, σ, d))) else some (Sum.inl (4, σ, d)))) else (dIs d "[S" a0).bind fun b2 => (if b2 = true then ((dCk d "[S" a0).bind fun b => (if b = true then (if a0.isNone = true then some (Sum.inl (5, σ, d)) else (a0.bind (dLen d 2)).bind fun v8 => some (Sum.inr (v8, σ, d))) else some (Sum.inl (4, σ, d)))) else (dIs d "[I" a0).bind fun b3 => (if b3 = true then ((dCk d "[I" a0).bind fun b => (if b = true then (if a0.isNone = true then some (Sum.inl (5, σ, d)) else (a0.bind (dLen d 0)).bind fun v7 => some (Sum.inr (v7, σ, d))) else some (Sum.inl (4, σ, d)))) else (dIs d "[J" a0).bind fun b4 => (if b4 = true then ((dCk d "[J" a0).bind fun b => (if b = true then (if a0.isNone = true then some (Sum.inl (5, σ, d)) else (a0.bind (dLen d 3)).bind fun v6 => some (Sum.inr (v6, σ, d))) else some (Sum.inl (4, σ, d)))) else ((dCk d "[Z" a0).bind fun b => (if b = true then (if a0.isNone = true then some (Sum.inl (5, σ, d)) else (a0.bind (dLen d 4)).bind fun v5 => some (Sum.inr (v5, σ, d))) else some (Sum.inl (4, σ, d))))))))
def f0_set (σ : SS) (d : DS) (a0 : Option Nat) (a1 : Int32) (a2 : Int32) : Option (XR (SS × DS)) := (dIs d "[B" a0).bind fun b1 => (if b1 = true then ((dCk d "[B" a0).bind fun b => (if b = true then (a0.bind fun q => dSt d 1 q a1 a2.toInt8.toInt32).bind fun d10 => some (Sum.inr (σ, d10)) else some (Sum.inl (4, σ, d)))) else (dIs d "[S" a0).bind fun b2 => (if b2 = true then ((dCk d "[S" a0).bind fun b => (if b = true then (a0.bind fun q => dSt d 2 q a1 a2.toInt16.toInt32).bind fun d9 => some (Sum.inr (σ, d9)) else some (Sum.inl (4, σ, d)))) else (dIs d "[I" a0).bind fun b3 => (if b3 = true then ((dCk d "[I" a0).bind fun b => (if b = true then (a0.bind fun q => dSt d 0 q a1 a2).bind fun d8 => some (Sum.inr (σ, d8)) else some (Sum.inl (4, σ, d)))) else (dIs d "[J" a0).bind fun b4 => (if b4 = true then ((dCk d "[J" a0).bind fun b => (if b = true then (a0.bind fun q => dStJ d q a1 a2.toInt64).bind fun d7 => some (Sum.inr (σ, d7)) else some (Sum.inl (4, σ, d)))) else ((dCk d "[Z" a0).bind fun b => (if b = true then (if a2 = 0 then (a0.bind fun q => dSt d 4 q a1 (0 : Int32)).bind fun d5 => some (Sum.inr (σ, d5)) else (a0.bind fun q => dSt d 4 q a1 (1 : Int32)).bind fun d6 => some (Sum.inr (σ, d6))) else some (Sum.inl (4, σ, d))))))))
def f0_manyOf (σ : SS) (d : DS) (a0 : Option Nat) (a1 : Int32) : Option (XR (Int32 × SS × DS)) := (if a1 = (0 : Int32) then ((dCk d "[B" a0).bind fun b => (if b = true then (if a0.isNone = true then some (Sum.inl (5, σ, d)) else (a0.bind (dLen d 1)).bind fun v1 => some (Sum.inr (v1, σ, d))) else some (Sum.inl (4, σ, d)))) else (if a1 = (1 : Int32) then ((dCk d "[S" a0).bind fun b => (if b = true then (if a0.isNone = true then some (Sum.inl (5, σ, d)) else (a0.bind (dLen d 2)).bind fun v2 => some (Sum.inr (v2, σ, d))) else some (Sum.inl (4, σ, d)))) else (if a1 = (2 : Int32) then ((dCk d "[I" a0).bind fun b => (if b = true then (if a0.isNone = true then some (Sum.inl (5, σ, d)) else (a0.bind (dLen d 0)).bind fun v3 => some (Sum.inr (v3, σ, d))) else some (Sum.inl (4, σ, d)))) else (if a1 = (3 : Int32) then ((dCk d "[J" a0).bind fun b => (if b = true then (if a0.isNone = true then some (Sum.inl (5, σ, d)) else (a0.bind (dLen d 3)).bind fun v4 => some (Sum.inr (v4, σ, d))) else some (Sum.inl (4, σ, d)))) else ((dCk d "[Z" a0).bind fun b => (if b = true then (if a0.isNone = true then some (Sum.inl (5, σ, d)) else (a0.bind (dLen d 4)).bind fun v5 => some (Sum.inr (v5, σ, d))) else some (Sum.inl (4, σ, d))))))))
def f0_itemOf (σ : SS) (d : DS) (a0 : Option Nat) (a1 : Int32) (a2 : Int32) : Option (XR (Int32 × SS × DS)) := yb xnA d (f0_manyOf σ d a0 a1) fun r1 => (f0_isIn a2 (0 : Int32) (r1.1 - (1 : Int32))).bind fun r2 => yb xnV r1.2.2 (y0_must r1.2.1 r1.2.2 r2 (-12 : Int32)) fun r3 => (if a1 = (0 : Int32) then ((dCk r3.2 "[B" a0).bind fun b => (if b = true then (a0.bind fun q => dLd r3.2 1 q a2).bind fun v4 => some (Sum.inr (v4, r3.1, r3.2)) else some (Sum.inl (4, r3.1, r3.2)))) else (if a1 = (1 : Int32) then ((dCk r3.2 "[S" a0).bind fun b => (if b = true then (a0.bind fun q => dLd r3.2 2 q a2).bind fun v5 => some (Sum.inr (v5, r3.1, r3.2)) else some (Sum.inl (4, r3.1, r3.2)))) else (if a1 = (2 : Int32) then ((dCk r3.2 "[I" a0).bind fun b => (if b = true then (a0.bind fun q => dLd r3.2 0 q a2).bind fun v6 => some (Sum.inr (v6, r3.1, r3.2)) else some (Sum.inl (4, r3.1, r3.2)))) else (if a1 = (3 : Int32) then ((dCk r3.2 "[J" a0).bind fun b => (if b = true then (a0.bind fun q => dLdJ r3.2 q a2).bind fun v7 => some (Sum.inr (v7.toInt32, r3.1, r3.2)) else some (Sum.inl (4, r3.1, r3.2)))) else ((dCk r3.2 "[Z" a0).bind fun b => (if b = true then (a0.bind fun q => dLd r3.2 4 q a2).bind fun v8 => (if v8 = 0 then some (Sum.inr ((0 : Int32), r3.1, r3.2)) else some (Sum.inr ((1 : Int32), r3.1, r3.2))) else some (Sum.inl (4, r3.1, r3.2))))))))
def f0_held (σ : SS) (d : DS) (a0 : Int32) : Option (XR (Option Nat × SS × DS)) := (ldS a0).bind fun i1 => (dIs d "LeftUndoes$Ticket" (σ.2.2.1 (3 + i1))).bind fun b2 => (if b2 = true then ((dCk d "LeftUndoes$Ticket" (σ.2.2.1 (3 + i1))).bind fun b => (if b = true then ((σ.2.2.1 (3 + i1)).bind fun q => dInt d 18 0 q).bind fun v3 => (f0_isPerson σ v3).bind fun r4 => (if r4 = true then ((σ.2.2.1 (3 + i1)).bind fun q => dInt d 18 0 q).bind fun v5 => (ldN σ 0 v5).bind fun q6 => some (Sum.inr (some q6, σ, d)) else some (Sum.inr (none, σ, d))) else some (Sum.inl (4, σ, d)))) else some (Sum.inr (σ.2.2.1 (3 + i1), σ, d)))
def f0_personAs (σ : SS) (d : DS) (a0 : Option Nat) (a1 : Int32) : Option (XR (Option Nat × SS × DS)) := (if a1 = (0 : Int32) then ((dCk d "LeftUndoes$Hand" a0).bind fun b => (if b = true then some (Sum.inr (a0, σ, d)) else some (Sum.inl (4, σ, d)))) else (if a1 = (1 : Int32) then ((dCk d "LeftUndoes$Clasped" a0).bind fun b => (if b = true then some (Sum.inr (a0, σ, d)) else some (Sum.inl (4, σ, d)))) else (if a1 = (2 : Int32) then ((dCk d "LeftUndoes$Forger" a0).bind fun b => (if b = true then some (Sum.inr (a0, σ, d)) else some (Sum.inl (4, σ, d)))) else (if a1 = (3 : Int32) then ((dCk d "LeftUndoes$Twin" a0).bind fun b => (if b = true then some (Sum.inr (a0, σ, d)) else some (Sum.inl (4, σ, d)))) else (if a1 = (4 : Int32) then ((dCk d "LeftUndoes$Slow" a0).bind fun b => (if b = true then some (Sum.inr (a0, σ, d)) else some (Sum.inl (4, σ, d)))) else ((dCk d "LeftUndoes$Heir" a0).bind fun b => (if b = true then some (Sum.inr (a0, σ, d)) else some (Sum.inl (4, σ, d)))))))))
def f0_takenAs (σ : SS) (d : DS) (a0 : Option Nat) (a1 : Int32) : Option (XR (Int32 × SS × DS)) := (if a1 < (10 : Int32) then yb xnA d (f0_personAs σ d a0 a1) fun r1 => (if r1.1.isNone = true then some (Sum.inl (5, r1.2.1, r1.2.2)) else (r1.1.bind fun q => hNumber r1.2.2 q).bind fun v2 => some (Sum.inr (v2, r1.2.1, r1.2.2))) else yb xnA d (f0_manyOf σ d a0 (a1 - (10 : Int32))) fun r3 => some (Sum.inr (r3.1, r3.2.1, r3.2.2)))
def f0_sheet (σ : SS) (d : DS) (a0 : Int32) (a1 : Int32) (a2 : Int32) : Option (Int32 × SS × DS) := (f0_isShelf a0).bind fun r1 => (if r1 = true then (f0_isIn a1 (-1 : Int32) (4 : Int32)).bind fun r2 => (if r2 = true then (if a1 < 0 then (ldS a0).bind fun i3 => (if 0 ≤ a1 then yh xnA d (f0_rowOf σ d a1 a2) (fun y => (if y.1 = 3 then some ((-14 : Int32), y.2.1) else none)) fun r4 => (some (sF r4.2.1 (7 + i3) (some r4.1))).bind fun σ5 => some ((1 : Int32), σ5, r4.2.2) else (some (sF σ (7 + i3) none)).bind fun σ6 => some ((1 : Int32), σ6, d)) else (if a2 ≤ (40 : Int32) then (ldS a0).bind fun i7 => (if 0 ≤ a1 then yh xnA d (f0_rowOf σ d a1 a2) (fun y => (if y.1 = 3 then some ((-14 : Int32), y.2.1) else none)) fun r8 => (some (sF r8.2.1 (7 + i7) (some r8.1))).bind fun σ9 => some ((1 : Int32), σ9, r8.2.2) else (some (sF σ (7 + i7) none)).bind fun σ10 => some ((1 : Int32), σ10, d)) else some ((-1 : Int32), σ, d))) else some ((-1 : Int32), σ, d)) else some ((-1 : Int32), σ, d))
def f0_write (σ : SS) (d : DS) (a0 : Int32) (a1 : Int32) (a2 : Int32) : Option (Int32 × SS × DS) := (f0_isShelf a0).bind fun r1 => (if r1 = true then (ldS a0).bind fun i2 => (if (σ.2.2.1 (7 + i2)).isNone = true then yh xnV d (y0_must σ d false (-11 : Int32)) (fun y => (if y.1 = 1 then some (y.2.1.1 71, y.2.1) else none)) fun r3 => yh xnA r3.2 (f0_length r3.1 r3.2 (σ.2.2.1 (7 + i2))) (fun y => none) fun r4 => (f0_isIn a1 (0 : Int32) (r4.1 - (1 : Int32))).bind fun r5 => yh xnV r4.2.2 (y0_must r4.2.1 r4.2.2 r5 (-12 : Int32)) (fun y => (if y.1 = 1 then some (y.2.1.1 71, y.2.1) else none)) fun r6 => yh xnV r6.2 (f0_set r6.1 r6.2 (σ.2.2.1 (7 + i2)) a1 a2) (fun y => none) fun r7 => some ((1 : Int32), r7.1, r7.2) else yh xnV d (y0_must σ d true (-11 : Int32)) (fun y => (if y.1 = 1 then some (y.2.1.1 71, y.2.1) else none)) fun r8 => yh xnA r8.2 (f0_length r8.1 r8.2 (σ.2.2.1 (7 + i2))) (fun y => none) fun r9 => (f0_isIn a1 (0 : Int32) (r9.1 - (1 : Int32))).bind fun r10 => yh xnV r9.2.2 (y0_must r9.2.1 r9.2.2 r10 (-12 : Int32)) (fun y => (if y.1 = 1 then some (y.2.1.1 71, y.2.1) else none)) fun r11 => yh xnV r11.2 (f0_set r11.1 r11.2 (σ.2.2.1 (7 + i2)) a1 a2) (fun y => none) fun r12 => some ((1 : Int32), r12.1, r12.2)) else some ((-1 : Int32), σ, d))
def f0_item (σ : SS) (d : DS) (a0 : Int32) (a1 : Int32) (a2 : Int32) : Option (Int32 × SS × DS) := (f0_isShelf a0).bind fun r1 => (if r1 = true then (f0_isIn a1 (0 : Int32) (4 : Int32)).bind fun r2 => (if r2 = true then (ldS a0).bind fun i3 => yh xnA d (f0_itemOf σ d (σ.2.2.1 (7 + i3)) a1 a2) (fun y => (if y.1 = 4 then some ((-13 : Int32), y.2.1) else (if y.1 = 5 then some ((-11 : Int32), y.2.1) else (if y.1 = 1 then some (y.2.1.1 71, y.2.1) else none)))) fun r4 => some (r4.1, r4.2.1, r4.2.2) else some ((-1 : Int32), σ, d)) else some ((-1 : Int32), σ, d))
def f0_goAll_B71 (N : Nat) (k44 : SS → DS → Int32 → Int32 → Option Nat → Int32 → Int32 → Int32 → Option (Int32 × SS × DS)) (σ : SS) (d : DS) (x2 : Int32) (x3 : Int32) (x4 : Option Nat) (x5 : Int32) (x6 : Int32) (x7 : Int32) (y0 : Bool) : Option (Int32 × SS × DS) := yh xnV d (y0_must σ d y0 (-12 : Int32)) (fun y => (if y.1 = 1 then some (y.2.1.1 71, y.2.1) else none)) fun r1 => yh xnA r1.2 (f0_itemOf r1.1 r1.2 x4 (0 : Int32) (x2 + x7)) (fun y => (if y.1 = 4 then some ((-13 : Int32), y.2.1) else (if y.1 = 5 then some ((-11 : Int32), y.2.1) else (if y.1 = 1 then some (y.2.1.1 71, y.2.1) else none)))) fun r2 => (f0_isAct r2.2.1 r2.1).bind fun r3 => (if r3 = true then (f3_isOver r2.2.1 0).bind fun r4 => (if r4 = true then k44 r2.2.1 r2.2.2 x2 x3 x4 x5 x6 (x7 + 1) else (f0_goes N r2.2.2 r2.2.1 (r2.1 - (1 : Int32))).bind fun r5 => k44 r5.2 r2.2.2 x2 x3 x4 x5 (x6 + r5.1) (x7 + 1)) else k44 r2.2.1 r2.2.2 x2 x3 x4 x5 x6 (x7 + 1))
def f0_goAll_L44 (N : Nat)  : Nat → SS → DS → Int32 → Int32 → Option Nat → Int32 → Int32 → Int32 → Option (Int32 × SS × DS)
  | 0, _, _, _, _, _, _, _, _ => none
  | n + 1, σ, d, x2, x3, x4, x5, x6, x7 => (if x3 ≤ x7 then some (x6, σ, d) else (if x2 < 0 then f0_goAll_B71 N (f0_goAll_L44 N n) σ d x2 x3 x4 x5 x6 x7 false else (if ((x5 - (1 : Int32)) - x7) < x2 then f0_goAll_B71 N (f0_goAll_L44 N n) σ d x2 x3 x4 x5 x6 x7 false else f0_goAll_B71 N (f0_goAll_L44 N n) σ d x2 x3 x4 x5 x6 x7 true)))
def f0_goAll (N : Nat) (σ : SS) (d : DS) (a0 : Int32) (a1 : Int32) (a2 : Int32) : Option (Int32 × SS × DS) := (f0_isShelf a0).bind fun r1 => (if r1 = true then (f0_isIn a2 (0 : Int32) (20 : Int32)).bind fun r2 => (if r2 = true then (ldS a0).bind fun i3 => yh xnA d (f0_manyOf σ d (σ.2.2.1 (7 + i3)) (0 : Int32)) (fun y => (if y.1 = 4 then some ((-13 : Int32), y.2.1) else (if y.1 = 5 then some ((-11 : Int32), y.2.1) else none))) fun r4 => f0_goAll_L44 N N r4.2.1 r4.2.2 a1 a2 (σ.2.2.1 (7 + i3)) r4.1 (0 : Int32) (0 : Int32) else some ((-1 : Int32), σ, d)) else some ((-1 : Int32), σ, d))
def f0_wouldBe_B82 (N : Nat) (k55 : SS → DS → Int32 → Int32 → Option Nat → Int32 → Int32 → Int32 → Option (Int32 × SS × DS)) (σ : SS) (d : DS) (x2 : Int32) (x3 : Int32) (x4 : Option Nat) (x5 : Int32) (x6 : Int32) (x7 : Int32) (y0 : Bool) : Option (Int32 × SS × DS) := yh xnV d (y0_must σ d y0 (-12 : Int32)) (fun y => (if y.1 = 1 then (f3_become y.2.1 0 2).bind fun r2 => some (y.2.1.1 71, r2) else none)) fun r1 => yh xnA r1.2 (f0_itemOf r1.1 r1.2 x4 (0 : Int32) (x2 + x7)) (fun y => (if y.1 = 4 then (f3_become y.2.1 0 2).bind fun r4 => some ((-13 : Int32), r4) else (if y.1 = 5 then (f3_become y.2.1 0 2).bind fun r5 => some ((-11 : Int32), r5) else (if y.1 = 1 then (f3_become y.2.1 0 2).bind fun r6 => some (y.2.1.1 71, r6) else none)))) fun r3 => (f0_isAct r3.2.1 r3.1).bind fun r7 => (if r7 = true then (f3_isOver r3.2.1 0).bind fun r11 => (if r11 = true then yh xnV r3.2.2 (y0_must r3.2.1 r3.2.2 false (-4 : Int32)) (fun y => (if y.1 = 1 then (f3_become y.2.1 0 2).bind fun r13 => some (y.2.1.1 71, r13) else none)) fun r12 => (f0_goes N r12.2 r12.1 (r3.1 - (1 : Int32))).bind fun r14 => k55 r14.2 r12.2 x2 x3 x4 x5 (x6 + r14.1) (x7 + 1) else yh xnV r3.2.2 (y0_must r3.2.1 r3.2.2 true (-4 : Int32)) (fun y => (if y.1 = 1 then (f3_become y.2.1 0 2).bind fun r16 => some (y.2.1.1 71, r16) else none)) fun r15 => (f0_goes N r15.2 r15.1 (r3.1 - (1 : Int32))).bind fun r17 => k55 r17.2 r15.2 x2 x3 x4 x5 (x6 + r17.1) (x7 + 1)) else yh xnV r3.2.2 (y0_must r3.2.1 r3.2.2 false (-4 : Int32)) (fun y => (if y.1 = 1 then (f3_become y.2.1 0 2).bind fun r9 => some (y.2.1.1 71, r9) else none)) fun r8 => (f0_goes N r8.2 r8.1 (r3.1 - (1 : Int32))).bind fun r10 => k55 r10.2 r8.2 x2 x3 x4 x5 (x6 + r10.1) (x7 + 1))
def f0_wouldBe_L55 (N : Nat)  : Nat → SS → DS → Int32 → Int32 → Option Nat → Int32 → Int32 → Int32 → Option (Int32 × SS × DS)
  | 0, _, _, _, _, _, _, _, _ => none
  | n + 1, σ, d, x2, x3, x4, x5, x6, x7 => (if x3 ≤ x7 then (f3_become σ 0 2).bind fun r1 => some (x6, r1, d) else (if x2 < 0 then f0_wouldBe_B82 N (f0_wouldBe_L55 N n) σ d x2 x3 x4 x5 x6 x7 false else (if ((x5 - (1 : Int32)) - x7) < x2 then f0_wouldBe_B82 N (f0_wouldBe_L55 N n) σ d x2 x3 x4 x5 x6 x7 false else f0_wouldBe_B82 N (f0_wouldBe_L55 N n) σ d x2 x3 x4 x5 x6 x7 true)))
def f0_wouldBe (N : Nat) (σ : SS) (d : DS) (a0 : Int32) (a1 : Int32) (a2 : Int32) : Option (Int32 × SS × DS) := (f0_isShelf a0).bind fun r1 => (if r1 = true then (f0_isIn a2 (0 : Int32) (20 : Int32)).bind fun r2 => (if r2 = true then (f3_become σ 2 0).bind fun r3 => (ldS a0).bind fun i4 => yh xnA d (f0_manyOf r3 d (r3.2.2.1 (7 + i4)) (0 : Int32)) (fun y => (if y.1 = 4 then (f3_become y.2.1 0 2).bind fun r6 => some ((-13 : Int32), r6) else (if y.1 = 5 then (f3_become y.2.1 0 2).bind fun r7 => some ((-11 : Int32), r7) else none))) fun r5 => f0_wouldBe_L55 N N r5.2.1 r5.2.2 a1 a2 (r3.2.2.1 (7 + i4)) r5.1 (0 : Int32) (0 : Int32) else some ((-1 : Int32), σ, d)) else some ((-1 : Int32), σ, d))
def f0_taken (σ : SS) (d : DS) (a0 : Int32) (a1 : Int32) : Option (Int32 × SS × DS) := (f0_isShelf a0).bind fun r1 => (if r1 = true then (f0_isIn a1 (0 : Int32) (5 : Int32)).bind fun r2 => (if r2 = true then yh xnA d (f0_held σ d a0) (fun y => none) fun r3 => yh xnA r3.2.2 (f0_takenAs r3.2.1 r3.2.2 r3.1 a1) (fun y => (if y.1 = 4 then some ((-13 : Int32), y.2.1) else (if y.1 = 5 then some ((-11 : Int32), y.2.1) else none))) fun r4 => some (r4.1, r4.2.1, r4.2.2) else (f0_isIn a1 (10 : Int32) (14 : Int32)).bind fun r5 => (if r5 = true then yh xnA d (f0_held σ d a0) (fun y => none) fun r6 => yh xnA r6.2.2 (f0_takenAs r6.2.1 r6.2.2 r6.1 a1) (fun y => (if y.1 = 4 then some ((-13 : Int32), y.2.1) else (if y.1 = 5 then some ((-11 : Int32), y.2.1) else none))) fun r7 => some (r7.1, r7.2.1, r7.2.2) else some ((-1 : Int32), σ, d))) else some ((-1 : Int32), σ, d))
section
variable {p : Program} {l : Launch} {e : Env} {R : Room} {s : State} {m : MethodId} {args : Array Value} {below : List Frame} {meth : Method} {c : Code}
variable {G : cG} {d : DS} {KK : State → Prop}
variable {NX : Nat} {Q : State → Prop} {nL : Nat} {cc : ByteArray} {fr lo frc loc : Nat} {ret : Option FieldType}
variable {pc : Nat} {σ : SS} {lv : List (Nat × Value)} {st : List Value} {ρ : Type} {res : ρ}

end
section
variable {p : Program} {l : Launch} {e : Env} {R : Room} {s : State} {m : MethodId} {args : Array Value} {below : List Frame} {meth : Method} {c : Code}
variable {G : cG} {d : DS} {KK : State → Prop}
variable {NX : Nat} {nL : Nat} {cc : ByteArray} {fr lo frc loc : Nat} {ret : Option FieldType}
variable {pc : Nat} {σ : SS} {lv : List (Nat × Value)} {st : List Value} {τ : Type} {nf : τ → Nat} {Ψ : τ → Outcome → SS × DS → Prop} {res : XR τ}
theorem ky_X0_0_manyOf (hk : jk p R s m args meth c (ynx nf res) cc nL RX0 fr lo ret) (hH : cH G KK) (hK : KK s) (ht : ∀ x ∈ c.exceptionTable.toList, False) (h0 : hX G s.heap) (hlt : l.stackTraces = false) {a0 : Option Nat} {a1 : Int32} {F : Option (XR (Int32 × SS × DS))} {K : (Int32 × SS × DS) → Option (XR τ)} (hM : ∀ r, F = some r → jMY l yX0_manyOf (ws_ yX0_manyOf cX0_manyOf 2 (some .int)) frc loc [va_rf a0, .int a1] G KK (σ, d) xnA (jUa (fun x : Int32 => .int x)) r) (hd : decode cc pc = .ok (.invokestatic 551, 3)) (hr : frc + 1 ≤ fr ∧ 8 + (2 + 11) + loc ≤ lo) (hw : (st.map fun v => v.category).sum ≤ 8) (kk : ∀ r : (Int32 × SS × DS), jj p l e R s m args below meth c (hA G) (ynx nf res) (jZY below args s G nf Ψ res) (cWo G r.2.2) (cnx r.2.2) nL r.2.1 (pc + 3) lv (.int r.1 :: st) (K r = some res)) : jj p l e R s m args below meth c (hA G) (ynx nf res) (jZY below args s G nf Ψ res) (cWo G d) (cnx d) nL σ pc lv (.int a1 :: va_rf a0 :: st) (yb xnA d F K = some res) :=
  jy_SUi (rt := some .int) (n := 2) hk hH hK ht [va_rf a0, .int a1] hM (lw_S q1298 q1299 q118 q1300) (by decide +kernel) rfl rfl hd hr hw kk
theorem ky_X0_0_must (hk : jk p R s m args meth c (ynx nf res) cc nL RX0 fr lo ret) (hH : cH G KK) (hK : KK s) (ht : ∀ x ∈ c.exceptionTable.toList, False) (h0 : hX G s.heap) (hlt : l.stackTraces = false) {a0 : Bool} {a1 : Int32} {F : Option (XR (SS × DS))} {K : (SS × DS) → Option (XR τ)} (hM : ∀ r, F = some r → jMY l yX0_must (ws_ yX0_must cX0_must 3 none) frc loc [.ref (ha G 0), .int (bI a0), .int a1] G KK (σ, d) xnV jVa r) (hd : decode cc pc = .ok (.invokevirtual 539, 3)) (hr : frc + 1 ≤ fr ∧ 8 + (3 + 11) + loc ≤ lo) (hw : (st.map fun v => v.category).sum ≤ 8) (kk : ∀ r : (SS × DS), jj p l e R s m args below meth c (hA G) (ynx nf res) (jZY below args s G nf Ψ res) (cWo G r.2) (cnx r.2) nL r.1 (pc + 3) lv st (K r = some res)) : jj p l e R s m args below meth c (hA G) (ynx nf res) (jZY below args s G nf Ψ res) (cWo G d) (cnx d) nL σ pc lv (.int a1 :: .int (bI a0) :: .ref (ha G 0) :: st) (yb xnV d F K = some res) :=
  jy_VV (rt := none) (n := 2) hk hH hK ht [.int (bI a0), .int a1] hM (lw_V q1235 q1237 qs50 q118 q1238) (cRv_at (q := (RX0, TX0, 32)) (ci := 1) (q0 := 0) hH hK rfl rfl) (by decide +kernel) rfl rfl hd hr hw kk
theorem ky_X0_0_personAs (hk : jk p R s m args meth c (ynx nf res) cc nL RX0 fr lo ret) (hH : cH G KK) (hK : KK s) (ht : ∀ x ∈ c.exceptionTable.toList, False) (h0 : hX G s.heap) (hlt : l.stackTraces = false) {a0 : Option Nat} {a1 : Int32} {F : Option (XR (Option Nat × SS × DS))} {K : (Option Nat × SS × DS) → Option (XR τ)} (hM : ∀ r, F = some r → jMY l yX0_personAs (ws_ yX0_personAs cX0_personAs 2 (some (.object "LeftUndoes$Hand"))) frc loc [va_rf a0, .int a1] G KK (σ, d) xnA (jUa va_rf) r) (hd : decode cc pc = .ok (.invokestatic 569, 3)) (hr : frc + 1 ≤ fr ∧ 8 + (2 + 11) + loc ≤ lo) (hw : (st.map fun v => v.category).sum ≤ 8) (kk : ∀ r : (Option Nat × SS × DS), jj p l e R s m args below meth c (hA G) (ynx nf res) (jZY below args s G nf Ψ res) (cWo G r.2.2) (cnx r.2.2) nL r.2.1 (pc + 3) lv (va_rf r.1 :: st) (K r = some res)) : jj p l e R s m args below meth c (hA G) (ynx nf res) (jZY below args s G nf Ψ res) (cWo G d) (cnx d) nL σ pc lv (.int a1 :: va_rf a0 :: st) (yb xnA d F K = some res) :=
  jy_SUo (rt := (some (.object "LeftUndoes$Hand"))) (n := 2) hk hH hK ht [va_rf a0, .int a1] hM (lw_S q1335 q1336 q118 q1337) (by decide +kernel) rfl rfl hd hr hw kk
theorem kyh_X0_0_held {res : Int32 × SS × DS} (hk : jk p R s m args meth c (res.2.2.2 + 25) cc nL RX0 fr lo ret) (hH : cH G KK) (hK : KK s) {a0 : Int32} {F : Option (XR (Option Nat × SS × DS))} {K : (Option Nat × SS × DS) → Option (Int32 × SS × DS)} {Hh : Nat × SS × DS → Option (Int32 × SS)} (hM : ∀ r, F = some r → jMY l yX0_held (ws_ yX0_held cX0_held 4 (some (.object "java/lang/Object"))) frc loc [.ref (ha G 0), .int a0] G KK (σ, d) xnA (jUa va_rf) r) (hd : decode cc pc = .ok (.invokevirtual 575, 3)) (hr : frc + 1 ≤ fr ∧ 8 + (4 + 11) + loc ≤ lo) (hw : (st.map fun v => v.category).sum ≤ 8) (kx : ∀ (y : Nat × SS × DS) (r' : Int32 × SS), Hh y = some r' → ∃ h, jCatch s c RX0 (yE y.1) args pc h ∧ ∀ (R : Room) (s : State) (q : Nat) (d' : DS), (y.1 ≤ 2 → q = ha G y.1) → jk p R s m args meth c d'.2 cc nL RX0 fr lo ret → KK s → jj p l e R s m args below meth c (hA G) d'.2 (jZ below args s (hA G) d'.2 (jU r') (cWo G d') (cnx d')) (cWo G d') (cnx d') nL y.2.1 h lv [.ref q] (Hh y = some r')) (kk : ∀ r : (Option Nat × SS × DS), jj p l e R s m args below meth c (hA G) (res.2.2.2 + 25) (jZ below args s (hA G) (res.2.2.2 + 25) (jUs res) (aWo G) anx) (cWo G r.2.2) (cnx r.2.2) nL r.2.1 (pc + 3) lv (va_rf r.1 :: st) (K r = some res)) : jj p l e R s m args below meth c (hA G) (res.2.2.2 + 25) (jZ below args s (hA G) (res.2.2.2 + 25) (jUs res) (aWo G) anx) (cWo G d) (cnx d) nL σ pc lv (.int a0 :: .ref (ha G 0) :: st) (yh xnA d F Hh K = some res) :=
  jyh_VUo (rt := (some (.object "java/lang/Object"))) (n := 1) hk hH hK [.int a0] hM (lw_V q1328 q1330 qs52 q118 q1331) (cRv_at (q := (RX0, TX0, 32)) (ci := 1) (q0 := 0) hH hK rfl rfl) (by decide +kernel) rfl rfl hd hr hw kx kk
theorem kyh_X0_0_itemOf {res : Int32 × SS × DS} (hk : jk p R s m args meth c (res.2.2.2 + 25) cc nL RX0 fr lo ret) (hH : cH G KK) (hK : KK s) {a0 : Option Nat} {a1 : Int32} {a2 : Int32} {F : Option (XR (Int32 × SS × DS))} {K : (Int32 × SS × DS) → Option (Int32 × SS × DS)} {Hh : Nat × SS × DS → Option (Int32 × SS)} (hM : ∀ r, F = some r → jMY l yX0_itemOf (ws_ yX0_itemOf cX0_itemOf 4 (some .int)) frc loc [.ref (ha G 0), va_rf a0, .int a1, .int a2] G KK (σ, d) xnA (jUa (fun x : Int32 => .int x)) r) (hd : decode cc pc = .ok (.invokevirtual 555, 3)) (hr : frc + 1 ≤ fr ∧ 8 + (4 + 11) + loc ≤ lo) (hw : (st.map fun v => v.category).sum ≤ 8) (kx : ∀ (y : Nat × SS × DS) (r' : Int32 × SS), Hh y = some r' → ∃ h, jCatch s c RX0 (yE y.1) args pc h ∧ ∀ (R : Room) (s : State) (q : Nat) (d' : DS), (y.1 ≤ 2 → q = ha G y.1) → jk p R s m args meth c d'.2 cc nL RX0 fr lo ret → KK s → jj p l e R s m args below meth c (hA G) d'.2 (jZ below args s (hA G) d'.2 (jU r') (cWo G d') (cnx d')) (cWo G d') (cnx d') nL y.2.1 h lv [.ref q] (Hh y = some r')) (kk : ∀ r : (Int32 × SS × DS), jj p l e R s m args below meth c (hA G) (res.2.2.2 + 25) (jZ below args s (hA G) (res.2.2.2 + 25) (jUs res) (aWo G) anx) (cWo G r.2.2) (cnx r.2.2) nL r.2.1 (pc + 3) lv (.int r.1 :: st) (K r = some res)) : jj p l e R s m args below meth c (hA G) (res.2.2.2 + 25) (jZ below args s (hA G) (res.2.2.2 + 25) (jUs res) (aWo G) anx) (cWo G d) (cnx d) nL σ pc lv (.int a2 :: .int a1 :: va_rf a0 :: .ref (ha G 0) :: st) (yh xnA d F Hh K = some res) :=
  jyh_VUi (rt := some .int) (n := 3) hk hH hK [va_rf a0, .int a1, .int a2] hM (lw_V q1294 q1296 qs51 q118 q1297) (cRv_at (q := (RX0, TX0, 32)) (ci := 1) (q0 := 0) hH hK rfl rfl) (by decide +kernel) rfl rfl hd hr hw kx kk
theorem kyh_X0_0_length {res : Int32 × SS × DS} (hk : jk p R s m args meth c (res.2.2.2 + 25) cc nL RX0 fr lo ret) (hH : cH G KK) (hK : KK s) {a0 : Option Nat} {F : Option (XR (Int32 × SS × DS))} {K : (Int32 × SS × DS) → Option (Int32 × SS × DS)} {Hh : Nat × SS × DS → Option (Int32 × SS)} (hM : ∀ r, F = some r → jMY l yX0_length (ws_ yX0_length cX0_length 1 (some .int)) frc loc [va_rf a0] G KK (σ, d) xnA (jUa (fun x : Int32 => .int x)) r) (hd : decode cc pc = .ok (.invokestatic 543, 3)) (hr : frc + 1 ≤ fr ∧ 8 + (1 + 11) + loc ≤ lo) (hw : (st.map fun v => v.category).sum ≤ 8) (kx : ∀ (y : Nat × SS × DS) (r' : Int32 × SS), Hh y = some r' → ∃ h, jCatch s c RX0 (yE y.1) args pc h ∧ ∀ (R : Room) (s : State) (q : Nat) (d' : DS), (y.1 ≤ 2 → q = ha G y.1) → jk p R s m args meth c d'.2 cc nL RX0 fr lo ret → KK s → jj p l e R s m args below meth c (hA G) d'.2 (jZ below args s (hA G) d'.2 (jU r') (cWo G d') (cnx d')) (cWo G d') (cnx d') nL y.2.1 h lv [.ref q] (Hh y = some r')) (kk : ∀ r : (Int32 × SS × DS), jj p l e R s m args below meth c (hA G) (res.2.2.2 + 25) (jZ below args s (hA G) (res.2.2.2 + 25) (jUs res) (aWo G) anx) (cWo G r.2.2) (cnx r.2.2) nL r.2.1 (pc + 3) lv (.int r.1 :: st) (K r = some res)) : jj p l e R s m args below meth c (hA G) (res.2.2.2 + 25) (jZ below args s (hA G) (res.2.2.2 + 25) (jUs res) (aWo G) anx) (cWo G d) (cnx d) nL σ pc lv (va_rf a0 :: st) (yh xnA d F Hh K = some res) :=
  jyh_SUi (rt := some .int) (n := 1) hk hH hK [va_rf a0] hM (lw_S q1240 q1241 q118 q1242) (by decide +kernel) rfl rfl hd hr hw kx kk
theorem kyh_X0_0_manyOf {res : Int32 × SS × DS} (hk : jk p R s m args meth c (res.2.2.2 + 25) cc nL RX0 fr lo ret) (hH : cH G KK) (hK : KK s) {a0 : Option Nat} {a1 : Int32} {F : Option (XR (Int32 × SS × DS))} {K : (Int32 × SS × DS) → Option (Int32 × SS × DS)} {Hh : Nat × SS × DS → Option (Int32 × SS)} (hM : ∀ r, F = some r → jMY l yX0_manyOf (ws_ yX0_manyOf cX0_manyOf 2 (some .int)) frc loc [va_rf a0, .int a1] G KK (σ, d) xnA (jUa (fun x : Int32 => .int x)) r) (hd : decode cc pc = .ok (.invokestatic 551, 3)) (hr : frc + 1 ≤ fr ∧ 8 + (2 + 11) + loc ≤ lo) (hw : (st.map fun v => v.category).sum ≤ 8) (kx : ∀ (y : Nat × SS × DS) (r' : Int32 × SS), Hh y = some r' → ∃ h, jCatch s c RX0 (yE y.1) args pc h ∧ ∀ (R : Room) (s : State) (q : Nat) (d' : DS), (y.1 ≤ 2 → q = ha G y.1) → jk p R s m args meth c d'.2 cc nL RX0 fr lo ret → KK s → jj p l e R s m args below meth c (hA G) d'.2 (jZ below args s (hA G) d'.2 (jU r') (cWo G d') (cnx d')) (cWo G d') (cnx d') nL y.2.1 h lv [.ref q] (Hh y = some r')) (kk : ∀ r : (Int32 × SS × DS), jj p l e R s m args below meth c (hA G) (res.2.2.2 + 25) (jZ below args s (hA G) (res.2.2.2 + 25) (jUs res) (aWo G) anx) (cWo G r.2.2) (cnx r.2.2) nL r.2.1 (pc + 3) lv (.int r.1 :: st) (K r = some res)) : jj p l e R s m args below meth c (hA G) (res.2.2.2 + 25) (jZ below args s (hA G) (res.2.2.2 + 25) (jUs res) (aWo G) anx) (cWo G d) (cnx d) nL σ pc lv (.int a1 :: va_rf a0 :: st) (yh xnA d F Hh K = some res) :=
  jyh_SUi (rt := some .int) (n := 2) hk hH hK [va_rf a0, .int a1] hM (lw_S q1298 q1299 q118 q1300) (by decide +kernel) rfl rfl hd hr hw kx kk
theorem kyh_X0_0_must {res : Int32 × SS × DS} (hk : jk p R s m args meth c (res.2.2.2 + 25) cc nL RX0 fr lo ret) (hH : cH G KK) (hK : KK s) {a0 : Bool} {a1 : Int32} {F : Option (XR (SS × DS))} {K : (SS × DS) → Option (Int32 × SS × DS)} {Hh : Nat × SS × DS → Option (Int32 × SS)} (hM : ∀ r, F = some r → jMY l yX0_must (ws_ yX0_must cX0_must 3 none) frc loc [.ref (ha G 0), .int (bI a0), .int a1] G KK (σ, d) xnV jVa r) (hd : decode cc pc = .ok (.invokevirtual 539, 3)) (hr : frc + 1 ≤ fr ∧ 8 + (3 + 11) + loc ≤ lo) (hw : (st.map fun v => v.category).sum ≤ 8) (kx : ∀ (y : Nat × SS × DS) (r' : Int32 × SS), Hh y = some r' → ∃ h, jCatch s c RX0 (yE y.1) args pc h ∧ ∀ (R : Room) (s : State) (q : Nat) (d' : DS), (y.1 ≤ 2 → q = ha G y.1) → jk p R s m args meth c d'.2 cc nL RX0 fr lo ret → KK s → jj p l e R s m args below meth c (hA G) d'.2 (jZ below args s (hA G) d'.2 (jU r') (cWo G d') (cnx d')) (cWo G d') (cnx d') nL y.2.1 h lv [.ref q] (Hh y = some r')) (kk : ∀ r : (SS × DS), jj p l e R s m args below meth c (hA G) (res.2.2.2 + 25) (jZ below args s (hA G) (res.2.2.2 + 25) (jUs res) (aWo G) anx) (cWo G r.2) (cnx r.2) nL r.1 (pc + 3) lv st (K r = some res)) : jj p l e R s m args below meth c (hA G) (res.2.2.2 + 25) (jZ below args s (hA G) (res.2.2.2 + 25) (jUs res) (aWo G) anx) (cWo G d) (cnx d) nL σ pc lv (.int a1 :: .int (bI a0) :: .ref (ha G 0) :: st) (yh xnV d F Hh K = some res) :=
  jyh_VV (rt := none) (n := 2) hk hH hK [.int (bI a0), .int a1] hM (lw_V q1235 q1237 qs50 q118 q1238) (cRv_at (q := (RX0, TX0, 32)) (ci := 1) (q0 := 0) hH hK rfl rfl) (by decide +kernel) rfl rfl hd hr hw kx kk
theorem kyh_X0_0_rowOf {res : Int32 × SS × DS} (hk : jk p R s m args meth c (res.2.2.2 + 25) cc nL RX0 fr lo ret) (hH : cH G KK) (hK : KK s) {a0 : Int32} {a1 : Int32} {F : Option (XR (Nat × SS × DS))} {K : (Nat × SS × DS) → Option (Int32 × SS × DS)} {Hh : Nat × SS × DS → Option (Int32 × SS)} (hM : ∀ r, F = some r → jMY l yX0_rowOf (ws_ yX0_rowOf cX0_rowOf 2 (some (.object "java/lang/Object"))) frc loc [.int a0, .int a1] G KK (σ, d) xnA (jUa (fun x : Nat => .ref x)) r) (hd : decode cc pc = .ok (.invokestatic 521, 3)) (hr : frc + 1 ≤ fr ∧ 8 + (2 + 11) + loc ≤ lo) (hw : (st.map fun v => v.category).sum ≤ 8) (kx : ∀ (y : Nat × SS × DS) (r' : Int32 × SS), Hh y = some r' → ∃ h, jCatch s c RX0 (yE y.1) args pc h ∧ ∀ (R : Room) (s : State) (q : Nat) (d' : DS), (y.1 ≤ 2 → q = ha G y.1) → jk p R s m args meth c d'.2 cc nL RX0 fr lo ret → KK s → jj p l e R s m args below meth c (hA G) d'.2 (jZ below args s (hA G) d'.2 (jU r') (cWo G d') (cnx d')) (cWo G d') (cnx d') nL y.2.1 h lv [.ref q] (Hh y = some r')) (kk : ∀ r : (Nat × SS × DS), jj p l e R s m args below meth c (hA G) (res.2.2.2 + 25) (jZ below args s (hA G) (res.2.2.2 + 25) (jUs res) (aWo G) anx) (cWo G r.2.2) (cnx r.2.2) nL r.2.1 (pc + 3) lv (.ref r.1 :: st) (K r = some res)) : jj p l e R s m args below meth c (hA G) (res.2.2.2 + 25) (jZ below args s (hA G) (res.2.2.2 + 25) (jUs res) (aWo G) anx) (cWo G d) (cnx d) nL σ pc lv (.int a1 :: .int a0 :: st) (yh xnA d F Hh K = some res) :=
  jyh_SUa (rt := (some (.object "java/lang/Object"))) (n := 2) hk hH hK [.int a0, .int a1] hM (lw_S q1225 q1226 q118 q1227) (by decide +kernel) rfl rfl hd hr hw kx kk
theorem kyh_X0_0_set {res : Int32 × SS × DS} (hk : jk p R s m args meth c (res.2.2.2 + 25) cc nL RX0 fr lo ret) (hH : cH G KK) (hK : KK s) {a0 : Option Nat} {a1 : Int32} {a2 : Int32} {F : Option (XR (SS × DS))} {K : (SS × DS) → Option (Int32 × SS × DS)} {Hh : Nat × SS × DS → Option (Int32 × SS)} (hM : ∀ r, F = some r → jMY l yX0_set (ws_ yX0_set cX0_set 3 none) frc loc [va_rf a0, .int a1, .int a2] G KK (σ, d) xnV jVa r) (hd : decode cc pc = .ok (.invokestatic 546, 3)) (hr : frc + 1 ≤ fr ∧ 8 + (3 + 11) + loc ≤ lo) (hw : (st.map fun v => v.category).sum ≤ 8) (kx : ∀ (y : Nat × SS × DS) (r' : Int32 × SS), Hh y = some r' → ∃ h, jCatch s c RX0 (yE y.1) args pc h ∧ ∀ (R : Room) (s : State) (q : Nat) (d' : DS), (y.1 ≤ 2 → q = ha G y.1) → jk p R s m args meth c d'.2 cc nL RX0 fr lo ret → KK s → jj p l e R s m args below meth c (hA G) d'.2 (jZ below args s (hA G) d'.2 (jU r') (cWo G d') (cnx d')) (cWo G d') (cnx d') nL y.2.1 h lv [.ref q] (Hh y = some r')) (kk : ∀ r : (SS × DS), jj p l e R s m args below meth c (hA G) (res.2.2.2 + 25) (jZ below args s (hA G) (res.2.2.2 + 25) (jUs res) (aWo G) anx) (cWo G r.2) (cnx r.2) nL r.1 (pc + 3) lv st (K r = some res)) : jj p l e R s m args below meth c (hA G) (res.2.2.2 + 25) (jZ below args s (hA G) (res.2.2.2 + 25) (jUs res) (aWo G) anx) (cWo G d) (cnx d) nL σ pc lv (.int a2 :: .int a1 :: va_rf a0 :: st) (yh xnV d F Hh K = some res) :=
  jyh_SV (rt := none) (n := 3) hk hH hK [va_rf a0, .int a1, .int a2] hM (lw_S q1248 q1249 q118 q1250) (by decide +kernel) rfl rfl hd hr hw kx kk
theorem kyh_X0_0_takenAs {res : Int32 × SS × DS} (hk : jk p R s m args meth c (res.2.2.2 + 25) cc nL RX0 fr lo ret) (hH : cH G KK) (hK : KK s) {a0 : Option Nat} {a1 : Int32} {F : Option (XR (Int32 × SS × DS))} {K : (Int32 × SS × DS) → Option (Int32 × SS × DS)} {Hh : Nat × SS × DS → Option (Int32 × SS)} (hM : ∀ r, F = some r → jMY l yX0_takenAs (ws_ yX0_takenAs cX0_takenAs 2 (some .int)) frc loc [va_rf a0, .int a1] G KK (σ, d) xnA (jUa (fun x : Int32 => .int x)) r) (hd : decode cc pc = .ok (.invokestatic 578, 3)) (hr : frc + 1 ≤ fr ∧ 8 + (2 + 11) + loc ≤ lo) (hw : (st.map fun v => v.category).sum ≤ 8) (kx : ∀ (y : Nat × SS × DS) (r' : Int32 × SS), Hh y = some r' → ∃ h, jCatch s c RX0 (yE y.1) args pc h ∧ ∀ (R : Room) (s : State) (q : Nat) (d' : DS), (y.1 ≤ 2 → q = ha G y.1) → jk p R s m args meth c d'.2 cc nL RX0 fr lo ret → KK s → jj p l e R s m args below meth c (hA G) d'.2 (jZ below args s (hA G) d'.2 (jU r') (cWo G d') (cnx d')) (cWo G d') (cnx d') nL y.2.1 h lv [.ref q] (Hh y = some r')) (kk : ∀ r : (Int32 × SS × DS), jj p l e R s m args below meth c (hA G) (res.2.2.2 + 25) (jZ below args s (hA G) (res.2.2.2 + 25) (jUs res) (aWo G) anx) (cWo G r.2.2) (cnx r.2.2) nL r.2.1 (pc + 3) lv (.int r.1 :: st) (K r = some res)) : jj p l e R s m args below meth c (hA G) (res.2.2.2 + 25) (jZ below args s (hA G) (res.2.2.2 + 25) (jUs res) (aWo G) anx) (cWo G d) (cnx d) nL σ pc lv (.int a1 :: va_rf a0 :: st) (yh xnA d F Hh K = some res) :=
  jyh_SUi (rt := some .int) (n := 2) hk hH hK [va_rf a0, .int a1] hM (lw_S q1332 q1333 q118 q1334) (by decide +kernel) rfl rfl hd hr hw kx kk
end
section
variable {p : Program} {l : Launch} {e : Env} {R : Room} {s : State} {m : MethodId} {args : Array Value} {below : List Frame} {meth : Method} {c : Code}
variable {G : cG} {KK : State → Prop}
set_option maxHeartbeats 4000000 in
theorem cc_y0_must (l : Launch) (hlt : l.stackTraces = false) {G : cG} {KK : State → Prop} (hH : cH G KK)  (σ : SS) (d : DS) (a0 : Bool) (a1 : Int32) (res : (XR (SS × DS))) (hf : y0_must σ d a0 a1 = some res) : jMY l yX0_must (ws_ yX0_must cX0_must 3 none) 9 10400 [.ref (ha G 0), .int (bI a0), .int a1] G KK (σ, d) xnV jVa res := by
  refine jy_start [(0, .ref (ha G 0)), (1, .int (bI a0)), (2, .int a1)] (by decide) (Nat.le_of_ble_eq_true rfl) rfl (fun p e R s m args below meth c hk hK hWo ht => ?_) hf
  have hk : jk p R s m args meth c (ynx xnV res) cX0_must 3 RX0 9 10400 none := hk
  have h0 : hX G s.heap := hWo.2.2
  unfold y0_must
  refine jj_iload_n hk (pc := 0) dX0_must_0 1 rfl rfl ?_
  refine jj_if_ne_b hk (pc := 1) 13 dX0_must_1 (by decide) ?_ ?_
  · exact jy_retV hk (pc := 13) dX0_must_13
  · refine jj_aload_n hk (pc := 4) dX0_must_4 0 rfl rfl ?_
    refine jc_g_refusal hk hH hK (pc := 5) dX0_must_5 ?_
    refine jj_iload_n hk (pc := 8) dX0_must_8 2 rfl rfl ?_
    refine kc_of1 hk hH hK (pc := 9) dX0_must_9 ⟨Nat.le_of_ble_eq_true rfl, Nat.le_of_ble_eq_true rfl⟩ (Nat.le_of_ble_eq_true rfl) (fun σ1 => ?_)
    exact jy_athrow hk hH hK ht (pc := 12) (Or.inl rfl) dX0_must_12
end
section
variable {p : Program} {l : Launch} {e : Env} {R : Room} {s : State} {m : MethodId} {args : Array Value} {below : List Frame} {meth : Method} {c : Code}
variable {G : cG} {KK : State → Prop}
set_option maxHeartbeats 4000000 in
theorem cc_f0_rowOf (l : Launch) (hlt : l.stackTraces = false) {G : cG} {KK : State → Prop} (hH : cH G KK)  (σ : SS) (d : DS) (a0 : Int32) (a1 : Int32) (res : (XR (Nat × SS × DS))) (hf : f0_rowOf σ d a0 a1 = some res) : jMY l yX0_rowOf (ws_ yX0_rowOf cX0_rowOf 2 (some (.object "java/lang/Object"))) 9 10400 [.int a0, .int a1] G KK (σ, d) xnA (jUa (fun x : Nat => .ref x)) res := by
  refine jy_start [(0, .int a0), (1, .int a1)] (by decide) (Nat.le_of_ble_eq_true rfl) rfl (fun p e R s m args below meth c hk hK hWo ht => ?_) hf
  have hk : jk p R s m args meth c (ynx xnA res) cX0_rowOf 2 RX0 9 10400 (some (.object "java/lang/Object")) := hk
  have h0 : hX G s.heap := hWo.2.2
  unfold f0_rowOf
  refine jj_iload_n hk (pc := 0) dX0_rowOf_0 0 rfl rfl ?_
  refine jj_ite (fun c_1_0 => ?_) (fun c_1_0 => ?_)
  · refine jj_tIn hk (pc := 1) (k := (0 : Int32)) (t := 0) 32 c_1_0 dX0_rowOf_1 (by decide) rfl rfl (by decide) ?_
    refine jj_iload_n hk (pc := 32) dX0_rowOf_32 1 rfl rfl ?_
    refine jy_newS (pc := 33) hk hH hK ht h0 hlt dX0_rowOf_33 ⟨Nat.le_of_ble_eq_true rfl, Nat.le_of_ble_eq_true rfl⟩ (Nat.le_of_ble_eq_true rfl) ?_
    refine ja_newS1 hk hH hK (pc := 33) dX0_rowOf_33 (fun d1 => ?_)
    exact jy_retUa hk (pc := 35) (Or.inl ⟨_, rfl⟩) dX0_rowOf_35
  refine jj_ite (fun c_1_1 => ?_) (fun c_1_1 => ?_)
  · refine jj_tIn hk (pc := 1) (k := (1 : Int32)) (t := 1) 36 c_1_1 dX0_rowOf_1 (by decide) rfl rfl (by decide) ?_
    refine jj_iload_n hk (pc := 36) dX0_rowOf_36 1 rfl rfl ?_
    refine jy_newS (pc := 37) hk hH hK ht h0 hlt dX0_rowOf_37 ⟨Nat.le_of_ble_eq_true rfl, Nat.le_of_ble_eq_true rfl⟩ (Nat.le_of_ble_eq_true rfl) ?_
    refine ja_newS2 hk hH hK (pc := 37) dX0_rowOf_37 (fun d2 => ?_)
    exact jy_retUa hk (pc := 39) (Or.inl ⟨_, rfl⟩) dX0_rowOf_39
  refine jj_ite (fun c_1_2 => ?_) (fun c_1_2 => ?_)
  · refine jj_tIn hk (pc := 1) (k := (2 : Int32)) (t := 2) 40 c_1_2 dX0_rowOf_1 (by decide) rfl rfl (by decide) ?_
    refine jj_iload_n hk (pc := 40) dX0_rowOf_40 1 rfl rfl ?_
    refine jy_newS (pc := 41) hk hH hK ht h0 hlt dX0_rowOf_41 ⟨Nat.le_of_ble_eq_true rfl, Nat.le_of_ble_eq_true rfl⟩ (Nat.le_of_ble_eq_true rfl) ?_
    refine ja_newS0 hk hH hK (pc := 41) dX0_rowOf_41 (fun d3 => ?_)
    exact jy_retUa hk (pc := 43) (Or.inl ⟨_, rfl⟩) dX0_rowOf_43
  refine jj_ite (fun c_1_3 => ?_) (fun c_1_3 => ?_)
  · refine jj_tIn hk (pc := 1) (k := (3 : Int32)) (t := 3) 44 c_1_3 dX0_rowOf_1 (by decide) rfl rfl (by decide) ?_
    refine jj_iload_n hk (pc := 44) dX0_rowOf_44 1 rfl rfl ?_
    refine jy_newS (pc := 45) hk hH hK ht h0 hlt dX0_rowOf_45 ⟨Nat.le_of_ble_eq_true rfl, Nat.le_of_ble_eq_true rfl⟩ (Nat.le_of_ble_eq_true rfl) ?_
    refine ja_newS3 hk hH hK (pc := 45) dX0_rowOf_45 (fun d4 => ?_)
    exact jy_retUa hk (pc := 47) (Or.inl ⟨_, rfl⟩) dX0_rowOf_47
  refine jj_tOut hk (pc := 1) 48 dX0_rowOf_1 ?_ (by decide) ?_
  · have q0 := lv_neT (a := 0) c_1_0 (by decide); have q1 := lv_neT (a := 1) c_1_1 (by decide); have q2 := lv_neT (a := 2) c_1_2 (by decide); have q3 := lv_neT (a := 3) c_1_3 (by decide); omega
  refine jj_iload_n hk (pc := 48) dX0_rowOf_48 1 rfl rfl ?_
  refine jy_newS (pc := 49) hk hH hK ht h0 hlt dX0_rowOf_49 ⟨Nat.le_of_ble_eq_true rfl, Nat.le_of_ble_eq_true rfl⟩ (Nat.le_of_ble_eq_true rfl) ?_
  refine ja_newS4 hk hH hK (pc := 49) dX0_rowOf_49 (fun d5 => ?_)
  exact jy_retUa hk (pc := 51) (Or.inl ⟨_, rfl⟩) dX0_rowOf_51
end
section
variable {p : Program} {l : Launch} {e : Env} {R : Room} {s : State} {m : MethodId} {args : Array Value} {below : List Frame} {meth : Method} {c : Code}
variable {G : cG} {KK : State → Prop}
set_option maxHeartbeats 4000000 in
theorem cc_f0_length (l : Launch) (hlt : l.stackTraces = false) {G : cG} {KK : State → Prop} (hH : cH G KK)  (σ : SS) (d : DS) (a0 : Option Nat) (res : (XR (Int32 × SS × DS))) (hf : f0_length σ d a0 = some res) : jMY l yX0_length (ws_ yX0_length cX0_length 1 (some .int)) 9 10400 [va_rf a0] G KK (σ, d) xnA (jUa (fun x : Int32 => .int x)) res := by
  refine jy_start [(0, va_rf a0)] (by decide) (by cases a0 <;> exact Nat.le_of_ble_eq_true rfl) (by cases a0 <;> rfl) (fun p e R s m args below meth c hk hK hWo ht => ?_) hf
  have hk : jk p R s m args meth c (ynx xnA res) cX0_length 1 RX0 9 10400 (some .int) := hk
  have h0 : hX G s.heap := hWo.2.2
  unfold f0_length
  refine jj_aload_no hk (pc := 0) (x := a0) dX0_length_0 0 rfl rfl ?_
  refine jy_inst (pc := 1) (o := a0) hk hH hK q1243 dX0_length_1 (fun b1 => ?_)
  refine jj_if_eq_b hk (pc := 4) 13 dX0_length_4 (by decide) ?_ ?_
  · refine jj_aload_no hk (pc := 13) (x := a0) dX0_length_13 0 rfl rfl ?_
    refine jy_inst (pc := 14) (o := a0) hk hH hK q1244 dX0_length_14 (fun b2 => ?_)
    refine jj_if_eq_b hk (pc := 17) 26 dX0_length_17 (by decide) ?_ ?_
    · refine jj_aload_no hk (pc := 26) (x := a0) dX0_length_26 0 rfl rfl ?_
      refine jy_inst (pc := 27) (o := a0) hk hH hK q1245 dX0_length_27 (fun b3 => ?_)
      refine jj_if_eq_b hk (pc := 30) 39 dX0_length_30 (by decide) ?_ ?_
      · refine jj_aload_no hk (pc := 39) (x := a0) dX0_length_39 0 rfl rfl ?_
        refine jy_inst (pc := 40) (o := a0) hk hH hK q1246 dX0_length_40 (fun b4 => ?_)
        refine jj_if_eq_b hk (pc := 43) 52 dX0_length_43 (by decide) ?_ ?_
        · refine jj_aload_no hk (pc := 52) (x := a0) dX0_length_52 0 rfl rfl ?_
          refine jy_cast (pc := 53) (o := a0) hk hH hK ht h0 hlt q1247 dX0_length_53 ⟨Nat.le_of_ble_eq_true rfl, Nat.le_of_ble_eq_true rfl⟩ (Nat.le_of_ble_eq_true rfl) ?_
          refine jy_lenN (pc := 56) (o := a0) (L := dLen d 4) hk hH hK ht h0 hlt dX0_length_56 ⟨Nat.le_of_ble_eq_true rfl, Nat.le_of_ble_eq_true rfl⟩ (Nat.le_of_ble_eq_true rfl) (fun q => ?_)
          refine jd_len4 hk hH hK (pc := 56) dX0_length_56 (fun v5 => ?_)
          exact jy_retUi hk (pc := 57) dX0_length_57
        · refine jj_aload_no hk (pc := 46) (x := a0) dX0_length_46 0 rfl rfl ?_
          refine jy_cast (pc := 47) (o := a0) hk hH hK ht h0 hlt q1246 dX0_length_47 ⟨Nat.le_of_ble_eq_true rfl, Nat.le_of_ble_eq_true rfl⟩ (Nat.le_of_ble_eq_true rfl) ?_
          refine jy_lenN (pc := 50) (o := a0) (L := dLen d 3) hk hH hK ht h0 hlt dX0_length_50 ⟨Nat.le_of_ble_eq_true rfl, Nat.le_of_ble_eq_true rfl⟩ (Nat.le_of_ble_eq_true rfl) (fun q => ?_)
          refine jd_len3 hk hH hK (pc := 50) dX0_length_50 (fun v6 => ?_)
          exact jy_retUi hk (pc := 51) dX0_length_51
      · refine jj_aload_no hk (pc := 33) (x := a0) dX0_length_33 0 rfl rfl ?_
        refine jy_cast (pc := 34) (o := a0) hk hH hK ht h0 hlt q1245 dX0_length_34 ⟨Nat.le_of_ble_eq_true rfl, Nat.le_of_ble_eq_true rfl⟩ (Nat.le_of_ble_eq_true rfl) ?_
        refine jy_lenN (pc := 37) (o := a0) (L := dLen d 0) hk hH hK ht h0 hlt dX0_length_37 ⟨Nat.le_of_ble_eq_true rfl, Nat.le_of_ble_eq_true rfl⟩ (Nat.le_of_ble_eq_true rfl) (fun q => ?_)
        refine jd_len0 hk hH hK (pc := 37) dX0_length_37 (fun v7 => ?_)
        exact jy_retUi hk (pc := 38) dX0_length_38
    · refine jj_aload_no hk (pc := 20) (x := a0) dX0_length_20 0 rfl rfl ?_
      refine jy_cast (pc := 21) (o := a0) hk hH hK ht h0 hlt q1244 dX0_length_21 ⟨Nat.le_of_ble_eq_true rfl, Nat.le_of_ble_eq_true rfl⟩ (Nat.le_of_ble_eq_true rfl) ?_
      refine jy_lenN (pc := 24) (o := a0) (L := dLen d 2) hk hH hK ht h0 hlt dX0_length_24 ⟨Nat.le_of_ble_eq_true rfl, Nat.le_of_ble_eq_true rfl⟩ (Nat.le_of_ble_eq_true rfl) (fun q => ?_)
      refine jd_len2 hk hH hK (pc := 24) dX0_length_24 (fun v8 => ?_)
      exact jy_retUi hk (pc := 25) dX0_length_25
  · refine jj_aload_no hk (pc := 7) (x := a0) dX0_length_7 0 rfl rfl ?_
    refine jy_cast (pc := 8) (o := a0) hk hH hK ht h0 hlt q1243 dX0_length_8 ⟨Nat.le_of_ble_eq_true rfl, Nat.le_of_ble_eq_true rfl⟩ (Nat.le_of_ble_eq_true rfl) ?_
    refine jy_lenN (pc := 11) (o := a0) (L := dLen d 1) hk hH hK ht h0 hlt dX0_length_11 ⟨Nat.le_of_ble_eq_true rfl, Nat.le_of_ble_eq_true rfl⟩ (Nat.le_of_ble_eq_true rfl) (fun q => ?_)
    refine jd_len1 hk hH hK (pc := 11) dX0_length_11 (fun v9 => ?_)
    exact jy_retUi hk (pc := 12) dX0_length_12
end
section
variable {p : Program} {l : Launch} {e : Env} {R : Room} {s : State} {m : MethodId} {args : Array Value} {below : List Frame} {meth : Method} {c : Code}
variable {G : cG} {KK : State → Prop}
set_option maxHeartbeats 4000000 in
theorem cc_f0_set (l : Launch) (hlt : l.stackTraces = false) {G : cG} {KK : State → Prop} (hH : cH G KK)  (σ : SS) (d : DS) (a0 : Option Nat) (a1 : Int32) (a2 : Int32) (res : (XR (SS × DS))) (hf : f0_set σ d a0 a1 a2 = some res) : jMY l yX0_set (ws_ yX0_set cX0_set 3 none) 9 10400 [va_rf a0, .int a1, .int a2] G KK (σ, d) xnV jVa res := by
  refine jy_start [(0, va_rf a0), (1, .int a1), (2, .int a2)] (by decide) (by cases a0 <;> exact Nat.le_of_ble_eq_true rfl) (by cases a0 <;> rfl) (fun p e R s m args below meth c hk hK hWo ht => ?_) hf
  have hk : jk p R s m args meth c (ynx xnV res) cX0_set 3 RX0 9 10400 none := hk
  have h0 : hX G s.heap := hWo.2.2
  unfold f0_set
  refine jj_aload_no hk (pc := 0) (x := a0) dX0_set_0 0 rfl rfl ?_
  refine jy_inst (pc := 1) (o := a0) hk hH hK q1243 dX0_set_1 (fun b1 => ?_)
  refine jj_if_eq_b hk (pc := 4) 18 dX0_set_4 (by decide) ?_ ?_
  · refine jj_aload_no hk (pc := 18) (x := a0) dX0_set_18 0 rfl rfl ?_
    refine jy_inst (pc := 19) (o := a0) hk hH hK q1244 dX0_set_19 (fun b2 => ?_)
    refine jj_if_eq_b hk (pc := 22) 36 dX0_set_22 (by decide) ?_ ?_
    · refine jj_aload_no hk (pc := 36) (x := a0) dX0_set_36 0 rfl rfl ?_
      refine jy_inst (pc := 37) (o := a0) hk hH hK q1245 dX0_set_37 (fun b3 => ?_)
      refine jj_if_eq_b hk (pc := 40) 53 dX0_set_40 (by decide) ?_ ?_
      · refine jj_aload_no hk (pc := 53) (x := a0) dX0_set_53 0 rfl rfl ?_
        refine jy_inst (pc := 54) (o := a0) hk hH hK q1246 dX0_set_54 (fun b4 => ?_)
        refine jj_if_eq_b hk (pc := 57) 71 dX0_set_57 (by decide) ?_ ?_
        · refine jj_aload_no hk (pc := 71) (x := a0) dX0_set_71 0 rfl rfl ?_
          refine jy_cast (pc := 72) (o := a0) hk hH hK ht h0 hlt q1247 dX0_set_72 ⟨Nat.le_of_ble_eq_true rfl, Nat.le_of_ble_eq_true rfl⟩ (Nat.le_of_ble_eq_true rfl) ?_
          refine jj_iload_n hk (pc := 75) dX0_set_75 1 rfl rfl ?_
          refine jj_iload_n hk (pc := 76) dX0_set_76 2 rfl rfl ?_
          refine jj_if_eq hk (pc := 77) 84 dX0_set_77 (by decide) ?_ ?_
          · refine jj_iconst hk (pc := 84) (v := (0 : Int32)) dX0_set_84 (by decide) ?_
            refine jj_some (pc := 85) (o := a0) (st1 := [.int (0 : Int32), .int a1]) (L := fun q => dSt d 4 q a1 (0 : Int32)) (fun q => ?_)
            refine jd_st4 hk hH hK (pc := 85) dX0_set_85 (fun d5 => ?_)
            exact jy_retV hk (pc := 86) dX0_set_86
          · refine jj_iconst hk (pc := 80) (v := (1 : Int32)) dX0_set_80 (by decide) ?_
            refine jj_goto hk (pc := 81) 85 dX0_set_81 (by decide) ?_
            refine jj_some (pc := 85) (o := a0) (st1 := [.int (1 : Int32), .int a1]) (L := fun q => dSt d 4 q a1 (1 : Int32)) (fun q => ?_)
            refine jd_st4 hk hH hK (pc := 85) dX0_set_85 (fun d6 => ?_)
            exact jy_retV hk (pc := 86) dX0_set_86
        · refine jj_aload_no hk (pc := 60) (x := a0) dX0_set_60 0 rfl rfl ?_
          refine jy_cast (pc := 61) (o := a0) hk hH hK ht h0 hlt q1246 dX0_set_61 ⟨Nat.le_of_ble_eq_true rfl, Nat.le_of_ble_eq_true rfl⟩ (Nat.le_of_ble_eq_true rfl) ?_
          refine jj_iload_n hk (pc := 64) dX0_set_64 1 rfl rfl ?_
          refine jj_iload_n hk (pc := 65) dX0_set_65 2 rfl rfl ?_
          refine jj_i2l hk (pc := 66) dX0_set_66 ?_
          refine jj_some (pc := 67) (o := a0) (st1 := [.long a2.toInt64, .int a1]) (L := fun q => dStJ d q a1 a2.toInt64) (fun q => ?_)
          refine jd_st3 hk hH hK (pc := 67) dX0_set_67 (fun d7 => ?_)
          refine jj_goto hk (pc := 68) 86 dX0_set_68 (by decide) ?_
          exact jy_retV hk (pc := 86) dX0_set_86
      · refine jj_aload_no hk (pc := 43) (x := a0) dX0_set_43 0 rfl rfl ?_
        refine jy_cast (pc := 44) (o := a0) hk hH hK ht h0 hlt q1245 dX0_set_44 ⟨Nat.le_of_ble_eq_true rfl, Nat.le_of_ble_eq_true rfl⟩ (Nat.le_of_ble_eq_true rfl) ?_
        refine jj_iload_n hk (pc := 47) dX0_set_47 1 rfl rfl ?_
        refine jj_iload_n hk (pc := 48) dX0_set_48 2 rfl rfl ?_
        refine jj_some (pc := 49) (o := a0) (st1 := [.int a2, .int a1]) (L := fun q => dSt d 0 q a1 a2) (fun q => ?_)
        refine jd_st0 hk hH hK (pc := 49) dX0_set_49 (fun d8 => ?_)
        refine jj_goto hk (pc := 50) 86 dX0_set_50 (by decide) ?_
        exact jy_retV hk (pc := 86) dX0_set_86
    · refine jj_aload_no hk (pc := 25) (x := a0) dX0_set_25 0 rfl rfl ?_
      refine jy_cast (pc := 26) (o := a0) hk hH hK ht h0 hlt q1244 dX0_set_26 ⟨Nat.le_of_ble_eq_true rfl, Nat.le_of_ble_eq_true rfl⟩ (Nat.le_of_ble_eq_true rfl) ?_
      refine jj_iload_n hk (pc := 29) dX0_set_29 1 rfl rfl ?_
      refine jj_iload_n hk (pc := 30) dX0_set_30 2 rfl rfl ?_
      refine jj_i2s hk (pc := 31) dX0_set_31 ?_
      refine jj_some (pc := 32) (o := a0) (st1 := [.int a2.toInt16.toInt32, .int a1]) (L := fun q => dSt d 2 q a1 a2.toInt16.toInt32) (fun q => ?_)
      refine jd_st2 hk hH hK (pc := 32) dX0_set_32 (fun d9 => ?_)
      refine jj_goto hk (pc := 33) 86 dX0_set_33 (by decide) ?_
      exact jy_retV hk (pc := 86) dX0_set_86
  · refine jj_aload_no hk (pc := 7) (x := a0) dX0_set_7 0 rfl rfl ?_
    refine jy_cast (pc := 8) (o := a0) hk hH hK ht h0 hlt q1243 dX0_set_8 ⟨Nat.le_of_ble_eq_true rfl, Nat.le_of_ble_eq_true rfl⟩ (Nat.le_of_ble_eq_true rfl) ?_
    refine jj_iload_n hk (pc := 11) dX0_set_11 1 rfl rfl ?_
    refine jj_iload_n hk (pc := 12) dX0_set_12 2 rfl rfl ?_
    refine jj_i2b hk (pc := 13) dX0_set_13 ?_
    refine jj_some (pc := 14) (o := a0) (st1 := [.int a2.toInt8.toInt32, .int a1]) (L := fun q => dSt d 1 q a1 a2.toInt8.toInt32) (fun q => ?_)
    refine jd_st1 hk hH hK (pc := 14) dX0_set_14 (fun d10 => ?_)
    refine jj_goto hk (pc := 15) 86 dX0_set_15 (by decide) ?_
    exact jy_retV hk (pc := 86) dX0_set_86
end
section
variable {p : Program} {l : Launch} {e : Env} {R : Room} {s : State} {m : MethodId} {args : Array Value} {below : List Frame} {meth : Method} {c : Code}
variable {G : cG} {KK : State → Prop}
set_option maxHeartbeats 4000000 in
theorem cc_f0_manyOf (l : Launch) (hlt : l.stackTraces = false) {G : cG} {KK : State → Prop} (hH : cH G KK)  (σ : SS) (d : DS) (a0 : Option Nat) (a1 : Int32) (res : (XR (Int32 × SS × DS))) (hf : f0_manyOf σ d a0 a1 = some res) : jMY l yX0_manyOf (ws_ yX0_manyOf cX0_manyOf 2 (some .int)) 9 10400 [va_rf a0, .int a1] G KK (σ, d) xnA (jUa (fun x : Int32 => .int x)) res := by
  refine jy_start [(0, va_rf a0), (1, .int a1)] (by decide) (by cases a0 <;> exact Nat.le_of_ble_eq_true rfl) (by cases a0 <;> rfl) (fun p e R s m args below meth c hk hK hWo ht => ?_) hf
  have hk : jk p R s m args meth c (ynx xnA res) cX0_manyOf 2 RX0 9 10400 (some .int) := hk
  have h0 : hX G s.heap := hWo.2.2
  unfold f0_manyOf
  refine jj_iload_n hk (pc := 0) dX0_manyOf_0 1 rfl rfl ?_
  refine jj_ite (fun c_1_0 => ?_) (fun c_1_0 => ?_)
  · refine jj_tIn hk (pc := 1) (k := (0 : Int32)) (t := 0) 32 c_1_0 dX0_manyOf_1 (by decide) rfl rfl (by decide) ?_
    refine jj_aload_no hk (pc := 32) (x := a0) dX0_manyOf_32 0 rfl rfl ?_
    refine jy_cast (pc := 33) (o := a0) hk hH hK ht h0 hlt q1243 dX0_manyOf_33 ⟨Nat.le_of_ble_eq_true rfl, Nat.le_of_ble_eq_true rfl⟩ (Nat.le_of_ble_eq_true rfl) ?_
    refine jy_lenN (pc := 36) (o := a0) (L := dLen d 1) hk hH hK ht h0 hlt dX0_manyOf_36 ⟨Nat.le_of_ble_eq_true rfl, Nat.le_of_ble_eq_true rfl⟩ (Nat.le_of_ble_eq_true rfl) (fun q => ?_)
    refine jd_len1 hk hH hK (pc := 36) dX0_manyOf_36 (fun v1 => ?_)
    exact jy_retUi hk (pc := 37) dX0_manyOf_37
  refine jj_ite (fun c_1_1 => ?_) (fun c_1_1 => ?_)
  · refine jj_tIn hk (pc := 1) (k := (1 : Int32)) (t := 1) 38 c_1_1 dX0_manyOf_1 (by decide) rfl rfl (by decide) ?_
    refine jj_aload_no hk (pc := 38) (x := a0) dX0_manyOf_38 0 rfl rfl ?_
    refine jy_cast (pc := 39) (o := a0) hk hH hK ht h0 hlt q1244 dX0_manyOf_39 ⟨Nat.le_of_ble_eq_true rfl, Nat.le_of_ble_eq_true rfl⟩ (Nat.le_of_ble_eq_true rfl) ?_
    refine jy_lenN (pc := 42) (o := a0) (L := dLen d 2) hk hH hK ht h0 hlt dX0_manyOf_42 ⟨Nat.le_of_ble_eq_true rfl, Nat.le_of_ble_eq_true rfl⟩ (Nat.le_of_ble_eq_true rfl) (fun q => ?_)
    refine jd_len2 hk hH hK (pc := 42) dX0_manyOf_42 (fun v2 => ?_)
    exact jy_retUi hk (pc := 43) dX0_manyOf_43
  refine jj_ite (fun c_1_2 => ?_) (fun c_1_2 => ?_)
  · refine jj_tIn hk (pc := 1) (k := (2 : Int32)) (t := 2) 44 c_1_2 dX0_manyOf_1 (by decide) rfl rfl (by decide) ?_
    refine jj_aload_no hk (pc := 44) (x := a0) dX0_manyOf_44 0 rfl rfl ?_
    refine jy_cast (pc := 45) (o := a0) hk hH hK ht h0 hlt q1245 dX0_manyOf_45 ⟨Nat.le_of_ble_eq_true rfl, Nat.le_of_ble_eq_true rfl⟩ (Nat.le_of_ble_eq_true rfl) ?_
    refine jy_lenN (pc := 48) (o := a0) (L := dLen d 0) hk hH hK ht h0 hlt dX0_manyOf_48 ⟨Nat.le_of_ble_eq_true rfl, Nat.le_of_ble_eq_true rfl⟩ (Nat.le_of_ble_eq_true rfl) (fun q => ?_)
    refine jd_len0 hk hH hK (pc := 48) dX0_manyOf_48 (fun v3 => ?_)
    exact jy_retUi hk (pc := 49) dX0_manyOf_49
  refine jj_ite (fun c_1_3 => ?_) (fun c_1_3 => ?_)
  · refine jj_tIn hk (pc := 1) (k := (3 : Int32)) (t := 3) 50 c_1_3 dX0_manyOf_1 (by decide) rfl rfl (by decide) ?_
    refine jj_aload_no hk (pc := 50) (x := a0) dX0_manyOf_50 0 rfl rfl ?_
    refine jy_cast (pc := 51) (o := a0) hk hH hK ht h0 hlt q1246 dX0_manyOf_51 ⟨Nat.le_of_ble_eq_true rfl, Nat.le_of_ble_eq_true rfl⟩ (Nat.le_of_ble_eq_true rfl) ?_
    refine jy_lenN (pc := 54) (o := a0) (L := dLen d 3) hk hH hK ht h0 hlt dX0_manyOf_54 ⟨Nat.le_of_ble_eq_true rfl, Nat.le_of_ble_eq_true rfl⟩ (Nat.le_of_ble_eq_true rfl) (fun q => ?_)
    refine jd_len3 hk hH hK (pc := 54) dX0_manyOf_54 (fun v4 => ?_)
    exact jy_retUi hk (pc := 55) dX0_manyOf_55
  refine jj_tOut hk (pc := 1) 56 dX0_manyOf_1 ?_ (by decide) ?_
  · have q0 := lv_neT (a := 0) c_1_0 (by decide); have q1 := lv_neT (a := 1) c_1_1 (by decide); have q2 := lv_neT (a := 2) c_1_2 (by decide); have q3 := lv_neT (a := 3) c_1_3 (by decide); omega
  refine jj_aload_no hk (pc := 56) (x := a0) dX0_manyOf_56 0 rfl rfl ?_
  refine jy_cast (pc := 57) (o := a0) hk hH hK ht h0 hlt q1247 dX0_manyOf_57 ⟨Nat.le_of_ble_eq_true rfl, Nat.le_of_ble_eq_true rfl⟩ (Nat.le_of_ble_eq_true rfl) ?_
  refine jy_lenN (pc := 60) (o := a0) (L := dLen d 4) hk hH hK ht h0 hlt dX0_manyOf_60 ⟨Nat.le_of_ble_eq_true rfl, Nat.le_of_ble_eq_true rfl⟩ (Nat.le_of_ble_eq_true rfl) (fun q => ?_)
  refine jd_len4 hk hH hK (pc := 60) dX0_manyOf_60 (fun v5 => ?_)
  exact jy_retUi hk (pc := 61) dX0_manyOf_61
end
section
variable {p : Program} {l : Launch} {e : Env} {R : Room} {s : State} {m : MethodId} {args : Array Value} {below : List Frame} {meth : Method} {c : Code}
variable {G : cG} {KK : State → Prop}
set_option maxHeartbeats 4000000 in
theorem cc_f0_itemOf (l : Launch) (hlt : l.stackTraces = false) {G : cG} {KK : State → Prop} (hH : cH G KK)  (σ : SS) (d : DS) (a0 : Option Nat) (a1 : Int32) (a2 : Int32) (res : (XR (Int32 × SS × DS))) (hf : f0_itemOf σ d a0 a1 a2 = some res) : jMY l yX0_itemOf (ws_ yX0_itemOf cX0_itemOf 4 (some .int)) 10 10422 [.ref (ha G 0), va_rf a0, .int a1, .int a2] G KK (σ, d) xnA (jUa (fun x : Int32 => .int x)) res := by
  refine jy_start [(0, .ref (ha G 0)), (1, va_rf a0), (2, .int a1), (3, .int a2)] (by decide) (by cases a0 <;> exact Nat.le_of_ble_eq_true rfl) (by cases a0 <;> rfl) (fun p e R s m args below meth c hk hK hWo ht => ?_) hf
  have hk : jk p R s m args meth c (ynx xnA res) cX0_itemOf 4 RX0 10 10422 (some .int) := hk
  have h0 : hX G s.heap := hWo.2.2
  unfold f0_itemOf
  refine jj_aload_n hk (pc := 0) dX0_itemOf_0 0 rfl rfl ?_
  refine jj_iload_n hk (pc := 1) dX0_itemOf_1 3 rfl rfl ?_
  refine jj_iconst hk (pc := 2) (v := (0 : Int32)) dX0_itemOf_2 (by decide) ?_
  refine jj_aload_no hk (pc := 3) (x := a0) dX0_itemOf_3 1 rfl rfl ?_
  refine jj_iload_n hk (pc := 4) dX0_itemOf_4 2 rfl rfl ?_
  refine ky_X0_0_manyOf hk hH hK ht h0 hlt (pc := 5) (a0 := a0) (a1 := a1) (fun r h => cc_f0_manyOf l hlt hH σ d a0 a1 r h) dX0_itemOf_5 ⟨Nat.le_of_ble_eq_true rfl, Nat.le_of_ble_eq_true rfl⟩ (Nat.le_of_ble_eq_true rfl) (fun r1 => ?_)
  refine jj_iconst hk (pc := 8) (v := (1 : Int32)) dX0_itemOf_8 (by decide) ?_
  refine jj_isub hk (pc := 9) dX0_itemOf_9 ?_
  refine kc_X0_0_isIn hk hH hK (pc := 10) (a0 := a2) (a1 := (0 : Int32)) (a2 := (r1.1 - (1 : Int32))) (fun r h => cc_f0_isIn l hH r1.2.2 r1.2.1 a2 (0 : Int32) (r1.1 - (1 : Int32)) r h) dX0_itemOf_10 ⟨Nat.le_of_ble_eq_true rfl, Nat.le_of_ble_eq_true rfl⟩ (Nat.le_of_ble_eq_true rfl) (fun r2 => ?_)
  refine jj_bipush hk (pc := 13) (v := (-12 : Int32)) dX0_itemOf_13 (by decide) ?_
  refine ky_X0_0_must hk hH hK ht h0 hlt (pc := 15) (a0 := r2) (a1 := (-12 : Int32)) (fun r h => cc_y0_must l hlt hH r1.2.1 r1.2.2 r2 (-12 : Int32) r h) dX0_itemOf_15 ⟨Nat.le_of_ble_eq_true rfl, Nat.le_of_ble_eq_true rfl⟩ (Nat.le_of_ble_eq_true rfl) (fun r3 => ?_)
  refine jj_iload_n hk (pc := 18) dX0_itemOf_18 2 rfl rfl ?_
  refine jj_ite (fun c_19_0 => ?_) (fun c_19_0 => ?_)
  · refine jj_tIn hk (pc := 19) (k := (0 : Int32)) (t := 0) 48 c_19_0 dX0_itemOf_19 (by decide) rfl rfl (by decide) ?_
    refine jj_aload_no hk (pc := 48) (x := a0) dX0_itemOf_48 1 rfl rfl ?_
    refine jy_cast (pc := 49) (o := a0) hk hH hK ht h0 hlt q1243 dX0_itemOf_49 ⟨Nat.le_of_ble_eq_true rfl, Nat.le_of_ble_eq_true rfl⟩ (Nat.le_of_ble_eq_true rfl) ?_
    refine jj_iload_n hk (pc := 52) dX0_itemOf_52 3 rfl rfl ?_
    refine jj_some (pc := 53) (o := a0) (st1 := [.int a2]) (L := fun q => dLd r3.2 1 q a2) (fun q => ?_)
    refine jd_ld1 hk hH hK (pc := 53) dX0_itemOf_53 (fun v4 => ?_)
    exact jy_retUi hk (pc := 54) dX0_itemOf_54
  refine jj_ite (fun c_19_1 => ?_) (fun c_19_1 => ?_)
  · refine jj_tIn hk (pc := 19) (k := (1 : Int32)) (t := 1) 55 c_19_1 dX0_itemOf_19 (by decide) rfl rfl (by decide) ?_
    refine jj_aload_no hk (pc := 55) (x := a0) dX0_itemOf_55 1 rfl rfl ?_
    refine jy_cast (pc := 56) (o := a0) hk hH hK ht h0 hlt q1244 dX0_itemOf_56 ⟨Nat.le_of_ble_eq_true rfl, Nat.le_of_ble_eq_true rfl⟩ (Nat.le_of_ble_eq_true rfl) ?_
    refine jj_iload_n hk (pc := 59) dX0_itemOf_59 3 rfl rfl ?_
    refine jj_some (pc := 60) (o := a0) (st1 := [.int a2]) (L := fun q => dLd r3.2 2 q a2) (fun q => ?_)
    refine jd_ld2 hk hH hK (pc := 60) dX0_itemOf_60 (fun v5 => ?_)
    exact jy_retUi hk (pc := 61) dX0_itemOf_61
  refine jj_ite (fun c_19_2 => ?_) (fun c_19_2 => ?_)
  · refine jj_tIn hk (pc := 19) (k := (2 : Int32)) (t := 2) 62 c_19_2 dX0_itemOf_19 (by decide) rfl rfl (by decide) ?_
    refine jj_aload_no hk (pc := 62) (x := a0) dX0_itemOf_62 1 rfl rfl ?_
    refine jy_cast (pc := 63) (o := a0) hk hH hK ht h0 hlt q1245 dX0_itemOf_63 ⟨Nat.le_of_ble_eq_true rfl, Nat.le_of_ble_eq_true rfl⟩ (Nat.le_of_ble_eq_true rfl) ?_
    refine jj_iload_n hk (pc := 66) dX0_itemOf_66 3 rfl rfl ?_
    refine jj_some (pc := 67) (o := a0) (st1 := [.int a2]) (L := fun q => dLd r3.2 0 q a2) (fun q => ?_)
    refine jd_ld0 hk hH hK (pc := 67) dX0_itemOf_67 (fun v6 => ?_)
    exact jy_retUi hk (pc := 68) dX0_itemOf_68
  refine jj_ite (fun c_19_3 => ?_) (fun c_19_3 => ?_)
  · refine jj_tIn hk (pc := 19) (k := (3 : Int32)) (t := 3) 69 c_19_3 dX0_itemOf_19 (by decide) rfl rfl (by decide) ?_
    refine jj_aload_no hk (pc := 69) (x := a0) dX0_itemOf_69 1 rfl rfl ?_
    refine jy_cast (pc := 70) (o := a0) hk hH hK ht h0 hlt q1246 dX0_itemOf_70 ⟨Nat.le_of_ble_eq_true rfl, Nat.le_of_ble_eq_true rfl⟩ (Nat.le_of_ble_eq_true rfl) ?_
    refine jj_iload_n hk (pc := 73) dX0_itemOf_73 3 rfl rfl ?_
    refine jj_some (pc := 74) (o := a0) (st1 := [.int a2]) (L := fun q => dLdJ r3.2 q a2) (fun q => ?_)
    refine jd_ld3 hk hH hK (pc := 74) dX0_itemOf_74 (fun v7 => ?_)
    refine jj_l2i hk (pc := 75) dX0_itemOf_75 ?_
    exact jy_retUi hk (pc := 76) dX0_itemOf_76
  refine jj_tOut hk (pc := 19) 77 dX0_itemOf_19 ?_ (by decide) ?_
  · have q0 := lv_neT (a := 0) c_19_0 (by decide); have q1 := lv_neT (a := 1) c_19_1 (by decide); have q2 := lv_neT (a := 2) c_19_2 (by decide); have q3 := lv_neT (a := 3) c_19_3 (by decide); omega
  refine jj_aload_no hk (pc := 77) (x := a0) dX0_itemOf_77 1 rfl rfl ?_
  refine jy_cast (pc := 78) (o := a0) hk hH hK ht h0 hlt q1247 dX0_itemOf_78 ⟨Nat.le_of_ble_eq_true rfl, Nat.le_of_ble_eq_true rfl⟩ (Nat.le_of_ble_eq_true rfl) ?_
  refine jj_iload_n hk (pc := 81) dX0_itemOf_81 3 rfl rfl ?_
  refine jj_some (pc := 82) (o := a0) (st1 := [.int a2]) (L := fun q => dLd r3.2 4 q a2) (fun q => ?_)
  refine jd_ld4 hk hH hK (pc := 82) dX0_itemOf_82 (fun v8 => ?_)
  refine jj_if_eq hk (pc := 83) 90 dX0_itemOf_83 (by decide) ?_ ?_
  · refine jj_iconst hk (pc := 90) (v := (0 : Int32)) dX0_itemOf_90 (by decide) ?_
    exact jy_retUi hk (pc := 91) dX0_itemOf_91
  · refine jj_iconst hk (pc := 86) (v := (1 : Int32)) dX0_itemOf_86 (by decide) ?_
    refine jj_goto hk (pc := 87) 91 dX0_itemOf_87 (by decide) ?_
    exact jy_retUi hk (pc := 91) dX0_itemOf_91
end
section
variable {p : Program} {l : Launch} {e : Env} {R : Room} {s : State} {m : MethodId} {args : Array Value} {below : List Frame} {meth : Method} {c : Code}
variable {G : cG} {KK : State → Prop}
set_option maxHeartbeats 4000000 in
theorem cc_f0_held (l : Launch) (hlt : l.stackTraces = false) {G : cG} {KK : State → Prop} (hH : cH G KK)  (σ : SS) (d : DS) (a0 : Int32) (res : (XR (Option Nat × SS × DS))) (hf : f0_held σ d a0 = some res) : jMY l yX0_held (ws_ yX0_held cX0_held 4 (some (.object "java/lang/Object"))) 9 10400 [.ref (ha G 0), .int a0] G KK (σ, d) xnA (jUa va_rf) res := by
  refine jy_start [(0, .ref (ha G 0)), (1, .int a0)] (by decide) (Nat.le_of_ble_eq_true rfl) rfl (fun p e R s m args below meth c hk hK hWo ht => ?_) hf
  have hk : jk p R s m args meth c (ynx xnA res) cX0_held 4 RX0 9 10400 (some (.object "java/lang/Object")) := hk
  have h0 : hX G s.heap := hWo.2.2
  unfold f0_held
  refine jj_aload_n hk (pc := 0) dX0_held_0 0 rfl rfl ?_
  refine jc_g_shelves hk hH hK (pc := 1) dX0_held_1 ?_
  refine jj_iload_n hk (pc := 4) dX0_held_4 1 rfl rfl ?_
  refine jc_aldS7 hk hH hK (pc := 5) dX0_held_5 (fun i1 hi1 => ?_)
  refine jc_held7 (i := i1) (hi := hi1) hk hH hK (pc := 6) dX0_held_6 ?_
  refine jj_astore_no hk (pc := 9) (x := σ.2.2.1 (3 + i1)) [(2, va_rf (σ.2.2.1 (3 + i1))), (0, .ref (ha G 0)), (1, .int a0)] dX0_held_9 rfl (Nat.le_of_ble_eq_true rfl) rfl ?_
  refine jj_aload_no hk (pc := 10) (x := σ.2.2.1 (3 + i1)) dX0_held_10 0 rfl rfl ?_
  refine jy_inst (pc := 11) (o := (σ.2.2.1 (3 + i1))) hk hH hK q1313 dX0_held_11 (fun b2 => ?_)
  refine jj_if_ne_b hk (pc := 14) 19 dX0_held_14 (by decide) ?_ ?_
  · refine jj_aload_no hk (pc := 19) (x := σ.2.2.1 (3 + i1)) dX0_held_19 0 rfl rfl ?_
    refine jy_cast (pc := 20) (o := (σ.2.2.1 (3 + i1))) hk hH hK ht h0 hlt q1313 dX0_held_20 ⟨Nat.le_of_ble_eq_true rfl, Nat.le_of_ble_eq_true rfl⟩ (Nat.le_of_ble_eq_true rfl) ?_
    refine jj_astore_no hk (pc := 23) (x := σ.2.2.1 (3 + i1)) [(3, va_rf (σ.2.2.1 (3 + i1))), (2, va_rf (σ.2.2.1 (3 + i1))), (0, .ref (ha G 0)), (1, .int a0)] dX0_held_23 rfl (Nat.le_of_ble_eq_true rfl) (by cases σ.2.2.1 (3 + i1) <;> rfl) ?_
    refine jj_aload_n hk (pc := 24) dX0_held_24 2 rfl rfl ?_
    refine jj_aload_no hk (pc := 25) (x := σ.2.2.1 (3 + i1)) dX0_held_25 0 rfl rfl ?_
    refine jj_some (pc := 26) (o := (σ.2.2.1 (3 + i1))) (st1 := []) (L := fun q => dInt d 18 0 q) (fun q => ?_)
    refine jd_X0_tnumber hk hH hK (pc := 26) dX0_held_26 (fun v3 => ?_)
    refine kc_X0_0_isPerson hk hH hK (pc := 29) (a0 := v3) (fun r h => cc_f0_isPerson l hH d σ v3 r h) dX0_held_29 ⟨Nat.le_of_ble_eq_true rfl, Nat.le_of_ble_eq_true rfl⟩ (Nat.le_of_ble_eq_true rfl) (fun r4 => ?_)
    refine jj_if_eq_b hk (pc := 32) 47 dX0_held_32 (by decide) ?_ ?_
    · refine jj_null hk (pc := 47) dX0_held_47 ?_
      exact jy_retUo (x := none) hk (pc := 48) (Or.inl ⟨_, rfl⟩) dX0_held_48
    · refine jj_aload_n hk (pc := 35) dX0_held_35 2 rfl rfl ?_
      refine jc_g_hands hk hH hK (pc := 36) dX0_held_36 ?_
      refine jj_aload_no hk (pc := 39) (x := σ.2.2.1 (3 + i1)) dX0_held_39 0 rfl rfl ?_
      refine jj_some (pc := 40) (o := (σ.2.2.1 (3 + i1))) (st1 := []) (L := fun q => dInt d 18 0 q) (fun q => ?_)
      refine jd_X0_tnumber hk hH hK (pc := 40) dX0_held_40 (fun v5 => ?_)
      refine jc_ldN0 hk hH hK (pc := 43) dX0_held_43 (fun q6 => ?_)
      refine jj_goto hk (pc := 44) 48 dX0_held_44 (by decide) ?_
      exact jy_retUo (x := some q6) hk (pc := 48) (Or.inl ⟨_, rfl⟩) dX0_held_48
  · refine jj_aload_no hk (pc := 17) (x := σ.2.2.1 (3 + i1)) dX0_held_17 0 rfl rfl ?_
    exact jy_retUo (x := σ.2.2.1 (3 + i1)) hk (pc := 18) (Or.inl ⟨_, rfl⟩) dX0_held_18
end
section
variable {p : Program} {l : Launch} {e : Env} {R : Room} {s : State} {m : MethodId} {args : Array Value} {below : List Frame} {meth : Method} {c : Code}
variable {G : cG} {KK : State → Prop}
set_option maxHeartbeats 4000000 in
theorem cc_f0_personAs (l : Launch) (hlt : l.stackTraces = false) {G : cG} {KK : State → Prop} (hH : cH G KK)  (σ : SS) (d : DS) (a0 : Option Nat) (a1 : Int32) (res : (XR (Option Nat × SS × DS))) (hf : f0_personAs σ d a0 a1 = some res) : jMY l yX0_personAs (ws_ yX0_personAs cX0_personAs 2 (some (.object "LeftUndoes$Hand"))) 9 10400 [va_rf a0, .int a1] G KK (σ, d) xnA (jUa va_rf) res := by
  refine jy_start [(0, va_rf a0), (1, .int a1)] (by decide) (by cases a0 <;> exact Nat.le_of_ble_eq_true rfl) (by cases a0 <;> rfl) (fun p e R s m args below meth c hk hK hWo ht => ?_) hf
  have hk : jk p R s m args meth c (ynx xnA res) cX0_personAs 2 RX0 9 10400 (some (.object "LeftUndoes$Hand")) := hk
  have h0 : hX G s.heap := hWo.2.2
  unfold f0_personAs
  refine jj_iload_n hk (pc := 0) dX0_personAs_0 1 rfl rfl ?_
  refine jj_ite (fun c_1_0 => ?_) (fun c_1_0 => ?_)
  · refine jj_tIn hk (pc := 1) (k := (0 : Int32)) (t := 0) 36 c_1_0 dX0_personAs_1 (by decide) rfl rfl (by decide) ?_
    refine jj_aload_no hk (pc := 36) (x := a0) dX0_personAs_36 0 rfl rfl ?_
    refine jy_cast (pc := 37) (o := a0) hk hH hK ht h0 hlt q360 dX0_personAs_37 ⟨Nat.le_of_ble_eq_true rfl, Nat.le_of_ble_eq_true rfl⟩ (Nat.le_of_ble_eq_true rfl) ?_
    exact jy_retUo (x := a0) hk (pc := 40) (Or.inl ⟨_, rfl⟩) dX0_personAs_40
  refine jj_ite (fun c_1_1 => ?_) (fun c_1_1 => ?_)
  · refine jj_tIn hk (pc := 1) (k := (1 : Int32)) (t := 1) 41 c_1_1 dX0_personAs_1 (by decide) rfl rfl (by decide) ?_
    refine jj_aload_no hk (pc := 41) (x := a0) dX0_personAs_41 0 rfl rfl ?_
    refine jy_cast (pc := 42) (o := a0) hk hH hK ht h0 hlt q522 dX0_personAs_42 ⟨Nat.le_of_ble_eq_true rfl, Nat.le_of_ble_eq_true rfl⟩ (Nat.le_of_ble_eq_true rfl) ?_
    exact jy_retUo (x := a0) hk (pc := 45) (Or.inl ⟨_, rfl⟩) dX0_personAs_45
  refine jj_ite (fun c_1_2 => ?_) (fun c_1_2 => ?_)
  · refine jj_tIn hk (pc := 1) (k := (2 : Int32)) (t := 2) 46 c_1_2 dX0_personAs_1 (by decide) rfl rfl (by decide) ?_
    refine jj_aload_no hk (pc := 46) (x := a0) dX0_personAs_46 0 rfl rfl ?_
    refine jy_cast (pc := 47) (o := a0) hk hH hK ht h0 hlt q538 dX0_personAs_47 ⟨Nat.le_of_ble_eq_true rfl, Nat.le_of_ble_eq_true rfl⟩ (Nat.le_of_ble_eq_true rfl) ?_
    exact jy_retUo (x := a0) hk (pc := 50) (Or.inl ⟨_, rfl⟩) dX0_personAs_50
  refine jj_ite (fun c_1_3 => ?_) (fun c_1_3 => ?_)
  · refine jj_tIn hk (pc := 1) (k := (3 : Int32)) (t := 3) 51 c_1_3 dX0_personAs_1 (by decide) rfl rfl (by decide) ?_
    refine jj_aload_no hk (pc := 51) (x := a0) dX0_personAs_51 0 rfl rfl ?_
    refine jy_cast (pc := 52) (o := a0) hk hH hK ht h0 hlt q547 dX0_personAs_52 ⟨Nat.le_of_ble_eq_true rfl, Nat.le_of_ble_eq_true rfl⟩ (Nat.le_of_ble_eq_true rfl) ?_
    exact jy_retUo (x := a0) hk (pc := 55) (Or.inl ⟨_, rfl⟩) dX0_personAs_55
  refine jj_ite (fun c_1_4 => ?_) (fun c_1_4 => ?_)
  · refine jj_tIn hk (pc := 1) (k := (4 : Int32)) (t := 4) 56 c_1_4 dX0_personAs_1 (by decide) rfl rfl (by decide) ?_
    refine jj_aload_no hk (pc := 56) (x := a0) dX0_personAs_56 0 rfl rfl ?_
    refine jy_cast (pc := 57) (o := a0) hk hH hK ht h0 hlt q556 dX0_personAs_57 ⟨Nat.le_of_ble_eq_true rfl, Nat.le_of_ble_eq_true rfl⟩ (Nat.le_of_ble_eq_true rfl) ?_
    exact jy_retUo (x := a0) hk (pc := 60) (Or.inl ⟨_, rfl⟩) dX0_personAs_60
  refine jj_tOut hk (pc := 1) 61 dX0_personAs_1 ?_ (by decide) ?_
  · have q0 := lv_neT (a := 0) c_1_0 (by decide); have q1 := lv_neT (a := 1) c_1_1 (by decide); have q2 := lv_neT (a := 2) c_1_2 (by decide); have q3 := lv_neT (a := 3) c_1_3 (by decide); have q4 := lv_neT (a := 4) c_1_4 (by decide); omega
  refine jj_aload_no hk (pc := 61) (x := a0) dX0_personAs_61 0 rfl rfl ?_
  refine jy_cast (pc := 62) (o := a0) hk hH hK ht h0 hlt q565 dX0_personAs_62 ⟨Nat.le_of_ble_eq_true rfl, Nat.le_of_ble_eq_true rfl⟩ (Nat.le_of_ble_eq_true rfl) ?_
  exact jy_retUo (x := a0) hk (pc := 65) (Or.inl ⟨_, rfl⟩) dX0_personAs_65
end
section
variable {p : Program} {l : Launch} {e : Env} {R : Room} {s : State} {m : MethodId} {args : Array Value} {below : List Frame} {meth : Method} {c : Code}
variable {G : cG} {KK : State → Prop}
set_option maxHeartbeats 4000000 in
theorem cc_f0_takenAs (l : Launch) (hlt : l.stackTraces = false) {G : cG} {KK : State → Prop} (hH : cH G KK)  (σ : SS) (d : DS) (a0 : Option Nat) (a1 : Int32) (res : (XR (Int32 × SS × DS))) (hf : f0_takenAs σ d a0 a1 = some res) : jMY l yX0_takenAs (ws_ yX0_takenAs cX0_takenAs 2 (some .int)) 10 10421 [va_rf a0, .int a1] G KK (σ, d) xnA (jUa (fun x : Int32 => .int x)) res := by
  refine jy_start [(0, va_rf a0), (1, .int a1)] (by decide) (by cases a0 <;> exact Nat.le_of_ble_eq_true rfl) (by cases a0 <;> rfl) (fun p e R s m args below meth c hk hK hWo ht => ?_) hf
  have hk : jk p R s m args meth c (ynx xnA res) cX0_takenAs 2 RX0 10 10421 (some .int) := hk
  have h0 : hX G s.heap := hWo.2.2
  unfold f0_takenAs
  refine jj_iload_n hk (pc := 0) dX0_takenAs_0 1 rfl rfl ?_
  refine jj_bipush hk (pc := 1) (v := (10 : Int32)) dX0_takenAs_1 (by decide) ?_
  refine jj_icmp_lt hk (pc := 3) 17 dX0_takenAs_3 (by decide) ?_ ?_
  · refine jj_aload_no hk (pc := 17) (x := a0) dX0_takenAs_17 0 rfl rfl ?_
    refine jj_iload_n hk (pc := 18) dX0_takenAs_18 1 rfl rfl ?_
    refine ky_X0_0_personAs hk hH hK ht h0 hlt (pc := 19) (a0 := a0) (a1 := a1) (fun r h => cc_f0_personAs l hlt hH σ d a0 a1 r h) dX0_takenAs_19 ⟨Nat.le_of_ble_eq_true rfl, Nat.le_of_ble_eq_true rfl⟩ (Nat.le_of_ble_eq_true rfl) (fun r1 => ?_)
    refine jy_numN (pc := 22) (o := r1.1) (L := fun q => hNumber r1.2.2 q) hk hH hK ht h0 hlt dX0_takenAs_22 ⟨Nat.le_of_ble_eq_true rfl, Nat.le_of_ble_eq_true rfl⟩ (Nat.le_of_ble_eq_true rfl) (fun q => ?_)
    refine kc_X0_number hk hH hK (pc := 22) dX0_takenAs_22 ⟨Nat.le_of_ble_eq_true rfl, Nat.le_of_ble_eq_true rfl⟩ (Nat.le_of_ble_eq_true rfl) (fun v2 => ?_)
    exact jy_retUi hk (pc := 25) dX0_takenAs_25
  · refine jj_aload_no hk (pc := 6) (x := a0) dX0_takenAs_6 0 rfl rfl ?_
    refine jj_iload_n hk (pc := 7) dX0_takenAs_7 1 rfl rfl ?_
    refine jj_bipush hk (pc := 8) (v := (10 : Int32)) dX0_takenAs_8 (by decide) ?_
    refine jj_isub hk (pc := 10) dX0_takenAs_10 ?_
    refine ky_X0_0_manyOf hk hH hK ht h0 hlt (pc := 11) (a0 := a0) (a1 := (a1 - (10 : Int32))) (fun r h => cc_f0_manyOf l hlt hH σ d a0 (a1 - (10 : Int32)) r h) dX0_takenAs_11 ⟨Nat.le_of_ble_eq_true rfl, Nat.le_of_ble_eq_true rfl⟩ (Nat.le_of_ble_eq_true rfl) (fun r3 => ?_)
    refine jj_goto hk (pc := 14) 25 dX0_takenAs_14 (by decide) ?_
    exact jy_retUi hk (pc := 25) dX0_takenAs_25
end
section
variable {p : Program} {l : Launch} {e : Env} {R : Room} {s : State} {m : MethodId} {args : Array Value} {below : List Frame} {meth : Method} {c : Code}
variable {G : cG} {KK : State → Prop}
set_option maxHeartbeats 4000000 in
theorem cc_f0_sheet (l : Launch) (hlt : l.stackTraces = false) {G : cG} {KK : State → Prop} (hH : cH G KK)  (σ : SS) (d : DS) (a0 : Int32) (a1 : Int32) (a2 : Int32) (res : (Int32 × SS × DS)) (hf : f0_sheet σ d a0 a1 a2 = some res) : jM l yX0_sheet (wsW_ yX0_sheet cX0_sheet 5 (some .int) eX0_sheet) 10 10421 [.ref (ha G 0), .int a0, .int a1, .int a2] (aWo G) anx KK (σ, d) (jUs res) (hA G) (res.2.2.2 + 25) := by
  refine jj_startH [(0, .ref (ha G 0)), (1, .int a0), (2, .int a1), (3, .int a2)] (by decide) (Nat.le_of_ble_eq_true rfl) rfl (fun p e R s m args below meth c hk hK htb => ?_) hf
  have hk : jk p R s m args meth c (res.2.2.2 + 25) cX0_sheet 5 RX0 10 10421 (some .int) := hk
  refine ja_in ?_
  unfold f0_sheet
  refine jj_iload_n hk (pc := 0) dX0_sheet_0 1 rfl rfl ?_
  refine kc_X0_0_isShelf hk hH hK (pc := 1) (a0 := a0) (fun r h => cc_f0_isShelf l hH d σ a0 r h) dX0_sheet_1 ⟨Nat.le_of_ble_eq_true rfl, Nat.le_of_ble_eq_true rfl⟩ (Nat.le_of_ble_eq_true rfl) (fun r1 => ?_)
  refine jj_if_eq_b hk (pc := 4) 26 dX0_sheet_4 (by decide) ?_ ?_
  · refine jj_iconst hk (pc := 26) (v := (-1 : Int32)) dX0_sheet_26 (by decide) ?_
    exact jy_retUs hk (pc := 27) dX0_sheet_27
  · refine jj_iload_n hk (pc := 7) dX0_sheet_7 2 rfl rfl ?_
    refine jj_iconst hk (pc := 8) (v := (-1 : Int32)) dX0_sheet_8 (by decide) ?_
    refine jj_iconst hk (pc := 9) (v := (4 : Int32)) dX0_sheet_9 (by decide) ?_
    refine kc_X0_0_isIn hk hH hK (pc := 10) (a0 := a1) (a1 := (-1 : Int32)) (a2 := (4 : Int32)) (fun r h => cc_f0_isIn l hH d σ a1 (-1 : Int32) (4 : Int32) r h) dX0_sheet_10 ⟨Nat.le_of_ble_eq_true rfl, Nat.le_of_ble_eq_true rfl⟩ (Nat.le_of_ble_eq_true rfl) (fun r2 => ?_)
    refine jj_if_eq_b hk (pc := 13) 26 dX0_sheet_13 (by decide) ?_ ?_
    · refine jj_iconst hk (pc := 26) (v := (-1 : Int32)) dX0_sheet_26 (by decide) ?_
      exact jy_retUs hk (pc := 27) dX0_sheet_27
    · refine jj_iload_n hk (pc := 16) dX0_sheet_16 2 rfl rfl ?_
      refine jj_if_lt hk (pc := 17) 28 dX0_sheet_17 (by decide) ?_ ?_
      · refine jj_aload_n hk (pc := 28) dX0_sheet_28 0 rfl rfl ?_
        refine jc_g_sheets hk hH hK (pc := 29) dX0_sheet_29 ?_
        refine jj_iload_n hk (pc := 32) dX0_sheet_32 1 rfl rfl ?_
        refine jc_aldS11 hk hH hK (pc := 33) dX0_sheet_33 (fun i3 hi3 => ?_)
        refine jj_iload_n hk (pc := 34) dX0_sheet_34 2 rfl rfl ?_
        refine jj_if_ge hk (pc := 35) 42 dX0_sheet_35 (by decide) ?_ ?_
        · refine jj_iload_n hk (pc := 42) dX0_sheet_42 2 rfl rfl ?_
          refine jj_iload_n hk (pc := 43) dX0_sheet_43 3 rfl rfl ?_
          refine kyh_X0_0_rowOf hk hH hK (pc := 44) (a0 := a1) (a1 := a2) (Hh := fun y => (if y.1 = 3 then some ((-14 : Int32), y.2.1) else none)) (fun r h => cc_f0_rowOf l hlt hH σ d a1 a2 r h) dX0_sheet_44 ⟨Nat.le_of_ble_eq_true rfl, Nat.le_of_ble_eq_true rfl⟩ (Nat.le_of_ble_eq_true rfl) (fun y r' hz => ?_) (fun r4 => ?_)
          · skip
            by_cases c3 : y.1 = 3
            · have h9 : (some ((-14 : Int32), y.2.1)) = some r' := (if_pos c3).symm.trans (hz)
              refine ⟨52, by rw [c3]; exact ⟨[], (⟨28, 51, 52, 529⟩ : ExceptionTableEntry), [], "java/lang/NegativeArraySizeException", by rw [htb]; rfl, (fun z hz => by exact nomatch hz), by decide, by decide, q1195, (List.mem_of_getElem? (i := 24) rfl), rfl⟩, fun R s q d' hq hk hK => ?_⟩
              refine jj_eq (Z' := (some ((-14 : Int32), y.2.1)) = some r') (fun _ => h9) ?_
              refine jj_astore hk (pc := 52) [(4, .ref q), (0, .ref (ha G 0)), (1, .int a0), (2, .int a1), (3, .int a2)] dX0_sheet_52 (Nat.le_of_ble_eq_true rfl) rfl ?_
              refine jj_bipush hk (pc := 54) (v := (-14 : Int32)) dX0_sheet_54 (by decide) ?_
              exact jc_retUi hk (pc := 56) dX0_sheet_56
            exact absurd (show (none : Option (Int32 × SS)) = some r' from (if_neg c3).symm.trans (hz)) (fun h => by cases h)
          refine jc_pheld11 (i := i3) (hi := hi3) hk hH hK (pc := 47) (x := some r4.1) dX0_sheet_47 (fun σ5 => ?_)
          refine jj_iconst hk (pc := 50) (v := (1 : Int32)) dX0_sheet_50 (by decide) ?_
          exact jy_retUs hk (pc := 51) dX0_sheet_51
        · refine jj_null hk (pc := 38) dX0_sheet_38 ?_
          refine jj_goto hk (pc := 39) 47 dX0_sheet_39 (by decide) ?_
          refine jc_pheld11 (i := i3) (hi := hi3) hk hH hK (pc := 47) (x := none) dX0_sheet_47 (fun σ6 => ?_)
          refine jj_iconst hk (pc := 50) (v := (1 : Int32)) dX0_sheet_50 (by decide) ?_
          exact jy_retUs hk (pc := 51) dX0_sheet_51
      · refine jj_iload_n hk (pc := 20) dX0_sheet_20 3 rfl rfl ?_
        refine jj_bipush hk (pc := 21) (v := (40 : Int32)) dX0_sheet_21 (by decide) ?_
        refine jj_icmp_le hk (pc := 23) 28 dX0_sheet_23 (by decide) ?_ ?_
        · refine jj_aload_n hk (pc := 28) dX0_sheet_28 0 rfl rfl ?_
          refine jc_g_sheets hk hH hK (pc := 29) dX0_sheet_29 ?_
          refine jj_iload_n hk (pc := 32) dX0_sheet_32 1 rfl rfl ?_
          refine jc_aldS11 hk hH hK (pc := 33) dX0_sheet_33 (fun i7 hi7 => ?_)
          refine jj_iload_n hk (pc := 34) dX0_sheet_34 2 rfl rfl ?_
          refine jj_if_ge hk (pc := 35) 42 dX0_sheet_35 (by decide) ?_ ?_
          · refine jj_iload_n hk (pc := 42) dX0_sheet_42 2 rfl rfl ?_
            refine jj_iload_n hk (pc := 43) dX0_sheet_43 3 rfl rfl ?_
            refine kyh_X0_0_rowOf hk hH hK (pc := 44) (a0 := a1) (a1 := a2) (Hh := fun y => (if y.1 = 3 then some ((-14 : Int32), y.2.1) else none)) (fun r h => cc_f0_rowOf l hlt hH σ d a1 a2 r h) dX0_sheet_44 ⟨Nat.le_of_ble_eq_true rfl, Nat.le_of_ble_eq_true rfl⟩ (Nat.le_of_ble_eq_true rfl) (fun y r' hz => ?_) (fun r8 => ?_)
            · skip
              by_cases c3 : y.1 = 3
              · have h9 : (some ((-14 : Int32), y.2.1)) = some r' := (if_pos c3).symm.trans (hz)
                refine ⟨52, by rw [c3]; exact ⟨[], (⟨28, 51, 52, 529⟩ : ExceptionTableEntry), [], "java/lang/NegativeArraySizeException", by rw [htb]; rfl, (fun z hz => by exact nomatch hz), by decide, by decide, q1195, (List.mem_of_getElem? (i := 24) rfl), rfl⟩, fun R s q d' hq hk hK => ?_⟩
                refine jj_eq (Z' := (some ((-14 : Int32), y.2.1)) = some r') (fun _ => h9) ?_
                refine jj_astore hk (pc := 52) [(4, .ref q), (0, .ref (ha G 0)), (1, .int a0), (2, .int a1), (3, .int a2)] dX0_sheet_52 (Nat.le_of_ble_eq_true rfl) rfl ?_
                refine jj_bipush hk (pc := 54) (v := (-14 : Int32)) dX0_sheet_54 (by decide) ?_
                exact jc_retUi hk (pc := 56) dX0_sheet_56
              exact absurd (show (none : Option (Int32 × SS)) = some r' from (if_neg c3).symm.trans (hz)) (fun h => by cases h)
            refine jc_pheld11 (i := i7) (hi := hi7) hk hH hK (pc := 47) (x := some r8.1) dX0_sheet_47 (fun σ9 => ?_)
            refine jj_iconst hk (pc := 50) (v := (1 : Int32)) dX0_sheet_50 (by decide) ?_
            exact jy_retUs hk (pc := 51) dX0_sheet_51
          · refine jj_null hk (pc := 38) dX0_sheet_38 ?_
            refine jj_goto hk (pc := 39) 47 dX0_sheet_39 (by decide) ?_
            refine jc_pheld11 (i := i7) (hi := hi7) hk hH hK (pc := 47) (x := none) dX0_sheet_47 (fun σ10 => ?_)
            refine jj_iconst hk (pc := 50) (v := (1 : Int32)) dX0_sheet_50 (by decide) ?_
            exact jy_retUs hk (pc := 51) dX0_sheet_51
        · refine jj_iconst hk (pc := 26) (v := (-1 : Int32)) dX0_sheet_26 (by decide) ?_
          exact jy_retUs hk (pc := 27) dX0_sheet_27
end
section
variable {p : Program} {l : Launch} {e : Env} {R : Room} {s : State} {m : MethodId} {args : Array Value} {below : List Frame} {meth : Method} {c : Code}
variable {G : cG} {KK : State → Prop}
set_option maxHeartbeats 4000000 in
theorem cc_f0_write (l : Launch) (hlt : l.stackTraces = false) {G : cG} {KK : State → Prop} (hH : cH G KK)  (σ : SS) (d : DS) (a0 : Int32) (a1 : Int32) (a2 : Int32) (res : (Int32 × SS × DS)) (hf : f0_write σ d a0 a1 a2 = some res) : jM l yX0_write (wsW_ yX0_write cX0_write 5 (some .int) eX0_write) 10 10422 [.ref (ha G 0), .int a0, .int a1, .int a2] (aWo G) anx KK (σ, d) (jUs res) (hA G) (res.2.2.2 + 25) := by
  refine jj_startH [(0, .ref (ha G 0)), (1, .int a0), (2, .int a1), (3, .int a2)] (by decide) (Nat.le_of_ble_eq_true rfl) rfl (fun p e R s m args below meth c hk hK htb => ?_) hf
  have hk : jk p R s m args meth c (res.2.2.2 + 25) cX0_write 5 RX0 10 10422 (some .int) := hk
  refine ja_in ?_
  unfold f0_write
  refine jj_iload_n hk (pc := 0) dX0_write_0 1 rfl rfl ?_
  refine kc_X0_0_isShelf hk hH hK (pc := 1) (a0 := a0) (fun r h => cc_f0_isShelf l hH d σ a0 r h) dX0_write_1 ⟨Nat.le_of_ble_eq_true rfl, Nat.le_of_ble_eq_true rfl⟩ (Nat.le_of_ble_eq_true rfl) (fun r1 => ?_)
  refine jj_if_ne_b hk (pc := 4) 9 dX0_write_4 (by decide) ?_ ?_
  · refine jj_aload_n hk (pc := 9) dX0_write_9 0 rfl rfl ?_
    refine jc_g_sheets hk hH hK (pc := 10) dX0_write_10 ?_
    refine jj_iload_n hk (pc := 13) dX0_write_13 1 rfl rfl ?_
    refine jc_aldS11 hk hH hK (pc := 14) dX0_write_14 (fun i2 hi2 => ?_)
    refine jc_held11 (i := i2) (hi := hi2) hk hH hK (pc := 15) dX0_write_15 ?_
    refine jj_astoreo hk (pc := 18) (x := σ.2.2.1 (7 + i2)) [(4, va_rf (σ.2.2.1 (7 + i2))), (0, .ref (ha G 0)), (1, .int a0), (2, .int a1), (3, .int a2)] dX0_write_18 (Nat.le_of_ble_eq_true rfl) rfl ?_
    refine jj_aload_n hk (pc := 20) dX0_write_20 1 rfl rfl ?_
    refine jj_aloado hk (pc := 21) (x := σ.2.2.1 (7 + i2)) dX0_write_21 0 rfl ?_
    refine jc_ifnull hk hH hK (pc := 23) 30 dX0_write_23 (by decide) ?_ ?_
    · refine jj_iconst hk (pc := 30) (v := (0 : Int32)) dX0_write_30 (by decide) ?_
      refine jj_bipush hk (pc := 31) (v := (-11 : Int32)) dX0_write_31 (by decide) ?_
      refine kyh_X0_0_must hk hH hK (pc := 33) (a0 := false) (a1 := (-11 : Int32)) (Hh := fun y => (if y.1 = 1 then some (y.2.1.1 71, y.2.1) else none)) (fun r h => cc_y0_must l hlt hH σ d false (-11 : Int32) r h) dX0_write_33 ⟨Nat.le_of_ble_eq_true rfl, Nat.le_of_ble_eq_true rfl⟩ (Nat.le_of_ble_eq_true rfl) (fun y r' hz => ?_) (fun r3 => ?_)
      · skip
        by_cases c1 : y.1 = 1
        · have h9 : (some (y.2.1.1 71, y.2.1)) = some r' := (if_pos c1).symm.trans (hz)
          refine ⟨63, by rw [c1]; exact ⟨[], (⟨9, 62, 63, 8⟩ : ExceptionTableEntry), [], "LeftUndoes$Refusal", by rw [htb]; rfl, (fun z hz => by exact nomatch hz), by decide, by decide, q161, (List.mem_of_getElem? (i := 0) rfl), rfl⟩, fun R s q d' hq hk hK => ?_⟩
          refine jj_eq (Z' := (some (y.2.1.1 71, y.2.1)) = some r') (fun _ => h9) ?_
          have hqe : q = ha G 1 := by rw [hq (by rw [c1]; decide), c1]
          subst hqe
          refine jj_astore hk (pc := 63) [(4, .ref (ha G 1)), (0, .ref (ha G 0)), (1, .int a0), (2, .int a1), (3, .int a2)] dX0_write_63 (Nat.le_of_ble_eq_true rfl) rfl ?_
          refine jj_aload hk (pc := 65) dX0_write_65 0 rfl ?_
          refine jc_ranswer hk hH hK (pc := 67) dX0_write_67 ?_
          exact jc_retUi hk (pc := 70) dX0_write_70
        exact absurd (show (none : Option (Int32 × SS)) = some r' from (if_neg c1).symm.trans (hz)) (fun h => by cases h)
      refine jj_aload_n hk (pc := 36) dX0_write_36 1 rfl rfl ?_
      refine jj_iload_n hk (pc := 37) dX0_write_37 3 rfl rfl ?_
      refine jj_iconst hk (pc := 38) (v := (0 : Int32)) dX0_write_38 (by decide) ?_
      refine jj_aloado hk (pc := 39) (x := σ.2.2.1 (7 + i2)) dX0_write_39 0 rfl ?_
      refine kyh_X0_0_length hk hH hK (pc := 41) (a0 := (σ.2.2.1 (7 + i2))) (Hh := fun y => none) (fun r h => cc_f0_length l hlt hH r3.1 r3.2 (σ.2.2.1 (7 + i2)) r h) dX0_write_41 ⟨Nat.le_of_ble_eq_true rfl, Nat.le_of_ble_eq_true rfl⟩ (Nat.le_of_ble_eq_true rfl) (fun y r' hz => ?_) (fun r4 => ?_)
      · skip
        exact absurd (show (none : Option (Int32 × SS)) = some r' from hz) (fun h => by cases h)
      refine jj_iconst hk (pc := 44) (v := (1 : Int32)) dX0_write_44 (by decide) ?_
      refine jj_isub hk (pc := 45) dX0_write_45 ?_
      refine kc_X0_0_isIn hk hH hK (pc := 46) (a0 := a1) (a1 := (0 : Int32)) (a2 := (r4.1 - (1 : Int32))) (fun r h => cc_f0_isIn l hH r4.2.2 r4.2.1 a1 (0 : Int32) (r4.1 - (1 : Int32)) r h) dX0_write_46 ⟨Nat.le_of_ble_eq_true rfl, Nat.le_of_ble_eq_true rfl⟩ (Nat.le_of_ble_eq_true rfl) (fun r5 => ?_)
      refine jj_bipush hk (pc := 49) (v := (-12 : Int32)) dX0_write_49 (by decide) ?_
      refine kyh_X0_0_must hk hH hK (pc := 51) (a0 := r5) (a1 := (-12 : Int32)) (Hh := fun y => (if y.1 = 1 then some (y.2.1.1 71, y.2.1) else none)) (fun r h => cc_y0_must l hlt hH r4.2.1 r4.2.2 r5 (-12 : Int32) r h) dX0_write_51 ⟨Nat.le_of_ble_eq_true rfl, Nat.le_of_ble_eq_true rfl⟩ (Nat.le_of_ble_eq_true rfl) (fun y r' hz => ?_) (fun r6 => ?_)
      · skip
        by_cases c1 : y.1 = 1
        · have h9 : (some (y.2.1.1 71, y.2.1)) = some r' := (if_pos c1).symm.trans (hz)
          refine ⟨63, by rw [c1]; exact ⟨[], (⟨9, 62, 63, 8⟩ : ExceptionTableEntry), [], "LeftUndoes$Refusal", by rw [htb]; rfl, (fun z hz => by exact nomatch hz), by decide, by decide, q161, (List.mem_of_getElem? (i := 0) rfl), rfl⟩, fun R s q d' hq hk hK => ?_⟩
          refine jj_eq (Z' := (some (y.2.1.1 71, y.2.1)) = some r') (fun _ => h9) ?_
          have hqe : q = ha G 1 := by rw [hq (by rw [c1]; decide), c1]
          subst hqe
          refine jj_astore hk (pc := 63) [(4, .ref (ha G 1)), (0, .ref (ha G 0)), (1, .int a0), (2, .int a1), (3, .int a2)] dX0_write_63 (Nat.le_of_ble_eq_true rfl) rfl ?_
          refine jj_aload hk (pc := 65) dX0_write_65 0 rfl ?_
          refine jc_ranswer hk hH hK (pc := 67) dX0_write_67 ?_
          exact jc_retUi hk (pc := 70) dX0_write_70
        exact absurd (show (none : Option (Int32 × SS)) = some r' from (if_neg c1).symm.trans (hz)) (fun h => by cases h)
      refine jj_aloado hk (pc := 54) (x := σ.2.2.1 (7 + i2)) dX0_write_54 0 rfl ?_
      refine jj_iload_n hk (pc := 56) dX0_write_56 3 rfl rfl ?_
      refine jj_iload_n hk (pc := 57) dX0_write_57 4 rfl rfl ?_
      refine kyh_X0_0_set hk hH hK (pc := 58) (a0 := (σ.2.2.1 (7 + i2))) (a1 := a1) (a2 := a2) (Hh := fun y => none) (fun r h => cc_f0_set l hlt hH r6.1 r6.2 (σ.2.2.1 (7 + i2)) a1 a2 r h) dX0_write_58 ⟨Nat.le_of_ble_eq_true rfl, Nat.le_of_ble_eq_true rfl⟩ (Nat.le_of_ble_eq_true rfl) (fun y r' hz => ?_) (fun r7 => ?_)
      · skip
        exact absurd (show (none : Option (Int32 × SS)) = some r' from hz) (fun h => by cases h)
      refine jj_iconst hk (pc := 61) (v := (1 : Int32)) dX0_write_61 (by decide) ?_
      exact jy_retUs hk (pc := 62) dX0_write_62
    · refine jj_iconst hk (pc := 26) (v := (1 : Int32)) dX0_write_26 (by decide) ?_
      refine jj_goto hk (pc := 27) 31 dX0_write_27 (by decide) ?_
      refine jj_bipush hk (pc := 31) (v := (-11 : Int32)) dX0_write_31 (by decide) ?_
      refine kyh_X0_0_must hk hH hK (pc := 33) (a0 := true) (a1 := (-11 : Int32)) (Hh := fun y => (if y.1 = 1 then some (y.2.1.1 71, y.2.1) else none)) (fun r h => cc_y0_must l hlt hH σ d true (-11 : Int32) r h) dX0_write_33 ⟨Nat.le_of_ble_eq_true rfl, Nat.le_of_ble_eq_true rfl⟩ (Nat.le_of_ble_eq_true rfl) (fun y r' hz => ?_) (fun r8 => ?_)
      · skip
        by_cases c1 : y.1 = 1
        · have h9 : (some (y.2.1.1 71, y.2.1)) = some r' := (if_pos c1).symm.trans (hz)
          refine ⟨63, by rw [c1]; exact ⟨[], (⟨9, 62, 63, 8⟩ : ExceptionTableEntry), [], "LeftUndoes$Refusal", by rw [htb]; rfl, (fun z hz => by exact nomatch hz), by decide, by decide, q161, (List.mem_of_getElem? (i := 0) rfl), rfl⟩, fun R s q d' hq hk hK => ?_⟩
          refine jj_eq (Z' := (some (y.2.1.1 71, y.2.1)) = some r') (fun _ => h9) ?_
          have hqe : q = ha G 1 := by rw [hq (by rw [c1]; decide), c1]
          subst hqe
          refine jj_astore hk (pc := 63) [(4, .ref (ha G 1)), (0, .ref (ha G 0)), (1, .int a0), (2, .int a1), (3, .int a2)] dX0_write_63 (Nat.le_of_ble_eq_true rfl) rfl ?_
          refine jj_aload hk (pc := 65) dX0_write_65 0 rfl ?_
          refine jc_ranswer hk hH hK (pc := 67) dX0_write_67 ?_
          exact jc_retUi hk (pc := 70) dX0_write_70
        exact absurd (show (none : Option (Int32 × SS)) = some r' from (if_neg c1).symm.trans (hz)) (fun h => by cases h)
      refine jj_aload_n hk (pc := 36) dX0_write_36 1 rfl rfl ?_
      refine jj_iload_n hk (pc := 37) dX0_write_37 3 rfl rfl ?_
      refine jj_iconst hk (pc := 38) (v := (0 : Int32)) dX0_write_38 (by decide) ?_
      refine jj_aloado hk (pc := 39) (x := σ.2.2.1 (7 + i2)) dX0_write_39 0 rfl ?_
      refine kyh_X0_0_length hk hH hK (pc := 41) (a0 := (σ.2.2.1 (7 + i2))) (Hh := fun y => none) (fun r h => cc_f0_length l hlt hH r8.1 r8.2 (σ.2.2.1 (7 + i2)) r h) dX0_write_41 ⟨Nat.le_of_ble_eq_true rfl, Nat.le_of_ble_eq_true rfl⟩ (Nat.le_of_ble_eq_true rfl) (fun y r' hz => ?_) (fun r9 => ?_)
      · skip
        exact absurd (show (none : Option (Int32 × SS)) = some r' from hz) (fun h => by cases h)
      refine jj_iconst hk (pc := 44) (v := (1 : Int32)) dX0_write_44 (by decide) ?_
      refine jj_isub hk (pc := 45) dX0_write_45 ?_
      refine kc_X0_0_isIn hk hH hK (pc := 46) (a0 := a1) (a1 := (0 : Int32)) (a2 := (r9.1 - (1 : Int32))) (fun r h => cc_f0_isIn l hH r9.2.2 r9.2.1 a1 (0 : Int32) (r9.1 - (1 : Int32)) r h) dX0_write_46 ⟨Nat.le_of_ble_eq_true rfl, Nat.le_of_ble_eq_true rfl⟩ (Nat.le_of_ble_eq_true rfl) (fun r10 => ?_)
      refine jj_bipush hk (pc := 49) (v := (-12 : Int32)) dX0_write_49 (by decide) ?_
      refine kyh_X0_0_must hk hH hK (pc := 51) (a0 := r10) (a1 := (-12 : Int32)) (Hh := fun y => (if y.1 = 1 then some (y.2.1.1 71, y.2.1) else none)) (fun r h => cc_y0_must l hlt hH r9.2.1 r9.2.2 r10 (-12 : Int32) r h) dX0_write_51 ⟨Nat.le_of_ble_eq_true rfl, Nat.le_of_ble_eq_true rfl⟩ (Nat.le_of_ble_eq_true rfl) (fun y r' hz => ?_) (fun r11 => ?_)
      · skip
        by_cases c1 : y.1 = 1
        · have h9 : (some (y.2.1.1 71, y.2.1)) = some r' := (if_pos c1).symm.trans (hz)
          refine ⟨63, by rw [c1]; exact ⟨[], (⟨9, 62, 63, 8⟩ : ExceptionTableEntry), [], "LeftUndoes$Refusal", by rw [htb]; rfl, (fun z hz => by exact nomatch hz), by decide, by decide, q161, (List.mem_of_getElem? (i := 0) rfl), rfl⟩, fun R s q d' hq hk hK => ?_⟩
          refine jj_eq (Z' := (some (y.2.1.1 71, y.2.1)) = some r') (fun _ => h9) ?_
          have hqe : q = ha G 1 := by rw [hq (by rw [c1]; decide), c1]
          subst hqe
          refine jj_astore hk (pc := 63) [(4, .ref (ha G 1)), (0, .ref (ha G 0)), (1, .int a0), (2, .int a1), (3, .int a2)] dX0_write_63 (Nat.le_of_ble_eq_true rfl) rfl ?_
          refine jj_aload hk (pc := 65) dX0_write_65 0 rfl ?_
          refine jc_ranswer hk hH hK (pc := 67) dX0_write_67 ?_
          exact jc_retUi hk (pc := 70) dX0_write_70
        exact absurd (show (none : Option (Int32 × SS)) = some r' from (if_neg c1).symm.trans (hz)) (fun h => by cases h)
      refine jj_aloado hk (pc := 54) (x := σ.2.2.1 (7 + i2)) dX0_write_54 0 rfl ?_
      refine jj_iload_n hk (pc := 56) dX0_write_56 3 rfl rfl ?_
      refine jj_iload_n hk (pc := 57) dX0_write_57 4 rfl rfl ?_
      refine kyh_X0_0_set hk hH hK (pc := 58) (a0 := (σ.2.2.1 (7 + i2))) (a1 := a1) (a2 := a2) (Hh := fun y => none) (fun r h => cc_f0_set l hlt hH r11.1 r11.2 (σ.2.2.1 (7 + i2)) a1 a2 r h) dX0_write_58 ⟨Nat.le_of_ble_eq_true rfl, Nat.le_of_ble_eq_true rfl⟩ (Nat.le_of_ble_eq_true rfl) (fun y r' hz => ?_) (fun r12 => ?_)
      · skip
        exact absurd (show (none : Option (Int32 × SS)) = some r' from hz) (fun h => by cases h)
      refine jj_iconst hk (pc := 61) (v := (1 : Int32)) dX0_write_61 (by decide) ?_
      exact jy_retUs hk (pc := 62) dX0_write_62
  · refine jj_iconst hk (pc := 7) (v := (-1 : Int32)) dX0_write_7 (by decide) ?_
    exact jy_retUs hk (pc := 8) dX0_write_8
end
section
variable {p : Program} {l : Launch} {e : Env} {R : Room} {s : State} {m : MethodId} {args : Array Value} {below : List Frame} {meth : Method} {c : Code}
variable {G : cG} {KK : State → Prop}
set_option maxHeartbeats 4000000 in
theorem cc_f0_item (l : Launch) (hlt : l.stackTraces = false) {G : cG} {KK : State → Prop} (hH : cH G KK)  (σ : SS) (d : DS) (a0 : Int32) (a1 : Int32) (a2 : Int32) (res : (Int32 × SS × DS)) (hf : f0_item σ d a0 a1 a2 = some res) : jM l yX0_item (wsW_ yX0_item cX0_item 5 (some .int) eX0_item) 11 10445 [.ref (ha G 0), .int a0, .int a1, .int a2] (aWo G) anx KK (σ, d) (jUs res) (hA G) (res.2.2.2 + 25) := by
  refine jj_startH [(0, .ref (ha G 0)), (1, .int a0), (2, .int a1), (3, .int a2)] (by decide) (Nat.le_of_ble_eq_true rfl) rfl (fun p e R s m args below meth c hk hK htb => ?_) hf
  have hk : jk p R s m args meth c (res.2.2.2 + 25) cX0_item 5 RX0 11 10445 (some .int) := hk
  refine ja_in ?_
  unfold f0_item
  refine jj_iload_n hk (pc := 0) dX0_item_0 1 rfl rfl ?_
  refine kc_X0_0_isShelf hk hH hK (pc := 1) (a0 := a0) (fun r h => cc_f0_isShelf l hH d σ a0 r h) dX0_item_1 ⟨Nat.le_of_ble_eq_true rfl, Nat.le_of_ble_eq_true rfl⟩ (Nat.le_of_ble_eq_true rfl) (fun r1 => ?_)
  refine jj_if_eq_b hk (pc := 4) 16 dX0_item_4 (by decide) ?_ ?_
  · refine jj_iconst hk (pc := 16) (v := (-1 : Int32)) dX0_item_16 (by decide) ?_
    exact jy_retUs hk (pc := 17) dX0_item_17
  · refine jj_iload_n hk (pc := 7) dX0_item_7 2 rfl rfl ?_
    refine jj_iconst hk (pc := 8) (v := (0 : Int32)) dX0_item_8 (by decide) ?_
    refine jj_iconst hk (pc := 9) (v := (4 : Int32)) dX0_item_9 (by decide) ?_
    refine kc_X0_0_isIn hk hH hK (pc := 10) (a0 := a1) (a1 := (0 : Int32)) (a2 := (4 : Int32)) (fun r h => cc_f0_isIn l hH d σ a1 (0 : Int32) (4 : Int32) r h) dX0_item_10 ⟨Nat.le_of_ble_eq_true rfl, Nat.le_of_ble_eq_true rfl⟩ (Nat.le_of_ble_eq_true rfl) (fun r2 => ?_)
    refine jj_if_ne_b hk (pc := 13) 18 dX0_item_13 (by decide) ?_ ?_
    · refine jj_aload_n hk (pc := 18) dX0_item_18 0 rfl rfl ?_
      refine jj_aload_n hk (pc := 19) dX0_item_19 0 rfl rfl ?_
      refine jc_g_sheets hk hH hK (pc := 20) dX0_item_20 ?_
      refine jj_iload_n hk (pc := 23) dX0_item_23 1 rfl rfl ?_
      refine jc_aldS11 hk hH hK (pc := 24) dX0_item_24 (fun i3 hi3 => ?_)
      refine jc_held11 (i := i3) (hi := hi3) hk hH hK (pc := 25) dX0_item_25 ?_
      refine jj_iload_n hk (pc := 28) dX0_item_28 2 rfl rfl ?_
      refine jj_iload_n hk (pc := 29) dX0_item_29 3 rfl rfl ?_
      refine kyh_X0_0_itemOf hk hH hK (pc := 30) (a0 := (σ.2.2.1 (7 + i3))) (a1 := a1) (a2 := a2) (Hh := fun y => (if y.1 = 4 then some ((-13 : Int32), y.2.1) else (if y.1 = 5 then some ((-11 : Int32), y.2.1) else (if y.1 = 1 then some (y.2.1.1 71, y.2.1) else none)))) (fun r h => cc_f0_itemOf l hlt hH σ d (σ.2.2.1 (7 + i3)) a1 a2 r h) dX0_item_30 ⟨Nat.le_of_ble_eq_true rfl, Nat.le_of_ble_eq_true rfl⟩ (Nat.le_of_ble_eq_true rfl) (fun y r' hz => ?_) (fun r4 => ?_)
      · skip
        by_cases c4 : y.1 = 4
        · have h9 : (some ((-13 : Int32), y.2.1)) = some r' := (if_pos c4).symm.trans (hz)
          refine ⟨34, by rw [c4]; exact ⟨[], (⟨18, 33, 34, 559⟩ : ExceptionTableEntry), [⟨18, 33, 39, 561⟩, ⟨18, 33, 44, 8⟩], "java/lang/ClassCastException", by rw [htb]; rfl, (fun z hz => by exact nomatch hz), by decide, by decide, q1255, (List.mem_of_getElem? (i := 25) rfl), rfl⟩, fun R s q d' hq hk hK => ?_⟩
          refine jj_eq (Z' := (some ((-13 : Int32), y.2.1)) = some r') (fun _ => h9) ?_
          refine jj_astore hk (pc := 34) [(4, .ref q), (0, .ref (ha G 0)), (1, .int a0), (2, .int a1), (3, .int a2)] dX0_item_34 (Nat.le_of_ble_eq_true rfl) rfl ?_
          refine jj_bipush hk (pc := 36) (v := (-13 : Int32)) dX0_item_36 (by decide) ?_
          exact jc_retUi hk (pc := 38) dX0_item_38
        by_cases c5 : y.1 = 5
        · have h9 : (some ((-11 : Int32), y.2.1)) = some r' := (if_pos c5).symm.trans ((if_neg c4).symm.trans (hz))
          refine ⟨39, by rw [c5]; exact ⟨[⟨18, 33, 34, 559⟩], (⟨18, 33, 39, 561⟩ : ExceptionTableEntry), [⟨18, 33, 44, 8⟩], "java/lang/NullPointerException", by rw [htb]; rfl, (fun z hz => by rw [List.mem_singleton.mp hz]; exact Or.inr ⟨by decide, "java/lang/ClassCastException", hk.1.2.2.2.2 _ q1255, (hH.2.2.2.2.2 s hK).2.2.1 ("java/lang/NullPointerException", "java/lang/ClassCastException") (by decide)⟩), by decide, by decide, q1269, (List.mem_of_getElem? (i := 26) rfl), rfl⟩, fun R s q d' hq hk hK => ?_⟩
          refine jj_eq (Z' := (some ((-11 : Int32), y.2.1)) = some r') (fun _ => h9) ?_
          refine jj_astore hk (pc := 39) [(4, .ref q), (0, .ref (ha G 0)), (1, .int a0), (2, .int a1), (3, .int a2)] dX0_item_39 (Nat.le_of_ble_eq_true rfl) rfl ?_
          refine jj_bipush hk (pc := 41) (v := (-11 : Int32)) dX0_item_41 (by decide) ?_
          exact jc_retUi hk (pc := 43) dX0_item_43
        by_cases c1 : y.1 = 1
        · have h9 : (some (y.2.1.1 71, y.2.1)) = some r' := (if_pos c1).symm.trans ((if_neg c5).symm.trans ((if_neg c4).symm.trans (hz)))
          refine ⟨44, by rw [c1]; exact ⟨[⟨18, 33, 34, 559⟩, ⟨18, 33, 39, 561⟩], (⟨18, 33, 44, 8⟩ : ExceptionTableEntry), [], "LeftUndoes$Refusal", by rw [htb]; rfl, (fun z hz => by rcases List.mem_cons.mp hz with e | hz; (rw [e]; exact Or.inr ⟨by decide, "java/lang/ClassCastException", hk.1.2.2.2.2 _ q1255, (hH.2.2.2.2.2 s hK).2.2.1 ("LeftUndoes$Refusal", "java/lang/ClassCastException") (by decide)⟩); (rw [List.mem_singleton.mp hz]; exact Or.inr ⟨by decide, "java/lang/NullPointerException", hk.1.2.2.2.2 _ q1269, (hH.2.2.2.2.2 s hK).2.2.1 ("LeftUndoes$Refusal", "java/lang/NullPointerException") (by decide)⟩)), by decide, by decide, q161, (List.mem_of_getElem? (i := 0) rfl), rfl⟩, fun R s q d' hq hk hK => ?_⟩
          refine jj_eq (Z' := (some (y.2.1.1 71, y.2.1)) = some r') (fun _ => h9) ?_
          have hqe : q = ha G 1 := by rw [hq (by rw [c1]; decide), c1]
          subst hqe
          refine jj_astore hk (pc := 44) [(4, .ref (ha G 1)), (0, .ref (ha G 0)), (1, .int a0), (2, .int a1), (3, .int a2)] dX0_item_44 (Nat.le_of_ble_eq_true rfl) rfl ?_
          refine jj_aload hk (pc := 46) dX0_item_46 0 rfl ?_
          refine jc_ranswer hk hH hK (pc := 48) dX0_item_48 ?_
          exact jc_retUi hk (pc := 51) dX0_item_51
        exact absurd (show (none : Option (Int32 × SS)) = some r' from (if_neg c1).symm.trans ((if_neg c5).symm.trans ((if_neg c4).symm.trans (hz)))) (fun h => by cases h)
      exact jy_retUs hk (pc := 33) dX0_item_33
    · refine jj_iconst hk (pc := 16) (v := (-1 : Int32)) dX0_item_16 (by decide) ?_
      exact jy_retUs hk (pc := 17) dX0_item_17
end
section
variable {p : Program} {l : Launch} {e : Env} {R : Room} {s : State} {m : MethodId} {args : Array Value} {below : List Frame} {meth : Method} {c : Code}
variable {G : cG} {KK : State → Prop}
set_option maxHeartbeats 4000000 in
theorem wb_f0_goAll_B71 {res : (Int32 × SS × DS)} (hk : jk p R s m args meth c (res.2.2.2 + 25) cX0_goAll 9 RX0 486 12155 (some .int)) (hH : cH G KK) (hK : KK s) (htb : c.exceptionTable.toList = tableOf eX0_goAll) (hlt : l.stackTraces = false) (N : Nat) {k44 : SS → DS → Int32 → Int32 → Option Nat → Int32 → Int32 → Int32 → Option (Int32 × SS × DS)} (hk44 : ∀ (σ : SS) (d : DS) (x2 : Int32) (x3 : Int32) (x4 : Option Nat) (x5 : Int32) (x6 : Int32) (x7 : Int32), jj p l e R s m args below meth c (hA G) (res.2.2.2 + 25) (jZ below args s (hA G) (res.2.2.2 + 25) (jUs res) (aWo G) anx) (cWo G d) (cnx d) 9 σ 44 [(0, .ref (ha G 0)), (2, .int x2), (3, .int x3), (4, va_rf x4), (5, .int x5), (6, .int x6), (7, .int x7)] [] (k44 σ d x2 x3 x4 x5 x6 x7 = some res)) (σ : SS) (d : DS) (x2 : Int32) (x3 : Int32) (x4 : Option Nat) (x5 : Int32) (x6 : Int32) (x7 : Int32) (y0 : Bool) : jj p l e R s m args below meth c (hA G) (res.2.2.2 + 25) (jZ below args s (hA G) (res.2.2.2 + 25) (jUs res) (aWo G) anx) (cWo G d) (cnx d) 9 σ 71 [(0, .ref (ha G 0)), (2, .int x2), (3, .int x3), (4, va_rf x4), (5, .int x5), (6, .int x6), (7, .int x7)] [.int (bI y0), .ref (ha G 0)] (f0_goAll_B71 N k44 σ d x2 x3 x4 x5 x6 x7 y0 = some res) := by
  unfold f0_goAll_B71
  refine jj_bipush hk (pc := 71) (v := (-12 : Int32)) dX0_goAll_71 (by decide) ?_
  refine kyh_X0_0_must hk hH hK (pc := 73) (a0 := y0) (a1 := (-12 : Int32)) (Hh := fun y => (if y.1 = 1 then some (y.2.1.1 71, y.2.1) else none)) (fun r h => cc_y0_must l hlt hH σ d y0 (-12 : Int32) r h) dX0_goAll_73 ⟨Nat.le_of_ble_eq_true rfl, Nat.le_of_ble_eq_true rfl⟩ (Nat.le_of_ble_eq_true rfl) (fun y r' hz => ?_) (fun r1 => ?_)
  · skip
    by_cases c1 : y.1 = 1
    · have h9 : (some (y.2.1.1 71, y.2.1)) = some r' := (if_pos c1).symm.trans (hz)
      refine ⟨143, by rw [c1]; exact ⟨[⟨19, 132, 133, 559⟩, ⟨19, 132, 138, 561⟩], (⟨19, 132, 143, 8⟩ : ExceptionTableEntry), [], "LeftUndoes$Refusal", by rw [htb]; rfl, (fun z hz => by rcases List.mem_cons.mp hz with e | hz; (rw [e]; exact Or.inr ⟨by decide, "java/lang/ClassCastException", hk.1.2.2.2.2 _ q1255, (hH.2.2.2.2.2 s hK).2.2.1 ("LeftUndoes$Refusal", "java/lang/ClassCastException") (by decide)⟩); (rw [List.mem_singleton.mp hz]; exact Or.inr ⟨by decide, "java/lang/NullPointerException", hk.1.2.2.2.2 _ q1269, (hH.2.2.2.2.2 s hK).2.2.1 ("LeftUndoes$Refusal", "java/lang/NullPointerException") (by decide)⟩)), by decide, by decide, q161, (List.mem_of_getElem? (i := 0) rfl), rfl⟩, fun R s q d' hq hk hK => ?_⟩
      refine jj_eq (Z' := (some (y.2.1.1 71, y.2.1)) = some r') (fun _ => h9) ?_
      have hqe : q = ha G 1 := by rw [hq (by rw [c1]; decide), c1]
      subst hqe
      refine jj_astore hk (pc := 143) [(4, .ref (ha G 1)), (0, .ref (ha G 0)), (2, .int x2), (3, .int x3), (5, .int x5), (6, .int x6), (7, .int x7)] dX0_goAll_143 (Nat.le_of_ble_eq_true rfl) rfl ?_
      refine jj_aload hk (pc := 145) dX0_goAll_145 0 rfl ?_
      refine jc_ranswer hk hH hK (pc := 147) dX0_goAll_147 ?_
      exact jc_retUi hk (pc := 150) dX0_goAll_150
    exact absurd (show (none : Option (Int32 × SS)) = some r' from (if_neg c1).symm.trans (hz)) (fun h => by cases h)
  refine jj_aload_n hk (pc := 76) dX0_goAll_76 0 rfl rfl ?_
  refine jj_aloado hk (pc := 77) (x := x4) dX0_goAll_77 3 rfl ?_
  refine jj_iconst hk (pc := 79) (v := (0 : Int32)) dX0_goAll_79 (by decide) ?_
  refine jj_iload_n hk (pc := 80) dX0_goAll_80 1 rfl rfl ?_
  refine jj_iload hk (pc := 81) dX0_goAll_81 6 rfl ?_
  refine jj_iadd hk (pc := 83) dX0_goAll_83 ?_
  refine kyh_X0_0_itemOf hk hH hK (pc := 84) (a0 := x4) (a1 := (0 : Int32)) (a2 := (x2 + x7)) (Hh := fun y => (if y.1 = 4 then some ((-13 : Int32), y.2.1) else (if y.1 = 5 then some ((-11 : Int32), y.2.1) else (if y.1 = 1 then some (y.2.1.1 71, y.2.1) else none)))) (fun r h => cc_f0_itemOf l hlt hH r1.1 r1.2 x4 (0 : Int32) (x2 + x7) r h) dX0_goAll_84 ⟨Nat.le_of_ble_eq_true rfl, Nat.le_of_ble_eq_true rfl⟩ (Nat.le_of_ble_eq_true rfl) (fun y r' hz => ?_) (fun r2 => ?_)
  · skip
    by_cases c4 : y.1 = 4
    · have h9 : (some ((-13 : Int32), y.2.1)) = some r' := (if_pos c4).symm.trans (hz)
      refine ⟨133, by rw [c4]; exact ⟨[], (⟨19, 132, 133, 559⟩ : ExceptionTableEntry), [⟨19, 132, 138, 561⟩, ⟨19, 132, 143, 8⟩], "java/lang/ClassCastException", by rw [htb]; rfl, (fun z hz => by exact nomatch hz), by decide, by decide, q1255, (List.mem_of_getElem? (i := 25) rfl), rfl⟩, fun R s q d' hq hk hK => ?_⟩
      refine jj_eq (Z' := (some ((-13 : Int32), y.2.1)) = some r') (fun _ => h9) ?_
      refine jj_astore hk (pc := 133) [(4, .ref q), (0, .ref (ha G 0)), (2, .int x2), (3, .int x3), (5, .int x5), (6, .int x6), (7, .int x7)] dX0_goAll_133 (Nat.le_of_ble_eq_true rfl) rfl ?_
      refine jj_bipush hk (pc := 135) (v := (-13 : Int32)) dX0_goAll_135 (by decide) ?_
      exact jc_retUi hk (pc := 137) dX0_goAll_137
    by_cases c5 : y.1 = 5
    · have h9 : (some ((-11 : Int32), y.2.1)) = some r' := (if_pos c5).symm.trans ((if_neg c4).symm.trans (hz))
      refine ⟨138, by rw [c5]; exact ⟨[⟨19, 132, 133, 559⟩], (⟨19, 132, 138, 561⟩ : ExceptionTableEntry), [⟨19, 132, 143, 8⟩], "java/lang/NullPointerException", by rw [htb]; rfl, (fun z hz => by rw [List.mem_singleton.mp hz]; exact Or.inr ⟨by decide, "java/lang/ClassCastException", hk.1.2.2.2.2 _ q1255, (hH.2.2.2.2.2 s hK).2.2.1 ("java/lang/NullPointerException", "java/lang/ClassCastException") (by decide)⟩), by decide, by decide, q1269, (List.mem_of_getElem? (i := 26) rfl), rfl⟩, fun R s q d' hq hk hK => ?_⟩
      refine jj_eq (Z' := (some ((-11 : Int32), y.2.1)) = some r') (fun _ => h9) ?_
      refine jj_astore hk (pc := 138) [(4, .ref q), (0, .ref (ha G 0)), (2, .int x2), (3, .int x3), (5, .int x5), (6, .int x6), (7, .int x7)] dX0_goAll_138 (Nat.le_of_ble_eq_true rfl) rfl ?_
      refine jj_bipush hk (pc := 140) (v := (-11 : Int32)) dX0_goAll_140 (by decide) ?_
      exact jc_retUi hk (pc := 142) dX0_goAll_142
    by_cases c1 : y.1 = 1
    · have h9 : (some (y.2.1.1 71, y.2.1)) = some r' := (if_pos c1).symm.trans ((if_neg c5).symm.trans ((if_neg c4).symm.trans (hz)))
      refine ⟨143, by rw [c1]; exact ⟨[⟨19, 132, 133, 559⟩, ⟨19, 132, 138, 561⟩], (⟨19, 132, 143, 8⟩ : ExceptionTableEntry), [], "LeftUndoes$Refusal", by rw [htb]; rfl, (fun z hz => by rcases List.mem_cons.mp hz with e | hz; (rw [e]; exact Or.inr ⟨by decide, "java/lang/ClassCastException", hk.1.2.2.2.2 _ q1255, (hH.2.2.2.2.2 s hK).2.2.1 ("LeftUndoes$Refusal", "java/lang/ClassCastException") (by decide)⟩); (rw [List.mem_singleton.mp hz]; exact Or.inr ⟨by decide, "java/lang/NullPointerException", hk.1.2.2.2.2 _ q1269, (hH.2.2.2.2.2 s hK).2.2.1 ("LeftUndoes$Refusal", "java/lang/NullPointerException") (by decide)⟩)), by decide, by decide, q161, (List.mem_of_getElem? (i := 0) rfl), rfl⟩, fun R s q d' hq hk hK => ?_⟩
      refine jj_eq (Z' := (some (y.2.1.1 71, y.2.1)) = some r') (fun _ => h9) ?_
      have hqe : q = ha G 1 := by rw [hq (by rw [c1]; decide), c1]
      subst hqe
      refine jj_astore hk (pc := 143) [(4, .ref (ha G 1)), (0, .ref (ha G 0)), (2, .int x2), (3, .int x3), (5, .int x5), (6, .int x6), (7, .int x7)] dX0_goAll_143 (Nat.le_of_ble_eq_true rfl) rfl ?_
      refine jj_aload hk (pc := 145) dX0_goAll_145 0 rfl ?_
      refine jc_ranswer hk hH hK (pc := 147) dX0_goAll_147 ?_
      exact jc_retUi hk (pc := 150) dX0_goAll_150
    exact absurd (show (none : Option (Int32 × SS)) = some r' from (if_neg c1).symm.trans ((if_neg c5).symm.trans ((if_neg c4).symm.trans (hz)))) (fun h => by cases h)
  refine jj_istore hk (pc := 87) [(8, .int r2.1), (0, .ref (ha G 0)), (2, .int x2), (3, .int x3), (4, va_rf x4), (5, .int x5), (6, .int x6), (7, .int x7)] dX0_goAll_87 (Nat.le_of_ble_eq_true rfl) rfl ?_
  refine jj_aload_n hk (pc := 89) dX0_goAll_89 1 rfl rfl ?_
  refine jj_iload hk (pc := 90) dX0_goAll_90 0 rfl ?_
  refine kc_X0_0_isAct hk hH hK (pc := 92) (a0 := r2.1) (fun r h => cc_f0_isAct l hH r2.2.2 r2.2.1 r2.1 r h) dX0_goAll_92 ⟨Nat.le_of_ble_eq_true rfl, Nat.le_of_ble_eq_true rfl⟩ (Nat.le_of_ble_eq_true rfl) (fun r3 => ?_)
  refine jj_if_eq_b hk (pc := 95) 124 dX0_goAll_95 (by decide) ?_ ?_
  · refine jj_iinc hk (pc := 124) [(7, .int (x7 + 1)), (8, .int r2.1), (0, .ref (ha G 0)), (2, .int x2), (3, .int x3), (4, va_rf x4), (5, .int x5), (6, .int x6)] dX0_goAll_124 7 rfl rfl (Nat.le_of_ble_eq_true rfl) rfl ?_
    refine jj_goto hk (pc := 127) 44 dX0_goAll_127 (by decide) ?_
    refine jj_loc [(0, .ref (ha G 0)), (2, .int x2), (3, .int x3), (4, va_rf x4), (5, .int x5), (6, .int x6), (7, .int (x7 + 1))] [2, 3, 4, 5, 6, 7, 0] rfl ?_
    exact hk44 r2.2.1 r2.2.2 x2 x3 x4 x5 x6 (x7 + 1)
  · refine jj_aload_n hk (pc := 98) dX0_goAll_98 1 rfl rfl ?_
    refine jc_g_now hk hH hK (pc := 99) dX0_goAll_99 ?_
    refine kc_X0_3_isOver hk hH hK (pc := 102) (t0 := 0) (fun r h => cc_f3_isOver l hH r2.2.2 r2.2.1 0 (by decide) r h) (by decide) dX0_goAll_102 ⟨Nat.le_of_ble_eq_true rfl, Nat.le_of_ble_eq_true rfl⟩ (Nat.le_of_ble_eq_true rfl) (fun r4 => ?_)
    refine jj_if_eq_b hk (pc := 105) 111 dX0_goAll_105 (by decide) ?_ ?_
    · refine jj_iload hk (pc := 111) dX0_goAll_111 6 rfl ?_
      refine jj_aload_n hk (pc := 113) dX0_goAll_113 1 rfl rfl ?_
      refine jj_iload hk (pc := 114) dX0_goAll_114 0 rfl ?_
      refine jj_iconst hk (pc := 116) (v := (1 : Int32)) dX0_goAll_116 (by decide) ?_
      refine jj_isub hk (pc := 117) dX0_goAll_117 ?_
      refine kc_X0_0_goes hk hH hK (pc := 118) (a0 := (r2.1 - (1 : Int32))) (fun r h => cc_f0_goes l hH r2.2.2 N r2.2.1 (r2.1 - (1 : Int32)) r h) dX0_goAll_118 ⟨Nat.le_of_ble_eq_true rfl, Nat.le_of_ble_eq_true rfl⟩ (Nat.le_of_ble_eq_true rfl) (fun r5 => ?_)
      refine jj_iadd hk (pc := 121) dX0_goAll_121 ?_
      refine jj_istore hk (pc := 122) [(6, .int (x6 + r5.1)), (8, .int r2.1), (0, .ref (ha G 0)), (2, .int x2), (3, .int x3), (4, va_rf x4), (5, .int x5), (7, .int x7)] dX0_goAll_122 (Nat.le_of_ble_eq_true rfl) rfl ?_
      refine jj_iinc hk (pc := 124) [(7, .int (x7 + 1)), (6, .int (x6 + r5.1)), (8, .int r2.1), (0, .ref (ha G 0)), (2, .int x2), (3, .int x3), (4, va_rf x4), (5, .int x5)] dX0_goAll_124 7 rfl rfl (Nat.le_of_ble_eq_true rfl) rfl ?_
      refine jj_goto hk (pc := 127) 44 dX0_goAll_127 (by decide) ?_
      refine jj_loc [(0, .ref (ha G 0)), (2, .int x2), (3, .int x3), (4, va_rf x4), (5, .int x5), (6, .int (x6 + r5.1)), (7, .int (x7 + 1))] [3, 4, 5, 6, 7, 1, 0] rfl ?_
      exact hk44 r5.2 r2.2.2 x2 x3 x4 x5 (x6 + r5.1) (x7 + 1)
    · refine jj_goto hk (pc := 108) 124 dX0_goAll_108 (by decide) ?_
      refine jj_iinc hk (pc := 124) [(7, .int (x7 + 1)), (8, .int r2.1), (0, .ref (ha G 0)), (2, .int x2), (3, .int x3), (4, va_rf x4), (5, .int x5), (6, .int x6)] dX0_goAll_124 7 rfl rfl (Nat.le_of_ble_eq_true rfl) rfl ?_
      refine jj_goto hk (pc := 127) 44 dX0_goAll_127 (by decide) ?_
      refine jj_loc [(0, .ref (ha G 0)), (2, .int x2), (3, .int x3), (4, va_rf x4), (5, .int x5), (6, .int x6), (7, .int (x7 + 1))] [2, 3, 4, 5, 6, 7, 0] rfl ?_
      exact hk44 r2.2.1 r2.2.2 x2 x3 x4 x5 x6 (x7 + 1)
set_option maxHeartbeats 4000000 in
theorem wb_f0_goAll_L44 {res : (Int32 × SS × DS)} (hk : jk p R s m args meth c (res.2.2.2 + 25) cX0_goAll 9 RX0 486 12155 (some .int)) (hH : cH G KK) (hK : KK s) (htb : c.exceptionTable.toList = tableOf eX0_goAll) (hlt : l.stackTraces = false) (N : Nat) : ∀ (n : Nat) (σ : SS) (d : DS) (x2 : Int32) (x3 : Int32) (x4 : Option Nat) (x5 : Int32) (x6 : Int32) (x7 : Int32), jj p l e R s m args below meth c (hA G) (res.2.2.2 + 25) (jZ below args s (hA G) (res.2.2.2 + 25) (jUs res) (aWo G) anx) (cWo G d) (cnx d) 9 σ 44 [(0, .ref (ha G 0)), (2, .int x2), (3, .int x3), (4, va_rf x4), (5, .int x5), (6, .int x6), (7, .int x7)] [] (f0_goAll_L44 N n σ d x2 x3 x4 x5 x6 x7 = some res) := by
  intro n
  induction n with
  | zero => intro σ d x2 x3 x4 x5 x6 x7; exact jj_eq (fun hz => by rw [f0_goAll_L44] at hz; exact hz) jj_no
  | succ n ih =>
    intro σ d x2 x3 x4 x5 x6 x7
    rw [f0_goAll_L44]
    refine jj_iload hk (pc := 44) dX0_goAll_44 6 rfl ?_
    refine jj_iload_n hk (pc := 46) dX0_goAll_46 2 rfl rfl ?_
    refine jj_icmp_ge hk (pc := 47) 130 dX0_goAll_47 (by decide) ?_ ?_
    · refine jj_iload hk (pc := 130) dX0_goAll_130 5 rfl ?_
      exact jy_retUs hk (pc := 132) dX0_goAll_132
    · refine jj_aload_n hk (pc := 50) dX0_goAll_50 0 rfl rfl ?_
      refine jj_iload_n hk (pc := 51) dX0_goAll_51 1 rfl rfl ?_
      refine jj_if_lt hk (pc := 52) 70 dX0_goAll_52 (by decide) ?_ ?_
      · refine jj_iconst hk (pc := 70) (v := (0 : Int32)) dX0_goAll_70 (by decide) ?_
        refine jj_loc [(0, .ref (ha G 0)), (2, .int x2), (3, .int x3), (4, va_rf x4), (5, .int x5), (6, .int x6), (7, .int x7)] [0, 1, 2, 3, 4, 5, 6] rfl ?_
        exact wb_f0_goAll_B71 hk hH hK htb hlt N ih σ d x2 x3 x4 x5 x6 x7 false
      · refine jj_iload_n hk (pc := 55) dX0_goAll_55 1 rfl rfl ?_
        refine jj_iload hk (pc := 56) dX0_goAll_56 4 rfl ?_
        refine jj_iconst hk (pc := 58) (v := (1 : Int32)) dX0_goAll_58 (by decide) ?_
        refine jj_isub hk (pc := 59) dX0_goAll_59 ?_
        refine jj_iload hk (pc := 60) dX0_goAll_60 6 rfl ?_
        refine jj_isub hk (pc := 62) dX0_goAll_62 ?_
        refine jj_icmp_gt hk (pc := 63) 70 dX0_goAll_63 (by decide) ?_ ?_
        · refine jj_iconst hk (pc := 70) (v := (0 : Int32)) dX0_goAll_70 (by decide) ?_
          refine jj_loc [(0, .ref (ha G 0)), (2, .int x2), (3, .int x3), (4, va_rf x4), (5, .int x5), (6, .int x6), (7, .int x7)] [0, 1, 2, 3, 4, 5, 6] rfl ?_
          exact wb_f0_goAll_B71 hk hH hK htb hlt N ih σ d x2 x3 x4 x5 x6 x7 false
        · refine jj_iconst hk (pc := 66) (v := (1 : Int32)) dX0_goAll_66 (by decide) ?_
          refine jj_goto hk (pc := 67) 71 dX0_goAll_67 (by decide) ?_
          refine jj_loc [(0, .ref (ha G 0)), (2, .int x2), (3, .int x3), (4, va_rf x4), (5, .int x5), (6, .int x6), (7, .int x7)] [0, 1, 2, 3, 4, 5, 6] rfl ?_
          exact wb_f0_goAll_B71 hk hH hK htb hlt N ih σ d x2 x3 x4 x5 x6 x7 true
set_option maxHeartbeats 4000000 in
theorem cc_f0_goAll (l : Launch) (hlt : l.stackTraces = false) {G : cG} {KK : State → Prop} (hH : cH G KK) (N : Nat) (σ : SS) (d : DS) (a0 : Int32) (a1 : Int32) (a2 : Int32) (res : (Int32 × SS × DS)) (hf : f0_goAll N σ d a0 a1 a2 = some res) : jM l yX0_goAll (wsW_ yX0_goAll cX0_goAll 9 (some .int) eX0_goAll) 486 12155 [.ref (ha G 0), .int a0, .int a1, .int a2] (aWo G) anx KK (σ, d) (jUs res) (hA G) (res.2.2.2 + 25) := by
  refine jj_startH [(0, .ref (ha G 0)), (1, .int a0), (2, .int a1), (3, .int a2)] (by decide) (Nat.le_of_ble_eq_true rfl) rfl (fun p e R s m args below meth c hk hK htb => ?_) hf
  have hk : jk p R s m args meth c (res.2.2.2 + 25) cX0_goAll 9 RX0 486 12155 (some .int) := hk
  refine ja_in ?_
  unfold f0_goAll
  refine jj_iload_n hk (pc := 0) dX0_goAll_0 1 rfl rfl ?_
  refine kc_X0_0_isShelf hk hH hK (pc := 1) (a0 := a0) (fun r h => cc_f0_isShelf l hH d σ a0 r h) dX0_goAll_1 ⟨Nat.le_of_ble_eq_true rfl, Nat.le_of_ble_eq_true rfl⟩ (Nat.le_of_ble_eq_true rfl) (fun r1 => ?_)
  refine jj_if_eq_b hk (pc := 4) 17 dX0_goAll_4 (by decide) ?_ ?_
  · refine jj_iconst hk (pc := 17) (v := (-1 : Int32)) dX0_goAll_17 (by decide) ?_
    exact jy_retUs hk (pc := 18) dX0_goAll_18
  · refine jj_iload_n hk (pc := 7) dX0_goAll_7 3 rfl rfl ?_
    refine jj_iconst hk (pc := 8) (v := (0 : Int32)) dX0_goAll_8 (by decide) ?_
    refine jj_bipush hk (pc := 9) (v := (20 : Int32)) dX0_goAll_9 (by decide) ?_
    refine kc_X0_0_isIn hk hH hK (pc := 11) (a0 := a2) (a1 := (0 : Int32)) (a2 := (20 : Int32)) (fun r h => cc_f0_isIn l hH d σ a2 (0 : Int32) (20 : Int32) r h) dX0_goAll_11 ⟨Nat.le_of_ble_eq_true rfl, Nat.le_of_ble_eq_true rfl⟩ (Nat.le_of_ble_eq_true rfl) (fun r2 => ?_)
    refine jj_if_ne_b hk (pc := 14) 19 dX0_goAll_14 (by decide) ?_ ?_
    · refine jj_aload_n hk (pc := 19) dX0_goAll_19 0 rfl rfl ?_
      refine jc_g_sheets hk hH hK (pc := 20) dX0_goAll_20 ?_
      refine jj_iload_n hk (pc := 23) dX0_goAll_23 1 rfl rfl ?_
      refine jc_aldS11 hk hH hK (pc := 24) dX0_goAll_24 (fun i3 hi3 => ?_)
      refine jc_held11 (i := i3) (hi := hi3) hk hH hK (pc := 25) dX0_goAll_25 ?_
      refine jj_astoreo hk (pc := 28) (x := σ.2.2.1 (7 + i3)) [(4, va_rf (σ.2.2.1 (7 + i3))), (0, .ref (ha G 0)), (1, .int a0), (2, .int a1), (3, .int a2)] dX0_goAll_28 (Nat.le_of_ble_eq_true rfl) rfl ?_
      refine jj_aloado hk (pc := 30) (x := σ.2.2.1 (7 + i3)) dX0_goAll_30 0 rfl ?_
      refine jj_iconst hk (pc := 32) (v := (0 : Int32)) dX0_goAll_32 (by decide) ?_
      refine kyh_X0_0_manyOf hk hH hK (pc := 33) (a0 := (σ.2.2.1 (7 + i3))) (a1 := (0 : Int32)) (Hh := fun y => (if y.1 = 4 then some ((-13 : Int32), y.2.1) else (if y.1 = 5 then some ((-11 : Int32), y.2.1) else none))) (fun r h => cc_f0_manyOf l hlt hH σ d (σ.2.2.1 (7 + i3)) (0 : Int32) r h) dX0_goAll_33 ⟨Nat.le_of_ble_eq_true rfl, Nat.le_of_ble_eq_true rfl⟩ (Nat.le_of_ble_eq_true rfl) (fun y r' hz => ?_) (fun r4 => ?_)
      · skip
        by_cases c4 : y.1 = 4
        · have h9 : (some ((-13 : Int32), y.2.1)) = some r' := (if_pos c4).symm.trans (hz)
          refine ⟨133, by rw [c4]; exact ⟨[], (⟨19, 132, 133, 559⟩ : ExceptionTableEntry), [⟨19, 132, 138, 561⟩, ⟨19, 132, 143, 8⟩], "java/lang/ClassCastException", by rw [htb]; rfl, (fun z hz => by exact nomatch hz), by decide, by decide, q1255, (List.mem_of_getElem? (i := 25) rfl), rfl⟩, fun R s q d' hq hk hK => ?_⟩
          refine jj_eq (Z' := (some ((-13 : Int32), y.2.1)) = some r') (fun _ => h9) ?_
          refine jj_astore hk (pc := 133) [(4, .ref q), (0, .ref (ha G 0)), (1, .int a0), (2, .int a1), (3, .int a2)] dX0_goAll_133 (Nat.le_of_ble_eq_true rfl) rfl ?_
          refine jj_bipush hk (pc := 135) (v := (-13 : Int32)) dX0_goAll_135 (by decide) ?_
          exact jc_retUi hk (pc := 137) dX0_goAll_137
        by_cases c5 : y.1 = 5
        · have h9 : (some ((-11 : Int32), y.2.1)) = some r' := (if_pos c5).symm.trans ((if_neg c4).symm.trans (hz))
          refine ⟨138, by rw [c5]; exact ⟨[⟨19, 132, 133, 559⟩], (⟨19, 132, 138, 561⟩ : ExceptionTableEntry), [⟨19, 132, 143, 8⟩], "java/lang/NullPointerException", by rw [htb]; rfl, (fun z hz => by rw [List.mem_singleton.mp hz]; exact Or.inr ⟨by decide, "java/lang/ClassCastException", hk.1.2.2.2.2 _ q1255, (hH.2.2.2.2.2 s hK).2.2.1 ("java/lang/NullPointerException", "java/lang/ClassCastException") (by decide)⟩), by decide, by decide, q1269, (List.mem_of_getElem? (i := 26) rfl), rfl⟩, fun R s q d' hq hk hK => ?_⟩
          refine jj_eq (Z' := (some ((-11 : Int32), y.2.1)) = some r') (fun _ => h9) ?_
          refine jj_astore hk (pc := 138) [(4, .ref q), (0, .ref (ha G 0)), (1, .int a0), (2, .int a1), (3, .int a2)] dX0_goAll_138 (Nat.le_of_ble_eq_true rfl) rfl ?_
          refine jj_bipush hk (pc := 140) (v := (-11 : Int32)) dX0_goAll_140 (by decide) ?_
          exact jc_retUi hk (pc := 142) dX0_goAll_142
        exact absurd (show (none : Option (Int32 × SS)) = some r' from (if_neg c5).symm.trans ((if_neg c4).symm.trans (hz))) (fun h => by cases h)
      refine jj_istore hk (pc := 36) [(5, .int r4.1), (4, va_rf (σ.2.2.1 (7 + i3))), (0, .ref (ha G 0)), (1, .int a0), (2, .int a1), (3, .int a2)] dX0_goAll_36 (Nat.le_of_ble_eq_true rfl) (by cases σ.2.2.1 (7 + i3) <;> rfl) ?_
      refine jj_iconst hk (pc := 38) (v := (0 : Int32)) dX0_goAll_38 (by decide) ?_
      refine jj_istore hk (pc := 39) [(6, .int (0 : Int32)), (5, .int r4.1), (4, va_rf (σ.2.2.1 (7 + i3))), (0, .ref (ha G 0)), (1, .int a0), (2, .int a1), (3, .int a2)] dX0_goAll_39 (Nat.le_of_ble_eq_true rfl) rfl ?_
      refine jj_iconst hk (pc := 41) (v := (0 : Int32)) dX0_goAll_41 (by decide) ?_
      refine jj_istore hk (pc := 42) [(7, .int (0 : Int32)), (6, .int (0 : Int32)), (5, .int r4.1), (4, va_rf (σ.2.2.1 (7 + i3))), (0, .ref (ha G 0)), (1, .int a0), (2, .int a1), (3, .int a2)] dX0_goAll_42 (Nat.le_of_ble_eq_true rfl) rfl ?_
      refine jj_loc [(0, .ref (ha G 0)), (2, .int a1), (3, .int a2), (4, va_rf (σ.2.2.1 (7 + i3))), (5, .int r4.1), (6, .int (0 : Int32)), (7, .int (0 : Int32))] [4, 6, 7, 3, 2, 1, 0] rfl ?_
      exact wb_f0_goAll_L44 hk hH hK htb hlt N N r4.2.1 r4.2.2 a1 a2 (σ.2.2.1 (7 + i3)) r4.1 (0 : Int32) (0 : Int32)
    · refine jj_iconst hk (pc := 17) (v := (-1 : Int32)) dX0_goAll_17 (by decide) ?_
      exact jy_retUs hk (pc := 18) dX0_goAll_18
end
section
variable {p : Program} {l : Launch} {e : Env} {R : Room} {s : State} {m : MethodId} {args : Array Value} {below : List Frame} {meth : Method} {c : Code}
variable {G : cG} {KK : State → Prop}
set_option maxHeartbeats 4000000 in
theorem wb_f0_wouldBe_B82 {res : (Int32 × SS × DS)} (hk : jk p R s m args meth c (res.2.2.2 + 25) cX0_wouldBe 10 RX0 486 12155 (some .int)) (hH : cH G KK) (hK : KK s) (htb : c.exceptionTable.toList = tableOf eX0_wouldBe) (hlt : l.stackTraces = false) (N : Nat) {k55 : SS → DS → Int32 → Int32 → Option Nat → Int32 → Int32 → Int32 → Option (Int32 × SS × DS)} (hk55 : ∀ (σ : SS) (d : DS) (x2 : Int32) (x3 : Int32) (x4 : Option Nat) (x5 : Int32) (x6 : Int32) (x7 : Int32), jj p l e R s m args below meth c (hA G) (res.2.2.2 + 25) (jZ below args s (hA G) (res.2.2.2 + 25) (jUs res) (aWo G) anx) (cWo G d) (cnx d) 10 σ 55 [(0, .ref (ha G 0)), (2, .int x2), (3, .int x3), (4, va_rf x4), (5, .int x5), (6, .int x6), (7, .int x7)] [] (k55 σ d x2 x3 x4 x5 x6 x7 = some res)) (σ : SS) (d : DS) (x2 : Int32) (x3 : Int32) (x4 : Option Nat) (x5 : Int32) (x6 : Int32) (x7 : Int32) (y0 : Bool) : jj p l e R s m args below meth c (hA G) (res.2.2.2 + 25) (jZ below args s (hA G) (res.2.2.2 + 25) (jUs res) (aWo G) anx) (cWo G d) (cnx d) 10 σ 82 [(0, .ref (ha G 0)), (2, .int x2), (3, .int x3), (4, va_rf x4), (5, .int x5), (6, .int x6), (7, .int x7)] [.int (bI y0), .ref (ha G 0)] (f0_wouldBe_B82 N k55 σ d x2 x3 x4 x5 x6 x7 y0 = some res) := by
  unfold f0_wouldBe_B82
  refine jj_bipush hk (pc := 82) (v := (-12 : Int32)) dX0_wouldBe_82 (by decide) ?_
  refine kyh_X0_0_must hk hH hK (pc := 84) (a0 := y0) (a1 := (-12 : Int32)) (Hh := fun y => (if y.1 = 1 then (f3_become y.2.1 0 2).bind fun r2 => some (y.2.1.1 71, r2) else none)) (fun r h => cc_y0_must l hlt hH σ d y0 (-12 : Int32) r h) dX0_wouldBe_84 ⟨Nat.le_of_ble_eq_true rfl, Nat.le_of_ble_eq_true rfl⟩ (Nat.le_of_ble_eq_true rfl) (fun y r' hz => ?_) (fun r1 => ?_)
  · skip
    by_cases c1 : y.1 = 1
    · have h9 : ((f3_become y.2.1 0 2).bind fun r2 => some (y.2.1.1 71, r2)) = some r' := (if_pos c1).symm.trans (hz)
      refine ⟨207, by rw [c1]; exact ⟨[⟨30, 153, 167, 559⟩, ⟨30, 153, 187, 561⟩], (⟨30, 153, 207, 8⟩ : ExceptionTableEntry), [⟨30, 153, 230, 0⟩, ⟨167, 173, 230, 0⟩, ⟨187, 193, 230, 0⟩, ⟨207, 216, 230, 0⟩, ⟨230, 232, 230, 0⟩], "LeftUndoes$Refusal", by rw [htb]; rfl, (fun z hz => by rcases List.mem_cons.mp hz with e | hz; (rw [e]; exact Or.inr ⟨by decide, "java/lang/ClassCastException", hk.1.2.2.2.2 _ q1255, (hH.2.2.2.2.2 s hK).2.2.1 ("LeftUndoes$Refusal", "java/lang/ClassCastException") (by decide)⟩); (rw [List.mem_singleton.mp hz]; exact Or.inr ⟨by decide, "java/lang/NullPointerException", hk.1.2.2.2.2 _ q1269, (hH.2.2.2.2.2 s hK).2.2.1 ("LeftUndoes$Refusal", "java/lang/NullPointerException") (by decide)⟩)), by decide, by decide, q161, (List.mem_of_getElem? (i := 0) rfl), rfl⟩, fun R s q d' hq hk hK => ?_⟩
      refine jj_eq (Z' := ((f3_become y.2.1 0 2).bind fun r2 => some (y.2.1.1 71, r2)) = some r') (fun _ => h9) ?_
      have hqe : q = ha G 1 := by rw [hq (by rw [c1]; decide), c1]
      subst hqe
      refine jj_astore hk (pc := 207) [(4, .ref (ha G 1)), (0, .ref (ha G 0)), (2, .int x2), (3, .int x3), (5, .int x5), (6, .int x6), (7, .int x7)] dX0_wouldBe_207 (Nat.le_of_ble_eq_true rfl) rfl ?_
      refine jj_aload hk (pc := 209) dX0_wouldBe_209 0 rfl ?_
      refine jc_ranswer hk hH hK (pc := 211) dX0_wouldBe_211 ?_
      refine jj_istore hk (pc := 214) [(5, .int (y.2.1.1 71)), (4, .ref (ha G 1)), (0, .ref (ha G 0)), (2, .int x2), (3, .int x3), (6, .int x6), (7, .int x7)] dX0_wouldBe_214 (Nat.le_of_ble_eq_true rfl) rfl ?_
      refine jj_aload_n hk (pc := 216) dX0_wouldBe_216 2 rfl rfl ?_
      refine jc_g_now hk hH hK (pc := 217) dX0_wouldBe_217 ?_
      refine jj_aload_n hk (pc := 220) dX0_wouldBe_220 2 rfl rfl ?_
      refine jc_g_tried hk hH hK (pc := 221) dX0_wouldBe_221 ?_
      refine kc_X0_3_become hk hH hK (pc := 224) (t0 := 0) (t1 := 2) (fun r h => cc_f3_become l hH d' y.2.1 0 2 (by decide) (by decide) r h) (by decide) (by decide) dX0_wouldBe_224 ⟨Nat.le_of_ble_eq_true rfl, Nat.le_of_ble_eq_true rfl⟩ (Nat.le_of_ble_eq_true rfl) (fun r2 => ?_)
      refine jj_iload hk (pc := 227) dX0_wouldBe_227 0 rfl ?_
      exact jc_retUi hk (pc := 229) dX0_wouldBe_229
    exact absurd (show (none : Option (Int32 × SS)) = some r' from (if_neg c1).symm.trans (hz)) (fun h => by cases h)
  refine jj_aload_n hk (pc := 87) dX0_wouldBe_87 0 rfl rfl ?_
  refine jj_aloado hk (pc := 88) (x := x4) dX0_wouldBe_88 3 rfl ?_
  refine jj_iconst hk (pc := 90) (v := (0 : Int32)) dX0_wouldBe_90 (by decide) ?_
  refine jj_iload_n hk (pc := 91) dX0_wouldBe_91 1 rfl rfl ?_
  refine jj_iload hk (pc := 92) dX0_wouldBe_92 6 rfl ?_
  refine jj_iadd hk (pc := 94) dX0_wouldBe_94 ?_
  refine kyh_X0_0_itemOf hk hH hK (pc := 95) (a0 := x4) (a1 := (0 : Int32)) (a2 := (x2 + x7)) (Hh := fun y => (if y.1 = 4 then (f3_become y.2.1 0 2).bind fun r4 => some ((-13 : Int32), r4) else (if y.1 = 5 then (f3_become y.2.1 0 2).bind fun r5 => some ((-11 : Int32), r5) else (if y.1 = 1 then (f3_become y.2.1 0 2).bind fun r6 => some (y.2.1.1 71, r6) else none)))) (fun r h => cc_f0_itemOf l hlt hH r1.1 r1.2 x4 (0 : Int32) (x2 + x7) r h) dX0_wouldBe_95 ⟨Nat.le_of_ble_eq_true rfl, Nat.le_of_ble_eq_true rfl⟩ (Nat.le_of_ble_eq_true rfl) (fun y r' hz => ?_) (fun r3 => ?_)
  · skip
    by_cases c4 : y.1 = 4
    · have h9 : ((f3_become y.2.1 0 2).bind fun r4 => some ((-13 : Int32), r4)) = some r' := (if_pos c4).symm.trans (hz)
      refine ⟨167, by rw [c4]; exact ⟨[], (⟨30, 153, 167, 559⟩ : ExceptionTableEntry), [⟨30, 153, 187, 561⟩, ⟨30, 153, 207, 8⟩, ⟨30, 153, 230, 0⟩, ⟨167, 173, 230, 0⟩, ⟨187, 193, 230, 0⟩, ⟨207, 216, 230, 0⟩, ⟨230, 232, 230, 0⟩], "java/lang/ClassCastException", by rw [htb]; rfl, (fun z hz => by exact nomatch hz), by decide, by decide, q1255, (List.mem_of_getElem? (i := 25) rfl), rfl⟩, fun R s q d' hq hk hK => ?_⟩
      refine jj_eq (Z' := ((f3_become y.2.1 0 2).bind fun r4 => some ((-13 : Int32), r4)) = some r') (fun _ => h9) ?_
      refine jj_astore hk (pc := 167) [(4, .ref q), (0, .ref (ha G 0)), (2, .int x2), (3, .int x3), (5, .int x5), (6, .int x6), (7, .int x7)] dX0_wouldBe_167 (Nat.le_of_ble_eq_true rfl) rfl ?_
      refine jj_bipush hk (pc := 169) (v := (-13 : Int32)) dX0_wouldBe_169 (by decide) ?_
      refine jj_istore hk (pc := 171) [(5, .int (-13 : Int32)), (4, .ref q), (0, .ref (ha G 0)), (2, .int x2), (3, .int x3), (6, .int x6), (7, .int x7)] dX0_wouldBe_171 (Nat.le_of_ble_eq_true rfl) rfl ?_
      refine jj_aload_n hk (pc := 173) dX0_wouldBe_173 2 rfl rfl ?_
      refine jc_g_now hk hH hK (pc := 174) dX0_wouldBe_174 ?_
      refine jj_aload_n hk (pc := 177) dX0_wouldBe_177 2 rfl rfl ?_
      refine jc_g_tried hk hH hK (pc := 178) dX0_wouldBe_178 ?_
      refine kc_X0_3_become hk hH hK (pc := 181) (t0 := 0) (t1 := 2) (fun r h => cc_f3_become l hH d' y.2.1 0 2 (by decide) (by decide) r h) (by decide) (by decide) dX0_wouldBe_181 ⟨Nat.le_of_ble_eq_true rfl, Nat.le_of_ble_eq_true rfl⟩ (Nat.le_of_ble_eq_true rfl) (fun r4 => ?_)
      refine jj_iload hk (pc := 184) dX0_wouldBe_184 0 rfl ?_
      exact jc_retUi hk (pc := 186) dX0_wouldBe_186
    by_cases c5 : y.1 = 5
    · have h9 : ((f3_become y.2.1 0 2).bind fun r5 => some ((-11 : Int32), r5)) = some r' := (if_pos c5).symm.trans ((if_neg c4).symm.trans (hz))
      refine ⟨187, by rw [c5]; exact ⟨[⟨30, 153, 167, 559⟩], (⟨30, 153, 187, 561⟩ : ExceptionTableEntry), [⟨30, 153, 207, 8⟩, ⟨30, 153, 230, 0⟩, ⟨167, 173, 230, 0⟩, ⟨187, 193, 230, 0⟩, ⟨207, 216, 230, 0⟩, ⟨230, 232, 230, 0⟩], "java/lang/NullPointerException", by rw [htb]; rfl, (fun z hz => by rw [List.mem_singleton.mp hz]; exact Or.inr ⟨by decide, "java/lang/ClassCastException", hk.1.2.2.2.2 _ q1255, (hH.2.2.2.2.2 s hK).2.2.1 ("java/lang/NullPointerException", "java/lang/ClassCastException") (by decide)⟩), by decide, by decide, q1269, (List.mem_of_getElem? (i := 26) rfl), rfl⟩, fun R s q d' hq hk hK => ?_⟩
      refine jj_eq (Z' := ((f3_become y.2.1 0 2).bind fun r5 => some ((-11 : Int32), r5)) = some r') (fun _ => h9) ?_
      refine jj_astore hk (pc := 187) [(4, .ref q), (0, .ref (ha G 0)), (2, .int x2), (3, .int x3), (5, .int x5), (6, .int x6), (7, .int x7)] dX0_wouldBe_187 (Nat.le_of_ble_eq_true rfl) rfl ?_
      refine jj_bipush hk (pc := 189) (v := (-11 : Int32)) dX0_wouldBe_189 (by decide) ?_
      refine jj_istore hk (pc := 191) [(5, .int (-11 : Int32)), (4, .ref q), (0, .ref (ha G 0)), (2, .int x2), (3, .int x3), (6, .int x6), (7, .int x7)] dX0_wouldBe_191 (Nat.le_of_ble_eq_true rfl) rfl ?_
      refine jj_aload_n hk (pc := 193) dX0_wouldBe_193 2 rfl rfl ?_
      refine jc_g_now hk hH hK (pc := 194) dX0_wouldBe_194 ?_
      refine jj_aload_n hk (pc := 197) dX0_wouldBe_197 2 rfl rfl ?_
      refine jc_g_tried hk hH hK (pc := 198) dX0_wouldBe_198 ?_
      refine kc_X0_3_become hk hH hK (pc := 201) (t0 := 0) (t1 := 2) (fun r h => cc_f3_become l hH d' y.2.1 0 2 (by decide) (by decide) r h) (by decide) (by decide) dX0_wouldBe_201 ⟨Nat.le_of_ble_eq_true rfl, Nat.le_of_ble_eq_true rfl⟩ (Nat.le_of_ble_eq_true rfl) (fun r5 => ?_)
      refine jj_iload hk (pc := 204) dX0_wouldBe_204 0 rfl ?_
      exact jc_retUi hk (pc := 206) dX0_wouldBe_206
    by_cases c1 : y.1 = 1
    · have h9 : ((f3_become y.2.1 0 2).bind fun r6 => some (y.2.1.1 71, r6)) = some r' := (if_pos c1).symm.trans ((if_neg c5).symm.trans ((if_neg c4).symm.trans (hz)))
      refine ⟨207, by rw [c1]; exact ⟨[⟨30, 153, 167, 559⟩, ⟨30, 153, 187, 561⟩], (⟨30, 153, 207, 8⟩ : ExceptionTableEntry), [⟨30, 153, 230, 0⟩, ⟨167, 173, 230, 0⟩, ⟨187, 193, 230, 0⟩, ⟨207, 216, 230, 0⟩, ⟨230, 232, 230, 0⟩], "LeftUndoes$Refusal", by rw [htb]; rfl, (fun z hz => by rcases List.mem_cons.mp hz with e | hz; (rw [e]; exact Or.inr ⟨by decide, "java/lang/ClassCastException", hk.1.2.2.2.2 _ q1255, (hH.2.2.2.2.2 s hK).2.2.1 ("LeftUndoes$Refusal", "java/lang/ClassCastException") (by decide)⟩); (rw [List.mem_singleton.mp hz]; exact Or.inr ⟨by decide, "java/lang/NullPointerException", hk.1.2.2.2.2 _ q1269, (hH.2.2.2.2.2 s hK).2.2.1 ("LeftUndoes$Refusal", "java/lang/NullPointerException") (by decide)⟩)), by decide, by decide, q161, (List.mem_of_getElem? (i := 0) rfl), rfl⟩, fun R s q d' hq hk hK => ?_⟩
      refine jj_eq (Z' := ((f3_become y.2.1 0 2).bind fun r6 => some (y.2.1.1 71, r6)) = some r') (fun _ => h9) ?_
      have hqe : q = ha G 1 := by rw [hq (by rw [c1]; decide), c1]
      subst hqe
      refine jj_astore hk (pc := 207) [(4, .ref (ha G 1)), (0, .ref (ha G 0)), (2, .int x2), (3, .int x3), (5, .int x5), (6, .int x6), (7, .int x7)] dX0_wouldBe_207 (Nat.le_of_ble_eq_true rfl) rfl ?_
      refine jj_aload hk (pc := 209) dX0_wouldBe_209 0 rfl ?_
      refine jc_ranswer hk hH hK (pc := 211) dX0_wouldBe_211 ?_
      refine jj_istore hk (pc := 214) [(5, .int (y.2.1.1 71)), (4, .ref (ha G 1)), (0, .ref (ha G 0)), (2, .int x2), (3, .int x3), (6, .int x6), (7, .int x7)] dX0_wouldBe_214 (Nat.le_of_ble_eq_true rfl) rfl ?_
      refine jj_aload_n hk (pc := 216) dX0_wouldBe_216 2 rfl rfl ?_
      refine jc_g_now hk hH hK (pc := 217) dX0_wouldBe_217 ?_
      refine jj_aload_n hk (pc := 220) dX0_wouldBe_220 2 rfl rfl ?_
      refine jc_g_tried hk hH hK (pc := 221) dX0_wouldBe_221 ?_
      refine kc_X0_3_become hk hH hK (pc := 224) (t0 := 0) (t1 := 2) (fun r h => cc_f3_become l hH d' y.2.1 0 2 (by decide) (by decide) r h) (by decide) (by decide) dX0_wouldBe_224 ⟨Nat.le_of_ble_eq_true rfl, Nat.le_of_ble_eq_true rfl⟩ (Nat.le_of_ble_eq_true rfl) (fun r6 => ?_)
      refine jj_iload hk (pc := 227) dX0_wouldBe_227 0 rfl ?_
      exact jc_retUi hk (pc := 229) dX0_wouldBe_229
    exact absurd (show (none : Option (Int32 × SS)) = some r' from (if_neg c1).symm.trans ((if_neg c5).symm.trans ((if_neg c4).symm.trans (hz)))) (fun h => by cases h)
  refine jj_istore hk (pc := 98) [(8, .int r3.1), (0, .ref (ha G 0)), (2, .int x2), (3, .int x3), (4, va_rf x4), (5, .int x5), (6, .int x6), (7, .int x7)] dX0_wouldBe_98 (Nat.le_of_ble_eq_true rfl) rfl ?_
  refine jj_aload_n hk (pc := 100) dX0_wouldBe_100 1 rfl rfl ?_
  refine jj_aload_n hk (pc := 101) dX0_wouldBe_101 1 rfl rfl ?_
  refine jj_iload hk (pc := 102) dX0_wouldBe_102 0 rfl ?_
  refine kc_X0_0_isAct hk hH hK (pc := 104) (a0 := r3.1) (fun r h => cc_f0_isAct l hH r3.2.2 r3.2.1 r3.1 r h) dX0_wouldBe_104 ⟨Nat.le_of_ble_eq_true rfl, Nat.le_of_ble_eq_true rfl⟩ (Nat.le_of_ble_eq_true rfl) (fun r7 => ?_)
  refine jj_if_eq_b hk (pc := 107) 124 dX0_wouldBe_107 (by decide) ?_ ?_
  · refine jj_iconst hk (pc := 124) (v := (0 : Int32)) dX0_wouldBe_124 (by decide) ?_
    refine jj_bipush hk (pc := 125) (v := (-4 : Int32)) dX0_wouldBe_125 (by decide) ?_
    refine kyh_X0_0_must hk hH hK (pc := 127) (a0 := false) (a1 := (-4 : Int32)) (Hh := fun y => (if y.1 = 1 then (f3_become y.2.1 0 2).bind fun r9 => some (y.2.1.1 71, r9) else none)) (fun r h => cc_y0_must l hlt hH r3.2.1 r3.2.2 false (-4 : Int32) r h) dX0_wouldBe_127 ⟨Nat.le_of_ble_eq_true rfl, Nat.le_of_ble_eq_true rfl⟩ (Nat.le_of_ble_eq_true rfl) (fun y r' hz => ?_) (fun r8 => ?_)
    · skip
      by_cases c1 : y.1 = 1
      · have h9 : ((f3_become y.2.1 0 2).bind fun r9 => some (y.2.1.1 71, r9)) = some r' := (if_pos c1).symm.trans (hz)
        refine ⟨207, by rw [c1]; exact ⟨[⟨30, 153, 167, 559⟩, ⟨30, 153, 187, 561⟩], (⟨30, 153, 207, 8⟩ : ExceptionTableEntry), [⟨30, 153, 230, 0⟩, ⟨167, 173, 230, 0⟩, ⟨187, 193, 230, 0⟩, ⟨207, 216, 230, 0⟩, ⟨230, 232, 230, 0⟩], "LeftUndoes$Refusal", by rw [htb]; rfl, (fun z hz => by rcases List.mem_cons.mp hz with e | hz; (rw [e]; exact Or.inr ⟨by decide, "java/lang/ClassCastException", hk.1.2.2.2.2 _ q1255, (hH.2.2.2.2.2 s hK).2.2.1 ("LeftUndoes$Refusal", "java/lang/ClassCastException") (by decide)⟩); (rw [List.mem_singleton.mp hz]; exact Or.inr ⟨by decide, "java/lang/NullPointerException", hk.1.2.2.2.2 _ q1269, (hH.2.2.2.2.2 s hK).2.2.1 ("LeftUndoes$Refusal", "java/lang/NullPointerException") (by decide)⟩)), by decide, by decide, q161, (List.mem_of_getElem? (i := 0) rfl), rfl⟩, fun R s q d' hq hk hK => ?_⟩
        refine jj_eq (Z' := ((f3_become y.2.1 0 2).bind fun r9 => some (y.2.1.1 71, r9)) = some r') (fun _ => h9) ?_
        have hqe : q = ha G 1 := by rw [hq (by rw [c1]; decide), c1]
        subst hqe
        refine jj_astore hk (pc := 207) [(4, .ref (ha G 1)), (8, .int r3.1), (0, .ref (ha G 0)), (2, .int x2), (3, .int x3), (5, .int x5), (6, .int x6), (7, .int x7)] dX0_wouldBe_207 (Nat.le_of_ble_eq_true rfl) rfl ?_
        refine jj_aload hk (pc := 209) dX0_wouldBe_209 0 rfl ?_
        refine jc_ranswer hk hH hK (pc := 211) dX0_wouldBe_211 ?_
        refine jj_istore hk (pc := 214) [(5, .int (y.2.1.1 71)), (4, .ref (ha G 1)), (8, .int r3.1), (0, .ref (ha G 0)), (2, .int x2), (3, .int x3), (6, .int x6), (7, .int x7)] dX0_wouldBe_214 (Nat.le_of_ble_eq_true rfl) rfl ?_
        refine jj_aload_n hk (pc := 216) dX0_wouldBe_216 3 rfl rfl ?_
        refine jc_g_now hk hH hK (pc := 217) dX0_wouldBe_217 ?_
        refine jj_aload_n hk (pc := 220) dX0_wouldBe_220 3 rfl rfl ?_
        refine jc_g_tried hk hH hK (pc := 221) dX0_wouldBe_221 ?_
        refine kc_X0_3_become hk hH hK (pc := 224) (t0 := 0) (t1 := 2) (fun r h => cc_f3_become l hH d' y.2.1 0 2 (by decide) (by decide) r h) (by decide) (by decide) dX0_wouldBe_224 ⟨Nat.le_of_ble_eq_true rfl, Nat.le_of_ble_eq_true rfl⟩ (Nat.le_of_ble_eq_true rfl) (fun r9 => ?_)
        refine jj_iload hk (pc := 227) dX0_wouldBe_227 0 rfl ?_
        exact jc_retUi hk (pc := 229) dX0_wouldBe_229
      exact absurd (show (none : Option (Int32 × SS)) = some r' from (if_neg c1).symm.trans (hz)) (fun h => by cases h)
    refine jj_iload hk (pc := 130) dX0_wouldBe_130 6 rfl ?_
    refine jj_aload_n hk (pc := 132) dX0_wouldBe_132 1 rfl rfl ?_
    refine jj_iload hk (pc := 133) dX0_wouldBe_133 0 rfl ?_
    refine jj_iconst hk (pc := 135) (v := (1 : Int32)) dX0_wouldBe_135 (by decide) ?_
    refine jj_isub hk (pc := 136) dX0_wouldBe_136 ?_
    refine kc_X0_0_goes hk hH hK (pc := 137) (a0 := (r3.1 - (1 : Int32))) (fun r h => cc_f0_goes l hH r8.2 N r8.1 (r3.1 - (1 : Int32)) r h) dX0_wouldBe_137 ⟨Nat.le_of_ble_eq_true rfl, Nat.le_of_ble_eq_true rfl⟩ (Nat.le_of_ble_eq_true rfl) (fun r10 => ?_)
    refine jj_iadd hk (pc := 140) dX0_wouldBe_140 ?_
    refine jj_istore hk (pc := 141) [(6, .int (x6 + r10.1)), (8, .int r3.1), (0, .ref (ha G 0)), (2, .int x2), (3, .int x3), (4, va_rf x4), (5, .int x5), (7, .int x7)] dX0_wouldBe_141 (Nat.le_of_ble_eq_true rfl) rfl ?_
    refine jj_iinc hk (pc := 143) [(7, .int (x7 + 1)), (6, .int (x6 + r10.1)), (8, .int r3.1), (0, .ref (ha G 0)), (2, .int x2), (3, .int x3), (4, va_rf x4), (5, .int x5)] dX0_wouldBe_143 7 rfl rfl (Nat.le_of_ble_eq_true rfl) rfl ?_
    refine jj_goto hk (pc := 146) 55 dX0_wouldBe_146 (by decide) ?_
    refine jj_loc [(0, .ref (ha G 0)), (2, .int x2), (3, .int x3), (4, va_rf x4), (5, .int x5), (6, .int (x6 + r10.1)), (7, .int (x7 + 1))] [3, 4, 5, 6, 7, 1, 0] rfl ?_
    exact hk55 r10.2 r8.2 x2 x3 x4 x5 (x6 + r10.1) (x7 + 1)
  · refine jj_aload_n hk (pc := 110) dX0_wouldBe_110 1 rfl rfl ?_
    refine jc_g_now hk hH hK (pc := 111) dX0_wouldBe_111 ?_
    refine kc_X0_3_isOver hk hH hK (pc := 114) (t0 := 0) (fun r h => cc_f3_isOver l hH r3.2.2 r3.2.1 0 (by decide) r h) (by decide) dX0_wouldBe_114 ⟨Nat.le_of_ble_eq_true rfl, Nat.le_of_ble_eq_true rfl⟩ (Nat.le_of_ble_eq_true rfl) (fun r11 => ?_)
    refine jj_if_ne_b hk (pc := 117) 124 dX0_wouldBe_117 (by decide) ?_ ?_
    · refine jj_iconst hk (pc := 124) (v := (0 : Int32)) dX0_wouldBe_124 (by decide) ?_
      refine jj_bipush hk (pc := 125) (v := (-4 : Int32)) dX0_wouldBe_125 (by decide) ?_
      refine kyh_X0_0_must hk hH hK (pc := 127) (a0 := false) (a1 := (-4 : Int32)) (Hh := fun y => (if y.1 = 1 then (f3_become y.2.1 0 2).bind fun r13 => some (y.2.1.1 71, r13) else none)) (fun r h => cc_y0_must l hlt hH r3.2.1 r3.2.2 false (-4 : Int32) r h) dX0_wouldBe_127 ⟨Nat.le_of_ble_eq_true rfl, Nat.le_of_ble_eq_true rfl⟩ (Nat.le_of_ble_eq_true rfl) (fun y r' hz => ?_) (fun r12 => ?_)
      · skip
        by_cases c1 : y.1 = 1
        · have h9 : ((f3_become y.2.1 0 2).bind fun r13 => some (y.2.1.1 71, r13)) = some r' := (if_pos c1).symm.trans (hz)
          refine ⟨207, by rw [c1]; exact ⟨[⟨30, 153, 167, 559⟩, ⟨30, 153, 187, 561⟩], (⟨30, 153, 207, 8⟩ : ExceptionTableEntry), [⟨30, 153, 230, 0⟩, ⟨167, 173, 230, 0⟩, ⟨187, 193, 230, 0⟩, ⟨207, 216, 230, 0⟩, ⟨230, 232, 230, 0⟩], "LeftUndoes$Refusal", by rw [htb]; rfl, (fun z hz => by rcases List.mem_cons.mp hz with e | hz; (rw [e]; exact Or.inr ⟨by decide, "java/lang/ClassCastException", hk.1.2.2.2.2 _ q1255, (hH.2.2.2.2.2 s hK).2.2.1 ("LeftUndoes$Refusal", "java/lang/ClassCastException") (by decide)⟩); (rw [List.mem_singleton.mp hz]; exact Or.inr ⟨by decide, "java/lang/NullPointerException", hk.1.2.2.2.2 _ q1269, (hH.2.2.2.2.2 s hK).2.2.1 ("LeftUndoes$Refusal", "java/lang/NullPointerException") (by decide)⟩)), by decide, by decide, q161, (List.mem_of_getElem? (i := 0) rfl), rfl⟩, fun R s q d' hq hk hK => ?_⟩
          refine jj_eq (Z' := ((f3_become y.2.1 0 2).bind fun r13 => some (y.2.1.1 71, r13)) = some r') (fun _ => h9) ?_
          have hqe : q = ha G 1 := by rw [hq (by rw [c1]; decide), c1]
          subst hqe
          refine jj_astore hk (pc := 207) [(4, .ref (ha G 1)), (8, .int r3.1), (0, .ref (ha G 0)), (2, .int x2), (3, .int x3), (5, .int x5), (6, .int x6), (7, .int x7)] dX0_wouldBe_207 (Nat.le_of_ble_eq_true rfl) rfl ?_
          refine jj_aload hk (pc := 209) dX0_wouldBe_209 0 rfl ?_
          refine jc_ranswer hk hH hK (pc := 211) dX0_wouldBe_211 ?_
          refine jj_istore hk (pc := 214) [(5, .int (y.2.1.1 71)), (4, .ref (ha G 1)), (8, .int r3.1), (0, .ref (ha G 0)), (2, .int x2), (3, .int x3), (6, .int x6), (7, .int x7)] dX0_wouldBe_214 (Nat.le_of_ble_eq_true rfl) rfl ?_
          refine jj_aload_n hk (pc := 216) dX0_wouldBe_216 3 rfl rfl ?_
          refine jc_g_now hk hH hK (pc := 217) dX0_wouldBe_217 ?_
          refine jj_aload_n hk (pc := 220) dX0_wouldBe_220 3 rfl rfl ?_
          refine jc_g_tried hk hH hK (pc := 221) dX0_wouldBe_221 ?_
          refine kc_X0_3_become hk hH hK (pc := 224) (t0 := 0) (t1 := 2) (fun r h => cc_f3_become l hH d' y.2.1 0 2 (by decide) (by decide) r h) (by decide) (by decide) dX0_wouldBe_224 ⟨Nat.le_of_ble_eq_true rfl, Nat.le_of_ble_eq_true rfl⟩ (Nat.le_of_ble_eq_true rfl) (fun r13 => ?_)
          refine jj_iload hk (pc := 227) dX0_wouldBe_227 0 rfl ?_
          exact jc_retUi hk (pc := 229) dX0_wouldBe_229
        exact absurd (show (none : Option (Int32 × SS)) = some r' from (if_neg c1).symm.trans (hz)) (fun h => by cases h)
      refine jj_iload hk (pc := 130) dX0_wouldBe_130 6 rfl ?_
      refine jj_aload_n hk (pc := 132) dX0_wouldBe_132 1 rfl rfl ?_
      refine jj_iload hk (pc := 133) dX0_wouldBe_133 0 rfl ?_
      refine jj_iconst hk (pc := 135) (v := (1 : Int32)) dX0_wouldBe_135 (by decide) ?_
      refine jj_isub hk (pc := 136) dX0_wouldBe_136 ?_
      refine kc_X0_0_goes hk hH hK (pc := 137) (a0 := (r3.1 - (1 : Int32))) (fun r h => cc_f0_goes l hH r12.2 N r12.1 (r3.1 - (1 : Int32)) r h) dX0_wouldBe_137 ⟨Nat.le_of_ble_eq_true rfl, Nat.le_of_ble_eq_true rfl⟩ (Nat.le_of_ble_eq_true rfl) (fun r14 => ?_)
      refine jj_iadd hk (pc := 140) dX0_wouldBe_140 ?_
      refine jj_istore hk (pc := 141) [(6, .int (x6 + r14.1)), (8, .int r3.1), (0, .ref (ha G 0)), (2, .int x2), (3, .int x3), (4, va_rf x4), (5, .int x5), (7, .int x7)] dX0_wouldBe_141 (Nat.le_of_ble_eq_true rfl) rfl ?_
      refine jj_iinc hk (pc := 143) [(7, .int (x7 + 1)), (6, .int (x6 + r14.1)), (8, .int r3.1), (0, .ref (ha G 0)), (2, .int x2), (3, .int x3), (4, va_rf x4), (5, .int x5)] dX0_wouldBe_143 7 rfl rfl (Nat.le_of_ble_eq_true rfl) rfl ?_
      refine jj_goto hk (pc := 146) 55 dX0_wouldBe_146 (by decide) ?_
      refine jj_loc [(0, .ref (ha G 0)), (2, .int x2), (3, .int x3), (4, va_rf x4), (5, .int x5), (6, .int (x6 + r14.1)), (7, .int (x7 + 1))] [3, 4, 5, 6, 7, 1, 0] rfl ?_
      exact hk55 r14.2 r12.2 x2 x3 x4 x5 (x6 + r14.1) (x7 + 1)
    · refine jj_iconst hk (pc := 120) (v := (1 : Int32)) dX0_wouldBe_120 (by decide) ?_
      refine jj_goto hk (pc := 121) 125 dX0_wouldBe_121 (by decide) ?_
      refine jj_bipush hk (pc := 125) (v := (-4 : Int32)) dX0_wouldBe_125 (by decide) ?_
      refine kyh_X0_0_must hk hH hK (pc := 127) (a0 := true) (a1 := (-4 : Int32)) (Hh := fun y => (if y.1 = 1 then (f3_become y.2.1 0 2).bind fun r16 => some (y.2.1.1 71, r16) else none)) (fun r h => cc_y0_must l hlt hH r3.2.1 r3.2.2 true (-4 : Int32) r h) dX0_wouldBe_127 ⟨Nat.le_of_ble_eq_true rfl, Nat.le_of_ble_eq_true rfl⟩ (Nat.le_of_ble_eq_true rfl) (fun y r' hz => ?_) (fun r15 => ?_)
      · skip
        by_cases c1 : y.1 = 1
        · have h9 : ((f3_become y.2.1 0 2).bind fun r16 => some (y.2.1.1 71, r16)) = some r' := (if_pos c1).symm.trans (hz)
          refine ⟨207, by rw [c1]; exact ⟨[⟨30, 153, 167, 559⟩, ⟨30, 153, 187, 561⟩], (⟨30, 153, 207, 8⟩ : ExceptionTableEntry), [⟨30, 153, 230, 0⟩, ⟨167, 173, 230, 0⟩, ⟨187, 193, 230, 0⟩, ⟨207, 216, 230, 0⟩, ⟨230, 232, 230, 0⟩], "LeftUndoes$Refusal", by rw [htb]; rfl, (fun z hz => by rcases List.mem_cons.mp hz with e | hz; (rw [e]; exact Or.inr ⟨by decide, "java/lang/ClassCastException", hk.1.2.2.2.2 _ q1255, (hH.2.2.2.2.2 s hK).2.2.1 ("LeftUndoes$Refusal", "java/lang/ClassCastException") (by decide)⟩); (rw [List.mem_singleton.mp hz]; exact Or.inr ⟨by decide, "java/lang/NullPointerException", hk.1.2.2.2.2 _ q1269, (hH.2.2.2.2.2 s hK).2.2.1 ("LeftUndoes$Refusal", "java/lang/NullPointerException") (by decide)⟩)), by decide, by decide, q161, (List.mem_of_getElem? (i := 0) rfl), rfl⟩, fun R s q d' hq hk hK => ?_⟩
          refine jj_eq (Z' := ((f3_become y.2.1 0 2).bind fun r16 => some (y.2.1.1 71, r16)) = some r') (fun _ => h9) ?_
          have hqe : q = ha G 1 := by rw [hq (by rw [c1]; decide), c1]
          subst hqe
          refine jj_astore hk (pc := 207) [(4, .ref (ha G 1)), (8, .int r3.1), (0, .ref (ha G 0)), (2, .int x2), (3, .int x3), (5, .int x5), (6, .int x6), (7, .int x7)] dX0_wouldBe_207 (Nat.le_of_ble_eq_true rfl) rfl ?_
          refine jj_aload hk (pc := 209) dX0_wouldBe_209 0 rfl ?_
          refine jc_ranswer hk hH hK (pc := 211) dX0_wouldBe_211 ?_
          refine jj_istore hk (pc := 214) [(5, .int (y.2.1.1 71)), (4, .ref (ha G 1)), (8, .int r3.1), (0, .ref (ha G 0)), (2, .int x2), (3, .int x3), (6, .int x6), (7, .int x7)] dX0_wouldBe_214 (Nat.le_of_ble_eq_true rfl) rfl ?_
          refine jj_aload_n hk (pc := 216) dX0_wouldBe_216 3 rfl rfl ?_
          refine jc_g_now hk hH hK (pc := 217) dX0_wouldBe_217 ?_
          refine jj_aload_n hk (pc := 220) dX0_wouldBe_220 3 rfl rfl ?_
          refine jc_g_tried hk hH hK (pc := 221) dX0_wouldBe_221 ?_
          refine kc_X0_3_become hk hH hK (pc := 224) (t0 := 0) (t1 := 2) (fun r h => cc_f3_become l hH d' y.2.1 0 2 (by decide) (by decide) r h) (by decide) (by decide) dX0_wouldBe_224 ⟨Nat.le_of_ble_eq_true rfl, Nat.le_of_ble_eq_true rfl⟩ (Nat.le_of_ble_eq_true rfl) (fun r16 => ?_)
          refine jj_iload hk (pc := 227) dX0_wouldBe_227 0 rfl ?_
          exact jc_retUi hk (pc := 229) dX0_wouldBe_229
        exact absurd (show (none : Option (Int32 × SS)) = some r' from (if_neg c1).symm.trans (hz)) (fun h => by cases h)
      refine jj_iload hk (pc := 130) dX0_wouldBe_130 6 rfl ?_
      refine jj_aload_n hk (pc := 132) dX0_wouldBe_132 1 rfl rfl ?_
      refine jj_iload hk (pc := 133) dX0_wouldBe_133 0 rfl ?_
      refine jj_iconst hk (pc := 135) (v := (1 : Int32)) dX0_wouldBe_135 (by decide) ?_
      refine jj_isub hk (pc := 136) dX0_wouldBe_136 ?_
      refine kc_X0_0_goes hk hH hK (pc := 137) (a0 := (r3.1 - (1 : Int32))) (fun r h => cc_f0_goes l hH r15.2 N r15.1 (r3.1 - (1 : Int32)) r h) dX0_wouldBe_137 ⟨Nat.le_of_ble_eq_true rfl, Nat.le_of_ble_eq_true rfl⟩ (Nat.le_of_ble_eq_true rfl) (fun r17 => ?_)
      refine jj_iadd hk (pc := 140) dX0_wouldBe_140 ?_
      refine jj_istore hk (pc := 141) [(6, .int (x6 + r17.1)), (8, .int r3.1), (0, .ref (ha G 0)), (2, .int x2), (3, .int x3), (4, va_rf x4), (5, .int x5), (7, .int x7)] dX0_wouldBe_141 (Nat.le_of_ble_eq_true rfl) rfl ?_
      refine jj_iinc hk (pc := 143) [(7, .int (x7 + 1)), (6, .int (x6 + r17.1)), (8, .int r3.1), (0, .ref (ha G 0)), (2, .int x2), (3, .int x3), (4, va_rf x4), (5, .int x5)] dX0_wouldBe_143 7 rfl rfl (Nat.le_of_ble_eq_true rfl) rfl ?_
      refine jj_goto hk (pc := 146) 55 dX0_wouldBe_146 (by decide) ?_
      refine jj_loc [(0, .ref (ha G 0)), (2, .int x2), (3, .int x3), (4, va_rf x4), (5, .int x5), (6, .int (x6 + r17.1)), (7, .int (x7 + 1))] [3, 4, 5, 6, 7, 1, 0] rfl ?_
      exact hk55 r17.2 r15.2 x2 x3 x4 x5 (x6 + r17.1) (x7 + 1)
set_option maxHeartbeats 4000000 in
theorem wb_f0_wouldBe_L55 {res : (Int32 × SS × DS)} (hk : jk p R s m args meth c (res.2.2.2 + 25) cX0_wouldBe 10 RX0 486 12155 (some .int)) (hH : cH G KK) (hK : KK s) (htb : c.exceptionTable.toList = tableOf eX0_wouldBe) (hlt : l.stackTraces = false) (N : Nat) : ∀ (n : Nat) (σ : SS) (d : DS) (x2 : Int32) (x3 : Int32) (x4 : Option Nat) (x5 : Int32) (x6 : Int32) (x7 : Int32), jj p l e R s m args below meth c (hA G) (res.2.2.2 + 25) (jZ below args s (hA G) (res.2.2.2 + 25) (jUs res) (aWo G) anx) (cWo G d) (cnx d) 10 σ 55 [(0, .ref (ha G 0)), (2, .int x2), (3, .int x3), (4, va_rf x4), (5, .int x5), (6, .int x6), (7, .int x7)] [] (f0_wouldBe_L55 N n σ d x2 x3 x4 x5 x6 x7 = some res) := by
  intro n
  induction n with
  | zero => intro σ d x2 x3 x4 x5 x6 x7; exact jj_eq (fun hz => by rw [f0_wouldBe_L55] at hz; exact hz) jj_no
  | succ n ih =>
    intro σ d x2 x3 x4 x5 x6 x7
    rw [f0_wouldBe_L55]
    refine jj_iload hk (pc := 55) dX0_wouldBe_55 6 rfl ?_
    refine jj_iload_n hk (pc := 57) dX0_wouldBe_57 2 rfl rfl ?_
    refine jj_icmp_ge hk (pc := 58) 149 dX0_wouldBe_58 (by decide) ?_ ?_
    · refine jj_iload hk (pc := 149) dX0_wouldBe_149 5 rfl ?_
      refine jj_istore hk (pc := 151) [(7, .int x6), (0, .ref (ha G 0)), (2, .int x2), (3, .int x3), (4, va_rf x4), (5, .int x5), (6, .int x6)] dX0_wouldBe_151 (Nat.le_of_ble_eq_true rfl) rfl ?_
      refine jj_aload_n hk (pc := 153) dX0_wouldBe_153 1 rfl rfl ?_
      refine jc_g_now hk hH hK (pc := 154) dX0_wouldBe_154 ?_
      refine jj_aload_n hk (pc := 157) dX0_wouldBe_157 1 rfl rfl ?_
      refine jc_g_tried hk hH hK (pc := 158) dX0_wouldBe_158 ?_
      refine kc_X0_3_become hk hH hK (pc := 161) (t0 := 0) (t1 := 2) (fun r h => cc_f3_become l hH d σ 0 2 (by decide) (by decide) r h) (by decide) (by decide) dX0_wouldBe_161 ⟨Nat.le_of_ble_eq_true rfl, Nat.le_of_ble_eq_true rfl⟩ (Nat.le_of_ble_eq_true rfl) (fun r1 => ?_)
      refine jj_iload hk (pc := 164) dX0_wouldBe_164 0 rfl ?_
      exact jy_retUs hk (pc := 166) dX0_wouldBe_166
    · refine jj_aload_n hk (pc := 61) dX0_wouldBe_61 0 rfl rfl ?_
      refine jj_iload_n hk (pc := 62) dX0_wouldBe_62 1 rfl rfl ?_
      refine jj_if_lt hk (pc := 63) 81 dX0_wouldBe_63 (by decide) ?_ ?_
      · refine jj_iconst hk (pc := 81) (v := (0 : Int32)) dX0_wouldBe_81 (by decide) ?_
        refine jj_loc [(0, .ref (ha G 0)), (2, .int x2), (3, .int x3), (4, va_rf x4), (5, .int x5), (6, .int x6), (7, .int x7)] [0, 1, 2, 3, 4, 5, 6] rfl ?_
        exact wb_f0_wouldBe_B82 hk hH hK htb hlt N ih σ d x2 x3 x4 x5 x6 x7 false
      · refine jj_iload_n hk (pc := 66) dX0_wouldBe_66 1 rfl rfl ?_
        refine jj_iload hk (pc := 67) dX0_wouldBe_67 4 rfl ?_
        refine jj_iconst hk (pc := 69) (v := (1 : Int32)) dX0_wouldBe_69 (by decide) ?_
        refine jj_isub hk (pc := 70) dX0_wouldBe_70 ?_
        refine jj_iload hk (pc := 71) dX0_wouldBe_71 6 rfl ?_
        refine jj_isub hk (pc := 73) dX0_wouldBe_73 ?_
        refine jj_icmp_gt hk (pc := 74) 81 dX0_wouldBe_74 (by decide) ?_ ?_
        · refine jj_iconst hk (pc := 81) (v := (0 : Int32)) dX0_wouldBe_81 (by decide) ?_
          refine jj_loc [(0, .ref (ha G 0)), (2, .int x2), (3, .int x3), (4, va_rf x4), (5, .int x5), (6, .int x6), (7, .int x7)] [0, 1, 2, 3, 4, 5, 6] rfl ?_
          exact wb_f0_wouldBe_B82 hk hH hK htb hlt N ih σ d x2 x3 x4 x5 x6 x7 false
        · refine jj_iconst hk (pc := 77) (v := (1 : Int32)) dX0_wouldBe_77 (by decide) ?_
          refine jj_goto hk (pc := 78) 82 dX0_wouldBe_78 (by decide) ?_
          refine jj_loc [(0, .ref (ha G 0)), (2, .int x2), (3, .int x3), (4, va_rf x4), (5, .int x5), (6, .int x6), (7, .int x7)] [0, 1, 2, 3, 4, 5, 6] rfl ?_
          exact wb_f0_wouldBe_B82 hk hH hK htb hlt N ih σ d x2 x3 x4 x5 x6 x7 true
set_option maxHeartbeats 4000000 in
theorem cc_f0_wouldBe (l : Launch) (hlt : l.stackTraces = false) {G : cG} {KK : State → Prop} (hH : cH G KK) (N : Nat) (σ : SS) (d : DS) (a0 : Int32) (a1 : Int32) (a2 : Int32) (res : (Int32 × SS × DS)) (hf : f0_wouldBe N σ d a0 a1 a2 = some res) : jM l yX0_wouldBe (wsW_ yX0_wouldBe cX0_wouldBe 10 (some .int) eX0_wouldBe) 486 12155 [.ref (ha G 0), .int a0, .int a1, .int a2] (aWo G) anx KK (σ, d) (jUs res) (hA G) (res.2.2.2 + 25) := by
  refine jj_startH [(0, .ref (ha G 0)), (1, .int a0), (2, .int a1), (3, .int a2)] (by decide) (Nat.le_of_ble_eq_true rfl) rfl (fun p e R s m args below meth c hk hK htb => ?_) hf
  have hk : jk p R s m args meth c (res.2.2.2 + 25) cX0_wouldBe 10 RX0 486 12155 (some .int) := hk
  refine ja_in ?_
  unfold f0_wouldBe
  refine jj_iload_n hk (pc := 0) dX0_wouldBe_0 1 rfl rfl ?_
  refine kc_X0_0_isShelf hk hH hK (pc := 1) (a0 := a0) (fun r h => cc_f0_isShelf l hH d σ a0 r h) dX0_wouldBe_1 ⟨Nat.le_of_ble_eq_true rfl, Nat.le_of_ble_eq_true rfl⟩ (Nat.le_of_ble_eq_true rfl) (fun r1 => ?_)
  refine jj_if_eq_b hk (pc := 4) 17 dX0_wouldBe_4 (by decide) ?_ ?_
  · refine jj_iconst hk (pc := 17) (v := (-1 : Int32)) dX0_wouldBe_17 (by decide) ?_
    exact jy_retUs hk (pc := 18) dX0_wouldBe_18
  · refine jj_iload_n hk (pc := 7) dX0_wouldBe_7 3 rfl rfl ?_
    refine jj_iconst hk (pc := 8) (v := (0 : Int32)) dX0_wouldBe_8 (by decide) ?_
    refine jj_bipush hk (pc := 9) (v := (20 : Int32)) dX0_wouldBe_9 (by decide) ?_
    refine kc_X0_0_isIn hk hH hK (pc := 11) (a0 := a2) (a1 := (0 : Int32)) (a2 := (20 : Int32)) (fun r h => cc_f0_isIn l hH d σ a2 (0 : Int32) (20 : Int32) r h) dX0_wouldBe_11 ⟨Nat.le_of_ble_eq_true rfl, Nat.le_of_ble_eq_true rfl⟩ (Nat.le_of_ble_eq_true rfl) (fun r2 => ?_)
    refine jj_if_ne_b hk (pc := 14) 19 dX0_wouldBe_14 (by decide) ?_ ?_
    · refine jj_aload_n hk (pc := 19) dX0_wouldBe_19 0 rfl rfl ?_
      refine jc_g_tried hk hH hK (pc := 20) dX0_wouldBe_20 ?_
      refine jj_aload_n hk (pc := 23) dX0_wouldBe_23 0 rfl rfl ?_
      refine jc_g_now hk hH hK (pc := 24) dX0_wouldBe_24 ?_
      refine kc_X0_3_become hk hH hK (pc := 27) (t0 := 2) (t1 := 0) (fun r h => cc_f3_become l hH d σ 2 0 (by decide) (by decide) r h) (by decide) (by decide) dX0_wouldBe_27 ⟨Nat.le_of_ble_eq_true rfl, Nat.le_of_ble_eq_true rfl⟩ (Nat.le_of_ble_eq_true rfl) (fun r3 => ?_)
      refine jj_aload_n hk (pc := 30) dX0_wouldBe_30 0 rfl rfl ?_
      refine jc_g_sheets hk hH hK (pc := 31) dX0_wouldBe_31 ?_
      refine jj_iload_n hk (pc := 34) dX0_wouldBe_34 1 rfl rfl ?_
      refine jc_aldS11 hk hH hK (pc := 35) dX0_wouldBe_35 (fun i4 hi4 => ?_)
      refine jc_held11 (i := i4) (hi := hi4) hk hH hK (pc := 36) dX0_wouldBe_36 ?_
      refine jj_astoreo hk (pc := 39) (x := r3.2.2.1 (7 + i4)) [(4, va_rf (r3.2.2.1 (7 + i4))), (0, .ref (ha G 0)), (1, .int a0), (2, .int a1), (3, .int a2)] dX0_wouldBe_39 (Nat.le_of_ble_eq_true rfl) rfl ?_
      refine jj_aloado hk (pc := 41) (x := r3.2.2.1 (7 + i4)) dX0_wouldBe_41 0 rfl ?_
      refine jj_iconst hk (pc := 43) (v := (0 : Int32)) dX0_wouldBe_43 (by decide) ?_
      refine kyh_X0_0_manyOf hk hH hK (pc := 44) (a0 := (r3.2.2.1 (7 + i4))) (a1 := (0 : Int32)) (Hh := fun y => (if y.1 = 4 then (f3_become y.2.1 0 2).bind fun r6 => some ((-13 : Int32), r6) else (if y.1 = 5 then (f3_become y.2.1 0 2).bind fun r7 => some ((-11 : Int32), r7) else none))) (fun r h => cc_f0_manyOf l hlt hH r3 d (r3.2.2.1 (7 + i4)) (0 : Int32) r h) dX0_wouldBe_44 ⟨Nat.le_of_ble_eq_true rfl, Nat.le_of_ble_eq_true rfl⟩ (Nat.le_of_ble_eq_true rfl) (fun y r' hz => ?_) (fun r5 => ?_)
      · skip
        by_cases c4 : y.1 = 4
        · have h9 : ((f3_become y.2.1 0 2).bind fun r6 => some ((-13 : Int32), r6)) = some r' := (if_pos c4).symm.trans (hz)
          refine ⟨167, by rw [c4]; exact ⟨[], (⟨30, 153, 167, 559⟩ : ExceptionTableEntry), [⟨30, 153, 187, 561⟩, ⟨30, 153, 207, 8⟩, ⟨30, 153, 230, 0⟩, ⟨167, 173, 230, 0⟩, ⟨187, 193, 230, 0⟩, ⟨207, 216, 230, 0⟩, ⟨230, 232, 230, 0⟩], "java/lang/ClassCastException", by rw [htb]; rfl, (fun z hz => by exact nomatch hz), by decide, by decide, q1255, (List.mem_of_getElem? (i := 25) rfl), rfl⟩, fun R s q d' hq hk hK => ?_⟩
          refine jj_eq (Z' := ((f3_become y.2.1 0 2).bind fun r6 => some ((-13 : Int32), r6)) = some r') (fun _ => h9) ?_
          refine jj_astore hk (pc := 167) [(4, .ref q), (0, .ref (ha G 0)), (1, .int a0), (2, .int a1), (3, .int a2)] dX0_wouldBe_167 (Nat.le_of_ble_eq_true rfl) rfl ?_
          refine jj_bipush hk (pc := 169) (v := (-13 : Int32)) dX0_wouldBe_169 (by decide) ?_
          refine jj_istore hk (pc := 171) [(5, .int (-13 : Int32)), (4, .ref q), (0, .ref (ha G 0)), (1, .int a0), (2, .int a1), (3, .int a2)] dX0_wouldBe_171 (Nat.le_of_ble_eq_true rfl) rfl ?_
          refine jj_aload_n hk (pc := 173) dX0_wouldBe_173 2 rfl rfl ?_
          refine jc_g_now hk hH hK (pc := 174) dX0_wouldBe_174 ?_
          refine jj_aload_n hk (pc := 177) dX0_wouldBe_177 2 rfl rfl ?_
          refine jc_g_tried hk hH hK (pc := 178) dX0_wouldBe_178 ?_
          refine kc_X0_3_become hk hH hK (pc := 181) (t0 := 0) (t1 := 2) (fun r h => cc_f3_become l hH d' y.2.1 0 2 (by decide) (by decide) r h) (by decide) (by decide) dX0_wouldBe_181 ⟨Nat.le_of_ble_eq_true rfl, Nat.le_of_ble_eq_true rfl⟩ (Nat.le_of_ble_eq_true rfl) (fun r6 => ?_)
          refine jj_iload hk (pc := 184) dX0_wouldBe_184 0 rfl ?_
          exact jc_retUi hk (pc := 186) dX0_wouldBe_186
        by_cases c5 : y.1 = 5
        · have h9 : ((f3_become y.2.1 0 2).bind fun r7 => some ((-11 : Int32), r7)) = some r' := (if_pos c5).symm.trans ((if_neg c4).symm.trans (hz))
          refine ⟨187, by rw [c5]; exact ⟨[⟨30, 153, 167, 559⟩], (⟨30, 153, 187, 561⟩ : ExceptionTableEntry), [⟨30, 153, 207, 8⟩, ⟨30, 153, 230, 0⟩, ⟨167, 173, 230, 0⟩, ⟨187, 193, 230, 0⟩, ⟨207, 216, 230, 0⟩, ⟨230, 232, 230, 0⟩], "java/lang/NullPointerException", by rw [htb]; rfl, (fun z hz => by rw [List.mem_singleton.mp hz]; exact Or.inr ⟨by decide, "java/lang/ClassCastException", hk.1.2.2.2.2 _ q1255, (hH.2.2.2.2.2 s hK).2.2.1 ("java/lang/NullPointerException", "java/lang/ClassCastException") (by decide)⟩), by decide, by decide, q1269, (List.mem_of_getElem? (i := 26) rfl), rfl⟩, fun R s q d' hq hk hK => ?_⟩
          refine jj_eq (Z' := ((f3_become y.2.1 0 2).bind fun r7 => some ((-11 : Int32), r7)) = some r') (fun _ => h9) ?_
          refine jj_astore hk (pc := 187) [(4, .ref q), (0, .ref (ha G 0)), (1, .int a0), (2, .int a1), (3, .int a2)] dX0_wouldBe_187 (Nat.le_of_ble_eq_true rfl) rfl ?_
          refine jj_bipush hk (pc := 189) (v := (-11 : Int32)) dX0_wouldBe_189 (by decide) ?_
          refine jj_istore hk (pc := 191) [(5, .int (-11 : Int32)), (4, .ref q), (0, .ref (ha G 0)), (1, .int a0), (2, .int a1), (3, .int a2)] dX0_wouldBe_191 (Nat.le_of_ble_eq_true rfl) rfl ?_
          refine jj_aload_n hk (pc := 193) dX0_wouldBe_193 2 rfl rfl ?_
          refine jc_g_now hk hH hK (pc := 194) dX0_wouldBe_194 ?_
          refine jj_aload_n hk (pc := 197) dX0_wouldBe_197 2 rfl rfl ?_
          refine jc_g_tried hk hH hK (pc := 198) dX0_wouldBe_198 ?_
          refine kc_X0_3_become hk hH hK (pc := 201) (t0 := 0) (t1 := 2) (fun r h => cc_f3_become l hH d' y.2.1 0 2 (by decide) (by decide) r h) (by decide) (by decide) dX0_wouldBe_201 ⟨Nat.le_of_ble_eq_true rfl, Nat.le_of_ble_eq_true rfl⟩ (Nat.le_of_ble_eq_true rfl) (fun r7 => ?_)
          refine jj_iload hk (pc := 204) dX0_wouldBe_204 0 rfl ?_
          exact jc_retUi hk (pc := 206) dX0_wouldBe_206
        exact absurd (show (none : Option (Int32 × SS)) = some r' from (if_neg c5).symm.trans ((if_neg c4).symm.trans (hz))) (fun h => by cases h)
      refine jj_istore hk (pc := 47) [(5, .int r5.1), (4, va_rf (r3.2.2.1 (7 + i4))), (0, .ref (ha G 0)), (1, .int a0), (2, .int a1), (3, .int a2)] dX0_wouldBe_47 (Nat.le_of_ble_eq_true rfl) (by cases r3.2.2.1 (7 + i4) <;> rfl) ?_
      refine jj_iconst hk (pc := 49) (v := (0 : Int32)) dX0_wouldBe_49 (by decide) ?_
      refine jj_istore hk (pc := 50) [(6, .int (0 : Int32)), (5, .int r5.1), (4, va_rf (r3.2.2.1 (7 + i4))), (0, .ref (ha G 0)), (1, .int a0), (2, .int a1), (3, .int a2)] dX0_wouldBe_50 (Nat.le_of_ble_eq_true rfl) rfl ?_
      refine jj_iconst hk (pc := 52) (v := (0 : Int32)) dX0_wouldBe_52 (by decide) ?_
      refine jj_istore hk (pc := 53) [(7, .int (0 : Int32)), (6, .int (0 : Int32)), (5, .int r5.1), (4, va_rf (r3.2.2.1 (7 + i4))), (0, .ref (ha G 0)), (1, .int a0), (2, .int a1), (3, .int a2)] dX0_wouldBe_53 (Nat.le_of_ble_eq_true rfl) rfl ?_
      refine jj_loc [(0, .ref (ha G 0)), (2, .int a1), (3, .int a2), (4, va_rf (r3.2.2.1 (7 + i4))), (5, .int r5.1), (6, .int (0 : Int32)), (7, .int (0 : Int32))] [4, 6, 7, 3, 2, 1, 0] rfl ?_
      exact wb_f0_wouldBe_L55 hk hH hK htb hlt N N r5.2.1 r5.2.2 a1 a2 (r3.2.2.1 (7 + i4)) r5.1 (0 : Int32) (0 : Int32)
    · refine jj_iconst hk (pc := 17) (v := (-1 : Int32)) dX0_wouldBe_17 (by decide) ?_
      exact jy_retUs hk (pc := 18) dX0_wouldBe_18
end
section
variable {p : Program} {l : Launch} {e : Env} {R : Room} {s : State} {m : MethodId} {args : Array Value} {below : List Frame} {meth : Method} {c : Code}
variable {G : cG} {KK : State → Prop}
set_option maxHeartbeats 4000000 in
theorem cc_f0_taken (l : Launch) (hlt : l.stackTraces = false) {G : cG} {KK : State → Prop} (hH : cH G KK)  (σ : SS) (d : DS) (a0 : Int32) (a1 : Int32) (res : (Int32 × SS × DS)) (hf : f0_taken σ d a0 a1 = some res) : jM l yX0_taken (wsW_ yX0_taken cX0_taken 4 (some .int) eX0_taken) 11 10442 [.ref (ha G 0), .int a0, .int a1] (aWo G) anx KK (σ, d) (jUs res) (hA G) (res.2.2.2 + 25) := by
  refine jj_startH [(0, .ref (ha G 0)), (1, .int a0), (2, .int a1)] (by decide) (Nat.le_of_ble_eq_true rfl) rfl (fun p e R s m args below meth c hk hK htb => ?_) hf
  have hk : jk p R s m args meth c (res.2.2.2 + 25) cX0_taken 4 RX0 11 10442 (some .int) := hk
  refine ja_in ?_
  unfold f0_taken
  refine jj_iload_n hk (pc := 0) dX0_taken_0 1 rfl rfl ?_
  refine kc_X0_0_isShelf hk hH hK (pc := 1) (a0 := a0) (fun r h => cc_f0_isShelf l hH d σ a0 r h) dX0_taken_1 ⟨Nat.le_of_ble_eq_true rfl, Nat.le_of_ble_eq_true rfl⟩ (Nat.le_of_ble_eq_true rfl) (fun r1 => ?_)
  refine jj_if_eq_b hk (pc := 4) 27 dX0_taken_4 (by decide) ?_ ?_
  · refine jj_iconst hk (pc := 27) (v := (-1 : Int32)) dX0_taken_27 (by decide) ?_
    exact jy_retUs hk (pc := 28) dX0_taken_28
  · refine jj_iload_n hk (pc := 7) dX0_taken_7 2 rfl rfl ?_
    refine jj_iconst hk (pc := 8) (v := (0 : Int32)) dX0_taken_8 (by decide) ?_
    refine jj_iconst hk (pc := 9) (v := (5 : Int32)) dX0_taken_9 (by decide) ?_
    refine kc_X0_0_isIn hk hH hK (pc := 10) (a0 := a1) (a1 := (0 : Int32)) (a2 := (5 : Int32)) (fun r h => cc_f0_isIn l hH d σ a1 (0 : Int32) (5 : Int32) r h) dX0_taken_10 ⟨Nat.le_of_ble_eq_true rfl, Nat.le_of_ble_eq_true rfl⟩ (Nat.le_of_ble_eq_true rfl) (fun r2 => ?_)
    refine jj_if_ne_b hk (pc := 13) 29 dX0_taken_13 (by decide) ?_ ?_
    · refine jj_aload_n hk (pc := 29) dX0_taken_29 0 rfl rfl ?_
      refine jj_iload_n hk (pc := 30) dX0_taken_30 1 rfl rfl ?_
      refine kyh_X0_0_held hk hH hK (pc := 31) (a0 := a0) (Hh := fun y => none) (fun r h => cc_f0_held l hlt hH σ d a0 r h) dX0_taken_31 ⟨Nat.le_of_ble_eq_true rfl, Nat.le_of_ble_eq_true rfl⟩ (Nat.le_of_ble_eq_true rfl) (fun y r' hz => ?_) (fun r3 => ?_)
      · skip
        exact absurd (show (none : Option (Int32 × SS)) = some r' from hz) (fun h => by cases h)
      refine jj_iload_n hk (pc := 34) dX0_taken_34 2 rfl rfl ?_
      refine kyh_X0_0_takenAs hk hH hK (pc := 35) (a0 := r3.1) (a1 := a1) (Hh := fun y => (if y.1 = 4 then some ((-13 : Int32), y.2.1) else (if y.1 = 5 then some ((-11 : Int32), y.2.1) else none))) (fun r h => cc_f0_takenAs l hlt hH r3.2.1 r3.2.2 r3.1 a1 r h) dX0_taken_35 ⟨Nat.le_of_ble_eq_true rfl, Nat.le_of_ble_eq_true rfl⟩ (Nat.le_of_ble_eq_true rfl) (fun y r' hz => ?_) (fun r4 => ?_)
      · skip
        by_cases c4 : y.1 = 4
        · have h9 : (some ((-13 : Int32), y.2.1)) = some r' := (if_pos c4).symm.trans (hz)
          refine ⟨39, by rw [c4]; exact ⟨[], (⟨29, 38, 39, 559⟩ : ExceptionTableEntry), [⟨29, 38, 43, 561⟩], "java/lang/ClassCastException", by rw [htb]; rfl, (fun z hz => by exact nomatch hz), by decide, by decide, q1255, (List.mem_of_getElem? (i := 25) rfl), rfl⟩, fun R s q d' hq hk hK => ?_⟩
          refine jj_eq (Z' := (some ((-13 : Int32), y.2.1)) = some r') (fun _ => h9) ?_
          refine jj_astore_n hk (pc := 39) [(3, .ref q), (0, .ref (ha G 0)), (1, .int a0), (2, .int a1)] dX0_taken_39 rfl (Nat.le_of_ble_eq_true rfl) rfl ?_
          refine jj_bipush hk (pc := 40) (v := (-13 : Int32)) dX0_taken_40 (by decide) ?_
          exact jc_retUi hk (pc := 42) dX0_taken_42
        by_cases c5 : y.1 = 5
        · have h9 : (some ((-11 : Int32), y.2.1)) = some r' := (if_pos c5).symm.trans ((if_neg c4).symm.trans (hz))
          refine ⟨43, by rw [c5]; exact ⟨[⟨29, 38, 39, 559⟩], (⟨29, 38, 43, 561⟩ : ExceptionTableEntry), [], "java/lang/NullPointerException", by rw [htb]; rfl, (fun z hz => by rw [List.mem_singleton.mp hz]; exact Or.inr ⟨by decide, "java/lang/ClassCastException", hk.1.2.2.2.2 _ q1255, (hH.2.2.2.2.2 s hK).2.2.1 ("java/lang/NullPointerException", "java/lang/ClassCastException") (by decide)⟩), by decide, by decide, q1269, (List.mem_of_getElem? (i := 26) rfl), rfl⟩, fun R s q d' hq hk hK => ?_⟩
          refine jj_eq (Z' := (some ((-11 : Int32), y.2.1)) = some r') (fun _ => h9) ?_
          refine jj_astore_n hk (pc := 43) [(3, .ref q), (0, .ref (ha G 0)), (1, .int a0), (2, .int a1)] dX0_taken_43 rfl (Nat.le_of_ble_eq_true rfl) rfl ?_
          refine jj_bipush hk (pc := 44) (v := (-11 : Int32)) dX0_taken_44 (by decide) ?_
          exact jc_retUi hk (pc := 46) dX0_taken_46
        exact absurd (show (none : Option (Int32 × SS)) = some r' from (if_neg c5).symm.trans ((if_neg c4).symm.trans (hz))) (fun h => by cases h)
      exact jy_retUs hk (pc := 38) dX0_taken_38
    · refine jj_iload_n hk (pc := 16) dX0_taken_16 2 rfl rfl ?_
      refine jj_bipush hk (pc := 17) (v := (10 : Int32)) dX0_taken_17 (by decide) ?_
      refine jj_bipush hk (pc := 19) (v := (14 : Int32)) dX0_taken_19 (by decide) ?_
      refine kc_X0_0_isIn hk hH hK (pc := 21) (a0 := a1) (a1 := (10 : Int32)) (a2 := (14 : Int32)) (fun r h => cc_f0_isIn l hH d σ a1 (10 : Int32) (14 : Int32) r h) dX0_taken_21 ⟨Nat.le_of_ble_eq_true rfl, Nat.le_of_ble_eq_true rfl⟩ (Nat.le_of_ble_eq_true rfl) (fun r5 => ?_)
      refine jj_if_ne_b hk (pc := 24) 29 dX0_taken_24 (by decide) ?_ ?_
      · refine jj_aload_n hk (pc := 29) dX0_taken_29 0 rfl rfl ?_
        refine jj_iload_n hk (pc := 30) dX0_taken_30 1 rfl rfl ?_
        refine kyh_X0_0_held hk hH hK (pc := 31) (a0 := a0) (Hh := fun y => none) (fun r h => cc_f0_held l hlt hH σ d a0 r h) dX0_taken_31 ⟨Nat.le_of_ble_eq_true rfl, Nat.le_of_ble_eq_true rfl⟩ (Nat.le_of_ble_eq_true rfl) (fun y r' hz => ?_) (fun r6 => ?_)
        · skip
          exact absurd (show (none : Option (Int32 × SS)) = some r' from hz) (fun h => by cases h)
        refine jj_iload_n hk (pc := 34) dX0_taken_34 2 rfl rfl ?_
        refine kyh_X0_0_takenAs hk hH hK (pc := 35) (a0 := r6.1) (a1 := a1) (Hh := fun y => (if y.1 = 4 then some ((-13 : Int32), y.2.1) else (if y.1 = 5 then some ((-11 : Int32), y.2.1) else none))) (fun r h => cc_f0_takenAs l hlt hH r6.2.1 r6.2.2 r6.1 a1 r h) dX0_taken_35 ⟨Nat.le_of_ble_eq_true rfl, Nat.le_of_ble_eq_true rfl⟩ (Nat.le_of_ble_eq_true rfl) (fun y r' hz => ?_) (fun r7 => ?_)
        · skip
          by_cases c4 : y.1 = 4
          · have h9 : (some ((-13 : Int32), y.2.1)) = some r' := (if_pos c4).symm.trans (hz)
            refine ⟨39, by rw [c4]; exact ⟨[], (⟨29, 38, 39, 559⟩ : ExceptionTableEntry), [⟨29, 38, 43, 561⟩], "java/lang/ClassCastException", by rw [htb]; rfl, (fun z hz => by exact nomatch hz), by decide, by decide, q1255, (List.mem_of_getElem? (i := 25) rfl), rfl⟩, fun R s q d' hq hk hK => ?_⟩
            refine jj_eq (Z' := (some ((-13 : Int32), y.2.1)) = some r') (fun _ => h9) ?_
            refine jj_astore_n hk (pc := 39) [(3, .ref q), (0, .ref (ha G 0)), (1, .int a0), (2, .int a1)] dX0_taken_39 rfl (Nat.le_of_ble_eq_true rfl) rfl ?_
            refine jj_bipush hk (pc := 40) (v := (-13 : Int32)) dX0_taken_40 (by decide) ?_
            exact jc_retUi hk (pc := 42) dX0_taken_42
          by_cases c5 : y.1 = 5
          · have h9 : (some ((-11 : Int32), y.2.1)) = some r' := (if_pos c5).symm.trans ((if_neg c4).symm.trans (hz))
            refine ⟨43, by rw [c5]; exact ⟨[⟨29, 38, 39, 559⟩], (⟨29, 38, 43, 561⟩ : ExceptionTableEntry), [], "java/lang/NullPointerException", by rw [htb]; rfl, (fun z hz => by rw [List.mem_singleton.mp hz]; exact Or.inr ⟨by decide, "java/lang/ClassCastException", hk.1.2.2.2.2 _ q1255, (hH.2.2.2.2.2 s hK).2.2.1 ("java/lang/NullPointerException", "java/lang/ClassCastException") (by decide)⟩), by decide, by decide, q1269, (List.mem_of_getElem? (i := 26) rfl), rfl⟩, fun R s q d' hq hk hK => ?_⟩
            refine jj_eq (Z' := (some ((-11 : Int32), y.2.1)) = some r') (fun _ => h9) ?_
            refine jj_astore_n hk (pc := 43) [(3, .ref q), (0, .ref (ha G 0)), (1, .int a0), (2, .int a1)] dX0_taken_43 rfl (Nat.le_of_ble_eq_true rfl) rfl ?_
            refine jj_bipush hk (pc := 44) (v := (-11 : Int32)) dX0_taken_44 (by decide) ?_
            exact jc_retUi hk (pc := 46) dX0_taken_46
          exact absurd (show (none : Option (Int32 × SS)) = some r' from (if_neg c5).symm.trans ((if_neg c4).symm.trans (hz))) (fun h => by cases h)
        exact jy_retUs hk (pc := 38) dX0_taken_38
      · refine jj_iconst hk (pc := 27) (v := (-1 : Int32)) dX0_taken_27 (by decide) ?_
        exact jy_retUs hk (pc := 28) dX0_taken_28
end
