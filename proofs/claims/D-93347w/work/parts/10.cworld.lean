/-! THE COMPONENT's PICTURE: what is static (SS: ints, int and byte arrays, references that change, arrays of references), what is made and stays (DS: cells, the heap's size) -/
set_option maxRecDepth 100000
abbrev SS : Type := (Nat → Int32) × (Nat → Nat → Int32) × (Nat → Option Nat) × (Nat → Nat → Option Nat)
/-- a cell that is made: an array by its type's place in ctys, or an object -/
abbrev dE : Type := (Nat × vp_A) ⊕ (Nat × List Value)
abbrev DS : Type := List (Nat × dE) × Nat
/-- what is fixed: class numbers, the classes of arrays, addresses of the static cells, the component's cells, the two exceptions' own fields, the texts' addresses, what else of the heap stays -/
abbrev cG : Type := va_G × (Nat → ClassId) × (Nat → Nat) × (Nat → Prop) × (Nat → Value) × (Nat → Nat) × (Heap → Prop)
def hD (G : cG) : va_G := G.1
def hT (G : cG) (i : Nat) : ClassId := G.2.1 i
def ha (G : cG) (i : Nat) : Nat := G.2.2.1 i
def hA (G : cG) : Nat → Prop := G.2.2.2.1
def hV (G : cG) (i : Nat) : Value := G.2.2.2.2.1 i
def hs (G : cG) (i : Nat) : Nat := G.2.2.2.2.2.1 i
def hX (G : cG) : Heap → Prop := G.2.2.2.2.2.2
/-- the classes whose objects lie in the worlds: 0 the model, 1 the component, 2 Town, 3 Trace, 4 Shelf, 5 Refusal, 6 Fault, 7 Clasped, 8 Forger, 9 Twin, 10 Slow, 11 Heir, 12 Not, 13 Asks, 14 All, 15 Some, 16 Value, 17 Rule, 18 Ticket -/
def jcl : List vw_C := [(RX6, TX6, 42), (RX0, TX0, 32), (RX3, TX3, 21), (RX4, TX4, 2), (RX5, TX5, 1), (RX1, TX1, 7), (RX2, TX2, 7), (RX8, TX8, 2), (RX9, TX9, 2), (RX10, TX10, 2), (RX11, TX11, 2), (RX12, TX12, 2), (RX14, TX14, 1), (RX16, TX16, 3), (RX17, TX17, 2), (RX18, TX18, 2), (RX15, TX15, 2), (RX19, TX19, 4), (RX20, TX20, 1)]
def ctys (G : cG) : List (ClassId × FieldType) := [(hT G 0, .int), (hT G 1, .byte), (hT G 2, .short), (hT G 3, .long), (hT G 4, .boolean), (hT G 5, .object "LeftUndoes$Hand"), (hT G 6, .object "java/lang/String"), (hT G 7, .object "LeftUndoes$Shelf"), (hT G 8, .object "LeftUndoes$Rule")]
/-- how long the static arrays are: thirteen of each town, then facts, sos, parts, told, plan, rows, bodies, tape -/
def lenC (j : Nat) : Nat := if j < 39 then [6, 6, 6, 10, 10, 10, 10, 10, 36, 6, 6, 6, 6].getD (j % 13) 0 else [5, 50, 64, 4, 4, 12, 30, 200].getD (j - 39) 0
def cArr (G : cG) (σ : SS) (j : Nat) : Nat × va_E := (ha G (15 + j), .inl (hT G (if j = 46 then 1 else 0), lenC j, .inl (σ.2.1 j)))
def lfs (G : cG) (σ : SS) : List Value := [.ref (ha G 1), .ref (ha G 2), .ref (ha G 3), .ref (ha G 4), .ref (ha G 5), .ref (ha G 62), .int (σ.1 36), .ref (ha G 64), .ref (ha G 65), .ref (ha G 66), .ref (ha G 61), .int (σ.1 41), .int (σ.1 42), .int (σ.1 43), .ref (ha G 54), .ref (ha G 55), .ref (ha G 56), .ref (ha G 57), .ref (ha G 58), .int (σ.1 49), .int (σ.1 50), .int (σ.1 51), .int (σ.1 52), .int (σ.1 53), .int (σ.1 54), .ref (ha G 63), .int (σ.1 56), .ref (ha G 59), .int (σ.1 58), .ref (ha G 67), .ref (ha G 68), .ref (ha G 6)]
def tfs (G : cG) (σ : SS) (t : Nat) : List Value := [.int (σ.1 (7 * t + 0)), .int (σ.1 (7 * t + 1)), .int (σ.1 (7 * t + 2)), .int (σ.1 (7 * t + 3)), .int (σ.1 (7 * t + 4)), .int (σ.1 (7 * t + 5)), .int (σ.1 (7 * t + 6)), .ref (ha G (15 + (13 * t + 0))), .ref (ha G (15 + (13 * t + 1))), .ref (ha G (15 + (13 * t + 2))), .ref (ha G (15 + (13 * t + 3))), .ref (ha G (15 + (13 * t + 4))), .ref (ha G (15 + (13 * t + 5))), .ref (ha G (15 + (13 * t + 6))), .ref (ha G (15 + (13 * t + 7))), .ref (ha G (15 + (13 * t + 8))), .ref (ha G (15 + (13 * t + 9))), .ref (ha G (15 + (13 * t + 10))), .ref (ha G (15 + (13 * t + 11))), .ref (ha G (15 + (13 * t + 12))), va_rf (σ.2.2.1 t)]
def cO (G : cG) (σ : SS) : va_W := [(ha G 0, .inr (1, lfs G σ)), (ha G 1, .inr (5, [hV G 0, hV G 1, hV G 2, hV G 3, hV G 4, hV G 5, .int (σ.1 71)])), (ha G 2, .inr (6, [hV G 6, hV G 7, hV G 8, hV G 9, hV G 10, hV G 11, .int (σ.1 72)])), (ha G 3, .inr (2, tfs G σ 0)), (ha G 4, .inr (2, tfs G σ 1)), (ha G 5, .inr (2, tfs G σ 2)), (ha G 6, .inr (3, [.ref (ha G 60), .int (σ.1 70)])), (ha G 7, .inr (4, [va_rf (σ.2.2.1 3)])), (ha G 8, .inr (4, [va_rf (σ.2.2.1 4)])), (ha G 9, .inr (4, [va_rf (σ.2.2.1 5)])), (ha G 10, .inr (4, [va_rf (σ.2.2.1 6)])), (ha G 11, .inr (4, [va_rf (σ.2.2.1 7)])), (ha G 12, .inr (4, [va_rf (σ.2.2.1 8)])), (ha G 13, .inr (4, [va_rf (σ.2.2.1 9)])), (ha G 14, .inr (4, [va_rf (σ.2.2.1 10)]))]
def cR (G : cG) (σ : SS) : va_W := [(ha G 62, .inl (hT G 5, 6, .inr (.inr (.inr (.inr (σ.2.2.2 0)))))), (ha G 63, .inl (hT G 5, 45, .inr (.inr (.inr (.inr (σ.2.2.2 1)))))), (ha G 64, .inl (hT G 6, 6, .inr (.inr (.inr (.inr (fun i => some (hs G i))))))), (ha G 65, .inl (hT G 6, 3, .inr (.inr (.inr (.inr (fun i => some (hs G (6 + i)))))))), (ha G 66, .inl (hT G 6, 5, .inr (.inr (.inr (.inr (fun i => some (hs G (9 + i)))))))), (ha G 67, .inl (hT G 7, 4, .inr (.inr (.inr (.inr (fun i => some (ha G (7 + i)))))))), (ha G 68, .inl (hT G 7, 4, .inr (.inr (.inr (.inr (fun i => some (ha G (11 + i))))))))]
def dT (G : cG) (x : Nat × dE) : Nat × va_E := (x.1, match x.2 with | .inl a => .inl (hT G a.1, a.2) | .inr o => .inr o)
def ccs (G : cG) (d : DS) (σ : SS) : va_W := cO G σ ++ ((List.range 47).map (cArr G σ) ++ (cR G σ ++ d.1.map (dT G)))
def cWo (G : cG) (d : DS) (σ : SS) (H : Heap) : Prop := va_P (hD G) jcl (ccs G d σ) H ∧ va_D (hA G) (ccs G d σ) ∧ hX G H
def cnx (d : DS) : SS → Nat := fun _ => d.2
theorem ccs_O (G : cG) (d : DS) (σ : SS) {i : Nat} (h : i < 15) : (ccs G d σ)[i]? = (cO G σ)[i]? := List.getElem?_append_left h
theorem ccs_A (G : cG) (d : DS) (σ : SS) {j : Nat} (h : j < 47) : (ccs G d σ)[15 + j]? = some (cArr G σ j) := by
  unfold ccs
  rw [List.getElem?_append_right (show (cO G σ).length ≤ 15 + j from Nat.le_add_right 15 j), show 15 + j - (cO G σ).length = j from Nat.add_sub_cancel_left 15 j, List.getElem?_append_left (by simpa using h), List.getElem?_map, List.getElem?_range h]
  rfl
theorem ccs_R (G : cG) (d : DS) (σ : SS) {i : Nat} (h : i < 7) : (ccs G d σ)[62 + i]? = (cR G σ)[i]? := by
  unfold ccs
  rw [List.getElem?_append_right (show (cO G σ).length ≤ 62 + i by show 15 ≤ 62 + i; omega), show 62 + i - (cO G σ).length = 47 + i from (by show 62 + i - 15 = 47 + i; omega), List.getElem?_append_right (by simp), show 47 + i - ((List.range 47).map (cArr G σ)).length = i by simp, List.getElem?_append_left h]
theorem ccs_D (G : cG) (d : DS) (σ : SS) (i : Nat) : (ccs G d σ)[69 + i]? = (d.1[i]?).map (dT G) := by
  unfold ccs
  rw [List.getElem?_append_right (show (cO G σ).length ≤ 69 + i by show 15 ≤ 69 + i; omega), show 69 + i - (cO G σ).length = 54 + i from (by show 69 + i - 15 = 54 + i; omega), List.getElem?_append_right (by simp; omega), show 54 + i - ((List.range 47).map (cArr G σ)).length = 7 + i by simp; omega, List.getElem?_append_right (show (cR G σ).length ≤ 7 + i from Nat.le_add_right 7 i), show 7 + i - (cR G σ).length = i from Nat.add_sub_cancel_left 7 i, List.getElem?_map]
/-- setters of the picture -/
def sI (σ : SS) (k : Nat) (x : Int32) : SS := (upd σ.1 k x, σ.2)
def sA (σ : SS) (j : Nat) (f : Nat → Int32) : SS := (σ.1, (fun k => if k = j then f else σ.2.1 k), σ.2.2)
def sF (σ : SS) (k : Nat) (r : Option Nat) : SS := (σ.1, σ.2.1, (fun j => if j = k then r else σ.2.2.1 j), σ.2.2.2)
def sR (σ : SS) (k : Nat) (f : Nat → Option Nat) : SS := (σ.1, σ.2.1, σ.2.2.1, fun j => if j = k then f else σ.2.2.2 j)
theorem set_append_left' {α : Type} {a b : List α} {i : Nat} {x : α} (h : i < a.length) : (a ++ b).set i x = a.set i x ++ b := List.set_append_left i x h
theorem ccs_setA (G : cG) (d : DS) (σ : SS) {j : Nat} (h : j < 47) (f : Nat → Int32) : ccs G d (sA σ j f) = (ccs G d σ).set (15 + j) (ha G (15 + j), .inl (hT G (if j = 46 then 1 else 0), lenC j, .inl f)) := by
  unfold ccs
  rw [List.set_append_right (15 + j) _ (show (cO G σ).length ≤ 15 + j from Nat.le_add_right 15 j), show 15 + j - (cO G σ).length = j from Nat.add_sub_cancel_left 15 j, List.set_append_left j _ (by simpa using h)]
  have e : (List.range 47).map (cArr G (sA σ j f)) = ((List.range 47).map (cArr G σ)).set j (ha G (15 + j), .inl (hT G (if j = 46 then 1 else 0), lenC j, .inl f)) := by
    apply List.ext_getElem?
    intro k
    by_cases hk : k < 47
    · rw [List.getElem?_map, List.getElem?_range hk]
      by_cases e : k = j
      · subst e
        rw [List.getElem?_set_self (by simpa using hk)]
        simp [cArr, sA]
      · rw [List.getElem?_set_ne (fun q => e q.symm), List.getElem?_map, List.getElem?_range hk]
        simp [cArr, sA, e]
    · rw [List.getElem?_eq_none (by simp; omega), List.getElem?_eq_none (by simp; omega)]
  rw [e]
  rfl
theorem ccs_setO (G : cG) (d : DS) (σ σ' : SS) {i : Nat} (h : i < 15) (x : Nat × va_E) (e1 : cO G σ' = (cO G σ).set i x) (e2 : σ'.2.1 = σ.2.1) (e3 : σ'.2.2.2 = σ.2.2.2) : ccs G d σ' = (ccs G d σ).set i x := by
  unfold ccs
  rw [List.set_append_left i x (show i < (cO G σ).length from h), ← e1]
  have h1 : cArr G σ' = cArr G σ := by funext j; simp [cArr, e2]
  have h2 : cR G σ' = cR G σ := by simp [cR, e3]
  rw [h1, h2]
theorem ccs_setR (G : cG) (d : DS) (σ σ' : SS) {i : Nat} (h : i < 7) (x : Nat × va_E) (e1 : cR G σ' = (cR G σ).set i x) (e0 : cO G σ' = cO G σ) (e2 : σ'.2.1 = σ.2.1) : ccs G d σ' = (ccs G d σ).set (62 + i) x := by
  unfold ccs
  have h1 : cArr G σ' = cArr G σ := by funext j; simp [cArr, e2]
  rw [List.set_append_right (62 + i) x (show (cO G σ).length ≤ 62 + i by show 15 ≤ 62 + i; omega), show 62 + i - (cO G σ).length = 47 + i from (by show 62 + i - 15 = 47 + i; omega), List.set_append_right (47 + i) x (by simp), show 47 + i - ((List.range 47).map (cArr G σ)).length = i by simp, List.set_append_left i x (show i < (cR G σ).length from h), ← e1, h1, e0]
/-- what is made: a cell by its address -/
def dl (d : DS) (q : Nat) : Option dE := (d.1.find? (fun x => x.1 == q)).map (fun x => x.2)
theorem dl_spec {d : DS} {q : Nat} {e : dE} (h : dl d q = some e) : ∃ i : Nat, d.1[i]? = some (q, e) := by
  unfold dl at h
  cases hf : d.1.find? (fun x => x.1 == q) with
  | none => rw [hf] at h; cases h
  | some x =>
    rw [hf] at h
    obtain ⟨a, b⟩ := x
    have h1 := List.find?_some hf
    have h2 : a = q := by simpa using h1
    cases h
    subst h2
    exact List.getElem?_of_mem (List.mem_of_find?_eq_some hf)
/-- nest mates' links, castings, declarations: what the tables say beside lw_all -/
def cNw : List Cond := [
  .castable "LeftUndoes$Refusal" "LeftUndoes$Refusal",
  .declares ({ cls := "java/lang/RuntimeException", name := "<init>", desc := "()V" } : MethodName),
  .declares ({ cls := "java/lang/RuntimeException", name := "<init>", desc := "(Ljava/lang/String;)V" } : MethodName),
  .declares ({ cls := "java/lang/Exception", name := "<init>", desc := "()V" } : MethodName),
  .declares ({ cls := "java/lang/Exception", name := "<init>", desc := "(Ljava/lang/String;)V" } : MethodName),
  .declares ({ cls := "java/lang/Throwable", name := "<init>", desc := "()V" } : MethodName),
  .declares ({ cls := "java/lang/Throwable", name := "<init>", desc := "(Ljava/lang/String;)V" } : MethodName),
  .declares ({ cls := "java/lang/Throwable", name := "fillInStackTrace", desc := "()Ljava/lang/Throwable;" } : MethodName),
  .castable "LeftUndoes$Fault" "LeftUndoes$Fault",
  .declares ({ cls := "LeftUndoes$Refusal", name := "<init>", desc := "()V" } : MethodName),
  .methodLinkNest "LeftUndoes" (39 : Nat) ({ cls := "LeftUndoes$Fault", name := "<init>", desc := "()V" } : MethodName) "LeftUndoes",
  .methodLinkNest "LeftUndoes" (46 : Nat) ({ cls := "LeftUndoes$Town", name := "<init>", desc := "()V" } : MethodName) "LeftUndoes",
  .methodLinkNest "LeftUndoes" (140 : Nat) ({ cls := "LeftUndoes$Trace", name := "<init>", desc := "()V" } : MethodName) "LeftUndoes",
  .fieldLinkNest "LeftUndoes" (601 : Nat) "LeftUndoes$Trace" "bodies" "[I" "LeftUndoes",
  .fieldLinkNest "LeftUndoes" (581 : Nat) "LeftUndoes$Trace" "many" "I" "LeftUndoes",
  .methodLinkNest "LeftUndoes" (145 : Nat) ({ cls := "LeftUndoes$Shelf", name := "<init>", desc := "()V" } : MethodName) "LeftUndoes",
  .fieldLinkNest "LeftUndoes" (525 : Nat) "LeftUndoes$Shelf" "held" "Ljava/lang/Object;" "LeftUndoes",
  .declares ({ cls := "LeftUndoes$Hand", name := "pull", desc := "(II)I" } : MethodName),
  .methodLinkNest "LeftUndoes$Rule" (25 : Nat) ({ cls := "LeftUndoes", name := "isOf", desc := "(II)Z" } : MethodName) "LeftUndoes",
  .declares ({ cls := "LeftUndoes$Cond", name := "holds", desc := "([I)Z" } : MethodName),
  .declares ({ cls := "LeftUndoes$Refusal", name := "of", desc := "(I)LLeftUndoes$Refusal;" } : MethodName),
  .methodLinkNest "LeftUndoes$Not" (1 : Nat) ({ cls := "LeftUndoes$Cond", name := "<init>", desc := "()V" } : MethodName) "LeftUndoes",
  .methodLinkNest "LeftUndoes$Asks" (1 : Nat) ({ cls := "LeftUndoes$Cond", name := "<init>", desc := "()V" } : MethodName) "LeftUndoes",
  .methodLinkNest "LeftUndoes$All" (1 : Nat) ({ cls := "LeftUndoes$Cond", name := "<init>", desc := "()V" } : MethodName) "LeftUndoes",
  .castable "java/lang/NegativeArraySizeException" "java/lang/NegativeArraySizeException",
  .castable "java/lang/ClassCastException" "java/lang/ClassCastException",
  .castable "java/lang/NullPointerException" "java/lang/NullPointerException",
  .castable "java/lang/RuntimeException" "java/lang/Throwable",
  .fieldLinkNest "LeftUndoes" (567 : Nat) "LeftUndoes$Ticket" "number" "I" "LeftUndoes",
  .castable "java/lang/ArithmeticException" "java/lang/ArithmeticException",
  .declares ({ cls := "LeftUndoes$Gives", name := "gives", desc := "(ILLeftUndoes$Trace;)I" } : MethodName),
  .castable "LeftUndoes$Clasped" "LeftUndoes$Swears",
  .declares ({ cls := "LeftUndoes$Gives", name := "grace", desc := "()I" } : MethodName),
  .castable "LeftUndoes$Clasped" "LeftUndoes$Gives",
  .castable "LeftUndoes$Forger" "LeftUndoes$Gives",
  .castable "LeftUndoes$Heir" "LeftUndoes$Gives",
  .castable "LeftUndoes$Slow" "LeftUndoes$Gives",
  .castable "LeftUndoes$Twin" "LeftUndoes$Gives",
  .declares ({ cls := "LeftUndoes$Hand", name := "number", desc := "()I" } : MethodName),
  .castable "LeftUndoes$Forger" "LeftUndoes$Swears",
  .castable "LeftUndoes$Heir" "LeftUndoes$Swears",
  .castable "LeftUndoes$Slow" "LeftUndoes$Swears",
  .castable "LeftUndoes$Twin" "LeftUndoes$Swears",
  .declares ({ cls := "LeftUndoes$Takes", name := "takes", desc := "(ILLeftUndoes$Trace;)I" } : MethodName),
  .castable "LeftUndoes$Clasped" "LeftUndoes$Takes",
  .castable "LeftUndoes$Forger" "LeftUndoes$Takes",
  .castable "LeftUndoes$Heir" "LeftUndoes$Takes",
  .castable "LeftUndoes$Slow" "LeftUndoes$Takes",
  .castable "LeftUndoes$Twin" "LeftUndoes$Takes",
  .declares ({ cls := "LeftUndoes$Hand", name := "grace", desc := "()I" } : MethodName),
  .declares ({ cls := "LeftUndoes$Splits", name := "splits", desc := "(ILLeftUndoes$Trace;)I" } : MethodName),
  .castable "LeftUndoes$Clasped" "LeftUndoes$Splits",
  .castable "LeftUndoes$Forger" "LeftUndoes$Splits",
  .castable "LeftUndoes$Heir" "LeftUndoes$Splits",
  .castable "LeftUndoes$Slow" "LeftUndoes$Splits",
  .castable "LeftUndoes$Twin" "LeftUndoes$Splits",
  .declares ({ cls := "LeftUndoes$Gives", name := "number", desc := "()I" } : MethodName),
  .declares ({ cls := "LeftUndoes$Swears", name := "swears", desc := "(ILLeftUndoes$Trace;)I" } : MethodName),
  .castable "LeftUndoes$Fault" "LeftUndoes$Refusal",
  .castable "LeftUndoes$Clasped" "LeftUndoes$Hand",
  .castable "LeftUndoes$Forger" "LeftUndoes$Hand",
  .castable "LeftUndoes$Heir" "LeftUndoes$Hand",
  .castable "LeftUndoes$Slow" "LeftUndoes$Hand",
  .castable "LeftUndoes$Twin" "LeftUndoes$Hand",
  .castable "LeftUndoes$Twin" "LeftUndoes$Forger",
  .castable "LeftUndoes$Heir" "LeftUndoes$Slow"]
def cAO : List String := ["LeftUndoes$Hand", "java/lang/String", "LeftUndoes$Shelf", "LeftUndoes$Rule"]
def cK1 (G : cG) (U : State) : Prop := va_K (hD G) jcl (ctys G) U ∧ (∀ w ∈ cNw, va_Nw w U) ∧ ∀ C ∈ cAO, va_AO C U
/-- what else of the heap stays, stays -/
def cXs (G : cG) : Prop := ∀ H H1 : Heap, H.size ≤ H1.size → (∀ q, q < H.size → ¬ hA G q → H1[q]? = H[q]?) → hX G H → hX G H1
/-- what is new is the component's -/
def cXn (G : cG) : Prop := ∀ (H : Heap) (q : Nat), hX G H → H.size ≤ q → hA G q
/-- the texts: 0-5 names of kinds, 6-8 of doings, 9-13 of facts, then not ( ) and or if ; -/
def txS : List String := ["hand", "clasped", "forge\x72", "twin", "slow", "hei\x72", "early", "late", "spare", "yea\x72", "stands", "grace", "strength", "numbe\x72", "not", "(", ")", "and", "o\x72", "if", ";"]
def ixS : List Nat := [65, 67, 69, 71, 73, 75, 81, 83, 85, 90, 92, 94, 96, 98, 275, 286, 291, 306, 316, 321, 326]
def lenS : List Nat := [4, 7, 6, 4, 4, 4, 5, 4, 5, 4, 6, 5, 8, 6, 3, 1, 1, 3, 2, 2, 1]
def bytS : List (List Int32) := [[104, 97, 110, 100], [99, 108, 97, 115, 112, 101, 100], [102, 111, 114, 103, 101, 114], [116, 119, 105, 110], [115, 108, 111, 119], [104, 101, 105, 114], [101, 97, 114, 108, 121], [108, 97, 116, 101], [115, 112, 97, 114, 101], [121, 101, 97, 114], [115, 116, 97, 110, 100, 115], [103, 114, 97, 99, 101], [115, 116, 114, 101, 110, 103, 116, 104], [110, 117, 109, 98, 101, 114], [110, 111, 116], [40], [41], [97, 110, 100], [111, 114], [105, 102], [59]]
/-- what isn't castable to what (of the things that lie on shelves) -/
def cNoS : List String := ["LeftUndoes$Clasped", "LeftUndoes$Forger", "LeftUndoes$Twin", "LeftUndoes$Slow", "LeftUndoes$Heir", "LeftUndoes$Ticket", "[I", "[B", "[S", "[J", "[Z"]
def cNoT : List String := ["LeftUndoes$Ticket", "LeftUndoes$Swears", "LeftUndoes$Hand", "LeftUndoes$Clasped", "LeftUndoes$Forger", "LeftUndoes$Twin", "LeftUndoes$Slow", "LeftUndoes$Heir", "[I", "[B", "[S", "[J", "[Z"]
def cYes (C T : String) : Bool := C == T || ((cNoS.take 5).contains C && (T == "LeftUndoes$Swears" || T == "LeftUndoes$Hand")) || (C == "LeftUndoes$Twin" && T == "LeftUndoes$Forger") || (C == "LeftUndoes$Heir" && T == "LeftUndoes$Slow")
def cNoX : List (String × String) := [("java/lang/NullPointerException", "java/lang/ClassCastException"), ("LeftUndoes$Refusal", "java/lang/ClassCastException"), ("LeftUndoes$Refusal", "java/lang/NullPointerException")]
def vN : List String := ["java/lang/RuntimeException", "java/lang/Exception"]
/-- the words of the machine's own throws -/
def cVM : List Cond := vx_atM "java/lang/ClassCastException" vN ++ vx_atM "java/lang/NegativeArraySizeException" vN ++ vx_atM "java/lang/ArithmeticException" vN ++ vx_atN 8
/-- behind the law's start -/
def cS0 (U : State) : Prop := ∃ (u : State) (A0 : Array Value), u.WarmedH U.vm ∧ (∀ w ∈ lw_tbl, w.before A0 u = true) ∧ (Jvm.Cond.and given_1 narrow_1).before A0 u = true ∧ modulesRight_1 u = true
/-- what of the JDK the run leans on: the texts, three static fields of the JDK -/
def cST (G : cG) (KK : State → Prop) : Prop := (∀ (U : State) (H : Heap), KK U → hX G H → vk_S 21 lenS bytS (hs G) (fun i => hs G (100 + i)) (hA G) U H ∧ va_Z "java/lang/String" "COMPACT_STRINGS" "Z" (.int 1) (hA G) U H ∧ va_Zq "jdk/internal/util/Preconditions" "SIOOBE_FORMATTER" "Ljava/util/function/BiFunction;" (hA G) U H ∧ vx_Zq Bundle.tN "UNASSIGNED_STACK" Bundle.steD (hA G) U H ∧ vx_Zq Bundle.tN "SUPPRESSED_SENTINEL" Bundle.listD (hA G) U H) ∧ ∀ U : State, KK U → (∀ i, i < 21 → vk_R "LeftUndoes" (ixS.getD i 0) (txS.getD i "") (hs G i) U) ∧ (∀ C ∈ cNoS, ∀ T ∈ cNoT, (cYes C T = false → va_Nc C T U)) ∧ (∀ x ∈ cNoX, va_Nc x.1 x.2 U) ∧ (∀ w ∈ cVM, w.before #[] U = true) ∧ cS0 U
/-- the standing facts of the run -/
def cH (G : cG) (KK : State → Prop) : Prop := jA KK ∧ (∀ U, KK U → cK1 G U) ∧ cXs G ∧ cXn G ∧ cST G KK
theorem cNw_A {w : Cond} (hw : w ∈ cNw) : ∀ u U : State, u.WarmedH U.vm → va_Nw w u → va_Nw w U := by
  intro u U hW h
  simp only [cNw, List.mem_cons, List.not_mem_nil, or_false] at hw
  rcases hw with rfl | rfl | rfl | rfl | rfl | rfl | rfl | rfl | rfl | rfl | rfl | rfl | rfl | rfl | rfl | rfl | rfl | rfl | rfl | rfl | rfl | rfl | rfl | rfl | rfl | rfl | rfl | rfl | rfl | rfl | rfl | rfl | rfl | rfl | rfl | rfl | rfl | rfl | rfl | rfl | rfl | rfl | rfl | rfl | rfl | rfl | rfl | rfl | rfl | rfl | rfl | rfl | rfl | rfl | rfl | rfl | rfl | rfl | rfl | rfl | rfl | rfl | rfl | rfl | rfl | rfl
  · exact va_Nw.warmC hW h
  · exact va_Nw.warmD hW h
  · exact va_Nw.warmD hW h
  · exact va_Nw.warmD hW h
  · exact va_Nw.warmD hW h
  · exact va_Nw.warmD hW h
  · exact va_Nw.warmD hW h
  · exact va_Nw.warmD hW h
  · exact va_Nw.warmC hW h
  · exact va_Nw.warmD hW h
  · exact va_Nw.warmM hW h
  · exact va_Nw.warmM hW h
  · exact va_Nw.warmM hW h
  · exact va_Nw.warmF hW h
  · exact va_Nw.warmF hW h
  · exact va_Nw.warmM hW h
  · exact va_Nw.warmF hW h
  · exact va_Nw.warmD hW h
  · exact va_Nw.warmM hW h
  · exact va_Nw.warmD hW h
  · exact va_Nw.warmD hW h
  · exact va_Nw.warmM hW h
  · exact va_Nw.warmM hW h
  · exact va_Nw.warmM hW h
  · exact va_Nw.warmC hW h
  · exact va_Nw.warmC hW h
  · exact va_Nw.warmC hW h
  · exact va_Nw.warmC hW h
  · exact va_Nw.warmF hW h
  · exact va_Nw.warmC hW h
  · exact va_Nw.warmD hW h
  · exact va_Nw.warmC hW h
  · exact va_Nw.warmD hW h
  · exact va_Nw.warmC hW h
  · exact va_Nw.warmC hW h
  · exact va_Nw.warmC hW h
  · exact va_Nw.warmC hW h
  · exact va_Nw.warmC hW h
  · exact va_Nw.warmD hW h
  · exact va_Nw.warmC hW h
  · exact va_Nw.warmC hW h
  · exact va_Nw.warmC hW h
  · exact va_Nw.warmC hW h
  · exact va_Nw.warmD hW h
  · exact va_Nw.warmC hW h
  · exact va_Nw.warmC hW h
  · exact va_Nw.warmC hW h
  · exact va_Nw.warmC hW h
  · exact va_Nw.warmC hW h
  · exact va_Nw.warmD hW h
  · exact va_Nw.warmD hW h
  · exact va_Nw.warmC hW h
  · exact va_Nw.warmC hW h
  · exact va_Nw.warmC hW h
  · exact va_Nw.warmC hW h
  · exact va_Nw.warmC hW h
  · exact va_Nw.warmD hW h
  · exact va_Nw.warmD hW h
  · exact va_Nw.warmC hW h
  · exact va_Nw.warmC hW h
  · exact va_Nw.warmC hW h
  · exact va_Nw.warmC hW h
  · exact va_Nw.warmC hW h
  · exact va_Nw.warmC hW h
  · exact va_Nw.warmC hW h
  · exact va_Nw.warmC hW h
theorem cK1_A (G : cG) : jA (cK1 G) := fun u U hW h => ⟨va_K.moved hW.alike h.1, fun w hw => cNw_A hw u U hW (h.2.1 w hw), fun C hC => va_AO.moved hW.alike (h.2.2 C hC)⟩
section CR
variable {p : Program} {l : Launch} {e : Env} {R : Room} {s : State} {m : MethodId} {args : Array Value} {below : List Frame} {meth : Method} {c : Code}
variable {NX : Nat} {Q : State → Prop} {nL : Nat} {cc : ByteArray} {fr lo : Nat} {ret : Option FieldType} {own : String}
variable {pc pc' : Nat} {σ σ' : SS} {lv lv' : List (Nat × Value)} {st st' : List Value} {Z : Prop} {G : cG} {d : DS} {ρ : Type} {res : ρ} {KK : State → Prop}
/-- a step of the kit that writes the picture's cells and makes none -/
theorem cw_step (hH : cH G KK) (kk : jj p l e R s m args below meth c (hA G) NX Q (cWo G d) (cnx d) nL σ' pc' lv st' Z) (row : ∀ (H : Heap) (locs : List Loc) (ls : Array Slot), va_P (hD G) jcl (ccs G d σ) H → va_D (hA G) (ccs G d σ) → va_S (hA G) H H locs → lv_has ls nL lv → (∀ (H1 : Heap) (locs1 : List Loc), va_P (hD G) jcl (ccs G d σ') H1 → va_D (hA G) (ccs G d σ') → va_S (hA G) H H1 locs1 → W p l e R s m args below meth c H1 locs1 (d.2 - s.heap.size) (41 * (d.2 - s.heap.size)) Q (F0 m pc' ls st')) → W p l e R s m args below meth c H locs (d.2 - s.heap.size) (41 * (d.2 - s.heap.size)) Q (F0 m pc ls st)) : jj p l e R s m args below meth c (hA G) NX Q (cWo G d) (cnx d) nL σ pc lv st Z := by
  intro hz
  obtain ⟨hle, hw⟩ := kk hz
  refine ⟨hle, fun H locs ls hW hn hS hl => ?_⟩
  have hs0 : s.heap.size ≤ d.2 := by have h := hS.1; rw [hn] at h; exact h
  refine row H locs ls hW.1 hW.2.1 ⟨Nat.le_refl _, fun _ _ _ => rfl, hS.2.2⟩ hl (fun H1 locs1 hP1 hD1 hS1 => ?_)
  intro T hT X
  have hup : T.heap.size ≤ s.heap.size + (d.2 - s.heap.size) := X.heapSize
  rw [hT] at hup
  have hsz : H1.size = d.2 := by have h1 := hS1.1; rw [hn] at h1; have : (cnx d σ : Nat) = d.2 := rfl; omega
  exact hw H1 locs1 ls ⟨hP1, hD1, hH.2.2.1 H H1 hS1.1 hS1.2.1 hW.2.2⟩ hsz ⟨Nat.le_trans hS.1 hS1.1, fun q h1 h2 => (hS1.2.1 q (Nat.lt_of_lt_of_le h1 hS.1) h2).trans (hS.2.1 q h1 h2), hS1.2.2⟩ hl T hT X
theorem cg_get (hk : jk p R s m args meth c NX cc nL own fr lo ret) (hH : cH G KK) (hK : KK s) {C ref : String} {T : u_T} {N ci k index q0 a : Nat} {fs : List Value} {v : Value} (hin : ∀ w ∈ u_ws C T N, w ∈ lw_all) (he : (ccs G d σ)[q0]? = some (a, .inr (ci, fs))) (hc : jcl[ci]? = some (C, T, N)) (hkN : k < N) (hlink : Cond.fieldLink own index ref (T k).2.1 (T k).2.2.1 ∈ lw_all) (href : ref = (T k).1) (hv : fs[k]? = some v) (hd : decode cc pc = .ok (.getfield index, 3))
    (kk : jj p l e R s m args below meth c (hA G) NX Q (cWo G d) (cnx d) nL σ (pc + 3) lv (v :: st) Z) : jj p l e R s m args below meth c (hA G) NX Q (cWo G d) (cnx d) nL σ pc lv (.ref a :: st) Z :=
  fun hz => ⟨(kk hz).1, fun H locs ls hW hn hS hl => va_get hk.1.1 hk.1.2.1 hk.1.2.2.2.2 hin hk.1.2.2.2.1 (hH.2.1 s hK).1 hW.1 q0 he hc k hkN (hk.1.2.2.2.2 _ hlink) (fun _ h => by rw [href]; exact h) hv hd ((kk hz).2 H locs ls hW hn hS hl)⟩
theorem cg_getS (hk : jk p R s m args meth c NX cc nL own fr lo ret) (hH : cH G KK) (hK : KK s) {C ref : String} {T : u_T} {N ci k index q0 a : Nat} {fs : List Value} {v : Value} (hin : ∀ w ∈ u_ws C T N, w ∈ lw_all) (he : (ccs G d σ)[q0]? = some (a, .inr (ci, fs))) (hc : jcl[ci]? = some (C, T, N)) (hkN : k < N) (hlink : Cond.fieldLink own index ref (T k).2.1 (T k).2.2.1 ∈ lw_all) (href : Cond.sameField ref (T k).1 (T k).2.1 (T k).2.2.1 ∈ lw_all) (hv : fs[k]? = some v) (hd : decode cc pc = .ok (.getfield index, 3))
    (kk : jj p l e R s m args below meth c (hA G) NX Q (cWo G d) (cnx d) nL σ (pc + 3) lv (v :: st) Z) : jj p l e R s m args below meth c (hA G) NX Q (cWo G d) (cnx d) nL σ pc lv (.ref a :: st) Z :=
  fun hz => ⟨(kk hz).1, fun H locs ls hW hn hS hl => va_get hk.1.1 hk.1.2.1 hk.1.2.2.2.2 hin hk.1.2.2.2.1 (hH.2.1 s hK).1 hW.1 q0 he hc k hkN (hk.1.2.2.2.2 _ hlink) (u_same (hk.1.2.2.2.2 _ href)) hv hd ((kk hz).2 H locs ls hW hn hS hl)⟩
theorem cg_getN (hk : jk p R s m args meth c NX cc nL own fr lo ret) (hH : cH G KK) (hK : KK s) {C ref host : String} {T : u_T} {N ci k index q0 a : Nat} {fs : List Value} {v : Value} (hin : ∀ w ∈ u_ws C T N, w ∈ lw_all) (he : (ccs G d σ)[q0]? = some (a, .inr (ci, fs))) (hc : jcl[ci]? = some (C, T, N)) (hkN : k < N) (hlink : Cond.fieldLinkNest own index ref (T k).2.1 (T k).2.2.1 host ∈ cNw) (href : ref = (T k).1) (hv : fs[k]? = some v) (hd : decode cc pc = .ok (.getfield index, 3))
    (kk : jj p l e R s m args below meth c (hA G) NX Q (cWo G d) (cnx d) nL σ (pc + 3) lv (v :: st) Z) : jj p l e R s m args below meth c (hA G) NX Q (cWo G d) (cnx d) nL σ pc lv (.ref a :: st) Z :=
  fun hz => ⟨(kk hz).1, fun H locs ls hW hn hS hl => va_getN hk.1.1 hk.1.2.1 hk.1.2.2.2.2 hin hk.1.2.2.2.1 (hH.2.1 s hK).1 hW.1 q0 he hc k hkN (va_Nw.use rfl ((hH.2.1 s hK).2.1 _ hlink)) (fun _ h => by rw [href]; exact h) hv hd ((kk hz).2 H locs ls hW hn hS hl)⟩
theorem cg_put (hk : jk p R s m args meth c NX cc nL own fr lo ret) (hH : cH G KK) (hK : KK s) {C ref : String} {T : u_T} {N ci k index q0 a : Nat} {fs : List Value} {v : Value} {ty : FieldType} (hin : ∀ w ∈ u_ws C T N, w ∈ lw_all) (ty0 : Nat → FieldType) (hty : ∀ k, k < N → parseFieldDescriptor (T k).2.2.1 = some (ty0 k)) (hnm : ∀ a, a < N → ∀ b, b < N → a ≠ b → (T a).2.1 ≠ (T b).2.1) (he : (ccs G d σ)[q0]? = some (a, .inr (ci, fs))) (hc : jcl[ci]? = some (C, T, N)) (hkN : k < N) (hlink : Cond.fieldLink own index ref (T k).2.1 (T k).2.2.1 ∈ lw_all) (href : ref = (T k).1) (hfin : (T k).2.2.2 = false) (htyk : ty0 k = ty) (hnar : narrow ty v = v) (hfit : fits ty v = true) (hl2 : k < fs.length) (hd : decode cc pc = .ok (.putfield index, 3))
    (hcs : ccs G d σ' = (ccs G d σ).set q0 (a, .inr (ci, fs.set k v))) (kk : jj p l e R s m args below meth c (hA G) NX Q (cWo G d) (cnx d) nL σ' (pc + 3) lv st Z) : jj p l e R s m args below meth c (hA G) NX Q (cWo G d) (cnx d) nL σ pc lv (v :: .ref a :: st) Z :=
  cw_step hH kk (fun H locs ls hP hD hS hl go => va_put hk.1.1 hk.1.2.1 hk.1.2.2.2.2 hin ty0 hty hnm hk.1.2.2.2.1 (hH.2.1 s hK).1 hP hD hS q0 he hc k hkN (hk.1.2.2.2.2 _ hlink) (fun _ h => by rw [href]; exact h) hfin (by rw [← htyk]; exact hty k hkN) hnar hfit hl2 hd (fun H1 locs1 h1 h2 h3 => go H1 locs1 (by rw [hcs]; exact h1) (by rw [hcs]; exact h2) h3))
theorem cg_putN (hk : jk p R s m args meth c NX cc nL own fr lo ret) (hH : cH G KK) (hK : KK s) {C ref host : String} {T : u_T} {N ci k index q0 a : Nat} {fs : List Value} {v : Value} {ty : FieldType} (hin : ∀ w ∈ u_ws C T N, w ∈ lw_all) (ty0 : Nat → FieldType) (hty : ∀ k, k < N → parseFieldDescriptor (T k).2.2.1 = some (ty0 k)) (hnm : ∀ a, a < N → ∀ b, b < N → a ≠ b → (T a).2.1 ≠ (T b).2.1) (he : (ccs G d σ)[q0]? = some (a, .inr (ci, fs))) (hc : jcl[ci]? = some (C, T, N)) (hkN : k < N) (hlink : Cond.fieldLinkNest own index ref (T k).2.1 (T k).2.2.1 host ∈ cNw) (href : ref = (T k).1) (hfin : (T k).2.2.2 = false) (htyk : ty0 k = ty) (hnar : narrow ty v = v) (hfit : fits ty v = true) (hl2 : k < fs.length) (hd : decode cc pc = .ok (.putfield index, 3))
    (hcs : ccs G d σ' = (ccs G d σ).set q0 (a, .inr (ci, fs.set k v))) (kk : jj p l e R s m args below meth c (hA G) NX Q (cWo G d) (cnx d) nL σ' (pc + 3) lv st Z) : jj p l e R s m args below meth c (hA G) NX Q (cWo G d) (cnx d) nL σ pc lv (v :: .ref a :: st) Z :=
  cw_step hH kk (fun H locs ls hP hD hS hl go => va_putN hk.1.1 hk.1.2.1 hk.1.2.2.2.2 hin ty0 hty hnm hk.1.2.2.2.1 (hH.2.1 s hK).1 hP hD hS q0 he hc k hkN (va_Nw.use rfl ((hH.2.1 s hK).2.1 _ hlink)) (fun _ h => by rw [href]; exact h) hfin (by rw [← htyk]; exact hty k hkN) hnar hfit hl2 hd (fun H1 locs1 h1 h2 h3 => go H1 locs1 (by rw [hcs]; exact h1) (by rw [hcs]; exact h2) h3))
def ldC (σ : SS) (j : Nat) (i : Int32) : Option Int32 := if i < 0 ∨ lenC j ≤ i.toNatClampNeg then none else some (σ.2.1 j i.toNatClampNeg)
def stC (σ : SS) (j : Nat) (i x : Int32) : Option SS := if i < 0 ∨ lenC j ≤ i.toNatClampNeg then none else some (sA σ j (upd (σ.2.1 j) i.toNatClampNeg x))
def stB (σ : SS) (j : Nat) (i x : Int32) : Option SS := if i < 0 ∨ lenC j ≤ i.toNatClampNeg then none else some (sA σ j (upd (σ.2.1 j) i.toNatClampNeg (vp_nar .byte x)))
def cpC (σ : SS) (j1 : Nat) (sp : Int32) (j2 : Nat) (dp n : Int32) : Option SS := if ¬ sp < 0 ∧ ¬ dp < 0 ∧ ¬ n < 0 ∧ sp.toNatClampNeg + n.toNatClampNeg ≤ lenC j1 ∧ dp.toNatClampNeg + n.toNatClampNeg ≤ lenC j2 then some (sA σ j2 (va_cpy (σ.2.1 j1) (σ.2.1 j2) sp.toNatClampNeg dp.toNatClampNeg n.toNatClampNeg)) else none
theorem jc_ld (hk : jk p R s m args meth c NX cc nL own fr lo ret) (hH : cH G KK) (hK : KK s) {j : Nat} {i : Int32} {K : Int32 → Option ρ} (hj : j < 46) (hd : decode cc pc = .ok (.iaload, 1)) (kk : ∀ v, jj p l e R s m args below meth c (hA G) NX Q (cWo G d) (cnx d) nL σ (pc + 1) lv (.int v :: st) (K v = some res)) : jj p l e R s m args below meth c (hA G) NX Q (cWo G d) (cnx d) nL σ pc lv (.int i :: .ref (ha G (15 + j)) :: st) ((ldC σ j i).bind K = some res) := by
  intro hz
  unfold ldC at hz
  by_cases h : i < 0 ∨ lenC j ≤ i.toNatClampNeg
  · rw [if_pos h] at hz; cases hz
  · rw [if_neg h] at hz
    have hat := ccs_A G d σ (show j < 47 by omega)
    have hk2 := kk _ hz
    exact ⟨hk2.1, fun H locs ls hW hn hS hl => va_iald hk.1.1 hk.1.2.1 (hH.2.1 s hK).1 hW.1 (15 + j) 0 (by rw [hat]; unfold cArr; rw [if_neg (by omega)]) rfl h hd (hk2.2 H locs ls hW hn hS hl)⟩
theorem jc_bld (hk : jk p R s m args meth c NX cc nL own fr lo ret) (hH : cH G KK) (hK : KK s) {i : Int32} {K : Int32 → Option ρ} (hd : decode cc pc = .ok (.baload, 1)) (kk : ∀ v, jj p l e R s m args below meth c (hA G) NX Q (cWo G d) (cnx d) nL σ (pc + 1) lv (.int v :: st) (K v = some res)) : jj p l e R s m args below meth c (hA G) NX Q (cWo G d) (cnx d) nL σ pc lv (.int i :: .ref (ha G 61) :: st) ((ldC σ 46 i).bind K = some res) := by
  intro hz
  unfold ldC at hz
  by_cases h : i < 0 ∨ lenC 46 ≤ i.toNatClampNeg
  · rw [if_pos h] at hz; cases hz
  · rw [if_neg h] at hz
    have hat := ccs_A G d σ (show 46 < 47 by omega)
    have hk2 := kk _ hz
    exact ⟨hk2.1, fun H locs ls hW hn hS hl => va_bald hk.1.1 hk.1.2.1 (hH.2.1 s hK).1 hW.1 61 1 hat rfl h hd (hk2.2 H locs ls hW hn hS hl)⟩
theorem jc_st (hk : jk p R s m args meth c NX cc nL own fr lo ret) (hH : cH G KK) (hK : KK s) {j : Nat} {i x : Int32} {K : SS → Option ρ} (hj : j < 46) (hd : decode cc pc = .ok (.iastore, 1)) (kk : ∀ σ', jj p l e R s m args below meth c (hA G) NX Q (cWo G d) (cnx d) nL σ' (pc + 1) lv st (K σ' = some res)) : jj p l e R s m args below meth c (hA G) NX Q (cWo G d) (cnx d) nL σ pc lv (.int x :: .int i :: .ref (ha G (15 + j)) :: st) ((stC σ j i x).bind K = some res) := by
  intro hz
  unfold stC at hz
  by_cases h : i < 0 ∨ lenC j ≤ i.toNatClampNeg
  · rw [if_pos h] at hz; cases hz
  · rw [if_neg h] at hz
    have hat := ccs_A G d σ (show j < 47 by omega)
    have hst := ccs_setA G d σ (show j < 47 by omega) (upd (σ.2.1 j) i.toNatClampNeg x)
    refine cw_step hH (kk _) (fun H locs ls hP hD hS hl go => va_iast hk.1.1 hk.1.2.1 (hH.2.1 s hK).1 hP hD hS (15 + j) 0 (by rw [hat]; unfold cArr; rw [if_neg (by omega)]) rfl h hd (fun H1 locs1 h1 h2 h3 => go H1 locs1 ?_ ?_ h3)) hz
    · rw [hst, if_neg (by omega)]; exact h1
    · rw [hst, if_neg (by omega)]; exact h2
theorem jc_cp (hk : jk p R s m args meth c NX cc nL own fr lo ret) (hH : cH G KK) (hK : KK s) {idx j1 j2 : Nat} (hlk : Cond.methodLink own idx arraycopyName ∈ lw_all) {sp dp n : Int32} {K : SS → Option ρ} (hj1 : j1 < 46) (hj2 : j2 < 46) (hd : decode cc pc = .ok (.invokestatic idx, 3)) (hr : 1 ≤ fr ∧ 30 ≤ lo) (hw : (st.map fun v => v.category).sum ≤ 8) (kk : ∀ σ', jj p l e R s m args below meth c (hA G) NX Q (cWo G d) (cnx d) nL σ' (pc + 3) lv st (K σ' = some res)) : jj p l e R s m args below meth c (hA G) NX Q (cWo G d) (cnx d) nL σ pc lv (.int n :: .int dp :: .ref (ha G (15 + j2)) :: .int sp :: .ref (ha G (15 + j1)) :: st) ((cpC σ j1 sp j2 dp n).bind K = some res) := by
  intro hz
  unfold cpC at hz
  by_cases h : ¬ sp < 0 ∧ ¬ dp < 0 ∧ ¬ n < 0 ∧ sp.toNatClampNeg + n.toNatClampNeg ≤ lenC j1 ∧ dp.toNatClampNeg + n.toNatClampNeg ≤ lenC j2
  · rw [if_pos h] at hz
    have hat1 := ccs_A G d σ (show j1 < 47 by omega)
    have hat2 := ccs_A G d σ (show j2 < 47 by omega)
    have hst := ccs_setA G d σ (show j2 < 47 by omega) (va_cpy (σ.2.1 j1) (σ.2.1 j2) sp.toNatClampNeg dp.toNatClampNeg n.toNatClampNeg)
    refine cw_step hH (kk _) (fun H locs ls hP hD hS hl go => va_copyi hk.1.1 hk.1.2.1 (by rw [hk.1.2.2.1]; exact hl.1.symm) hk.1.2.2.2.1 (hk.1.2.2.2.2 _ hlk) (hk.1.2.2.2.2 _ q932) (hk.1.2.2.2.2 _ q931) (hk.1.2.2.2.2 _ q145) (hH.2.1 s hK).1 hP hD hS (15 + j1) (15 + j2) 0 0 (by rw [hat1]; unfold cArr; rw [if_neg (by omega)]) (by rw [hat2]; unfold cArr; rw [if_neg (by omega)]) rfl rfl rfl h.1 h.2.1 h.2.2.1 h.2.2.2.1 h.2.2.2.2 (fun _ _ => rfl) (by rw [hk.2.1]; exact hr.1) ?_ hd (fun H1 locs1 h1 h2 h3 => go H1 locs1 ?_ ?_ h3)) hz
    · rw [hk.2.1]
      have : nativeFrameWords "java/lang/System" "arraycopy" 5 = 7 := by decide
      rw [this]
      show _ ≤ lo
      omega
    · rw [hst, if_neg (by omega)]; exact h1
    · rw [hst, if_neg (by omega)]; exact h2
  · rw [if_neg h] at hz; cases hz
theorem jc_max (hk : jk p R s m args meth c NX cc nL own fr lo ret) (hH : cH G KK) (hK : KK s) {idx : Nat} (hlk : Cond.methodLink own idx Lib.Math.max.name ∈ lw_all) {x y : Int32} (hd : decode cc pc = .ok (.invokestatic idx, 3)) (hr : 1 ≤ fr ∧ 30 ≤ lo) (hw : (st.map fun v => v.category).sum ≤ 8) (kk : jj p l e R s m args below meth c (hA G) NX Q (cWo G d) (cnx d) nL σ (pc + 3) lv (.int (if x < y then y else x) :: st) Z) : jj p l e R s m args below meth c (hA G) NX Q (cWo G d) (cnx d) nL σ pc lv (.int y :: .int x :: st) Z :=
  fun hz => ⟨(kk hz).1, fun H locs ls hW hn hS hl => va_mmax hk.1.1 hk.1.2.1 (by rw [hk.1.2.2.1]; exact hl.1.symm) hk.1.2.2.2.1 (hk.1.2.2.2.2 _ hlk) (hk.1.2.2.2.2 _ q1011) (hk.1.2.2.2.2 _ q146) (hk.1.2.2.2.2 _ q1012) (by rw [hk.2.1]; exact hr.1) (by rw [hk.2.1]; show _ ≤ lo; omega) (by rw [hk.2.1]; have := (kk hz).1; show _ ≤ NX - s.heap.size; dsimp only [cnx] at this ⊢; omega) (by rw [hk.2.1]; have := (kk hz).1; show _ ≤ 41 * (NX - s.heap.size); dsimp only [cnx] at this ⊢; omega) hd ((kk hz).2 H locs ls hW hn hS hl)⟩
theorem jc_min (hk : jk p R s m args meth c NX cc nL own fr lo ret) (hH : cH G KK) (hK : KK s) {idx : Nat} (hlk : Cond.methodLink own idx Lib.Math.min.name ∈ lw_all) {x y : Int32} (hd : decode cc pc = .ok (.invokestatic idx, 3)) (hr : 1 ≤ fr ∧ 30 ≤ lo) (hw : (st.map fun v => v.category).sum ≤ 8) (kk : jj p l e R s m args below meth c (hA G) NX Q (cWo G d) (cnx d) nL σ (pc + 3) lv (.int (if y < x then y else x) :: st) Z) : jj p l e R s m args below meth c (hA G) NX Q (cWo G d) (cnx d) nL σ pc lv (.int y :: .int x :: st) Z :=
  fun hz => ⟨(kk hz).1, fun H locs ls hW hn hS hl => va_mmin hk.1.1 hk.1.2.1 (by rw [hk.1.2.2.1]; exact hl.1.symm) hk.1.2.2.2.1 (hk.1.2.2.2.2 _ hlk) (hk.1.2.2.2.2 _ q1096) (hk.1.2.2.2.2 _ q146) (hk.1.2.2.2.2 _ q1097) (by rw [hk.2.1]; exact hr.1) (by rw [hk.2.1]; show _ ≤ lo; omega) (by rw [hk.2.1]; have := (kk hz).1; show _ ≤ NX - s.heap.size; dsimp only [cnx] at this ⊢; omega) (by rw [hk.2.1]; have := (kk hz).1; show _ ≤ 41 * (NX - s.heap.size); dsimp only [cnx] at this ⊢; omega) hd ((kk hz).2 H locs ls hW hn hS hl)⟩
theorem jc_g_refusal (hk : jk p R s m args meth c NX cc nL RX0 fr lo ret) (hH : cH G KK) (hK : KK s) (hd : decode cc pc = .ok (.getfield 3, 3)) (kk : jj p l e R s m args below meth c (hA G) NX Q (cWo G d) (cnx d) nL σ (pc + 3) lv (.ref (ha G 1) :: st) Z) : jj p l e R s m args below meth c (hA G) NX Q (cWo G d) (cnx d) nL σ pc lv (.ref (ha G 0) :: st) Z :=
  cg_get (q0 := 0) (ci := 1) (k := 0) hk hH hK in_X0 rfl rfl (by decide) q405 rfl rfl hd kk
theorem jc_g_fault (hk : jk p R s m args meth c NX cc nL RX0 fr lo ret) (hH : cH G KK) (hK : KK s) (hd : decode cc pc = .ok (.getfield 40, 3)) (kk : jj p l e R s m args below meth c (hA G) NX Q (cWo G d) (cnx d) nL σ (pc + 3) lv (.ref (ha G 2) :: st) Z) : jj p l e R s m args below meth c (hA G) NX Q (cWo G d) (cnx d) nL σ pc lv (.ref (ha G 0) :: st) Z :=
  cg_get (q0 := 0) (ci := 1) (k := 1) hk hH hK in_X0 rfl rfl (by decide) q406 rfl rfl hd kk
theorem jc_g_now (hk : jk p R s m args meth c NX cc nL RX0 fr lo ret) (hH : cH G KK) (hK : KK s) (hd : decode cc pc = .ok (.getfield 47, 3)) (kk : jj p l e R s m args below meth c (hA G) NX Q (cWo G d) (cnx d) nL σ (pc + 3) lv (.ref (ha G 3) :: st) Z) : jj p l e R s m args below meth c (hA G) NX Q (cWo G d) (cnx d) nL σ pc lv (.ref (ha G 0) :: st) Z :=
  cg_get (q0 := 0) (ci := 1) (k := 2) hk hH hK in_X0 rfl rfl (by decide) q407 rfl rfl hd kk
theorem jc_g_kept (hk : jk p R s m args meth c NX cc nL RX0 fr lo ret) (hH : cH G KK) (hK : KK s) (hd : decode cc pc = .ok (.getfield 51, 3)) (kk : jj p l e R s m args below meth c (hA G) NX Q (cWo G d) (cnx d) nL σ (pc + 3) lv (.ref (ha G 4) :: st) Z) : jj p l e R s m args below meth c (hA G) NX Q (cWo G d) (cnx d) nL σ pc lv (.ref (ha G 0) :: st) Z :=
  cg_get (q0 := 0) (ci := 1) (k := 3) hk hH hK in_X0 rfl rfl (by decide) q408 rfl rfl hd kk
theorem jc_g_tried (hk : jk p R s m args meth c NX cc nL RX0 fr lo ret) (hH : cH G KK) (hK : KK s) (hd : decode cc pc = .ok (.getfield 54, 3)) (kk : jj p l e R s m args below meth c (hA G) NX Q (cWo G d) (cnx d) nL σ (pc + 3) lv (.ref (ha G 5) :: st) Z) : jj p l e R s m args below meth c (hA G) NX Q (cWo G d) (cnx d) nL σ pc lv (.ref (ha G 0) :: st) Z :=
  cg_get (q0 := 0) (ci := 1) (k := 4) hk hH hK in_X0 rfl rfl (by decide) q409 rfl rfl hd kk
theorem jc_g_hands (hk : jk p R s m args meth c NX cc nL RX0 fr lo ret) (hH : cH G KK) (hK : KK s) (hd : decode cc pc = .ok (.getfield 59, 3)) (kk : jj p l e R s m args below meth c (hA G) NX Q (cWo G d) (cnx d) nL σ (pc + 3) lv (.ref (ha G 62) :: st) Z) : jj p l e R s m args below meth c (hA G) NX Q (cWo G d) (cnx d) nL σ pc lv (.ref (ha G 0) :: st) Z :=
  cg_get (q0 := 0) (ci := 1) (k := 5) hk hH hK in_X0 rfl rfl (by decide) q410 rfl rfl hd kk
theorem jc_g_isKept (hk : jk p R s m args meth c NX cc nL RX0 fr lo ret) (hH : cH G KK) (hK : KK s) (hd : decode cc pc = .ok (.getfield 607, 3)) (kk : jj p l e R s m args below meth c (hA G) NX Q (cWo G d) (cnx d) nL σ (pc + 3) lv (.int (σ.1 36) :: st) Z) : jj p l e R s m args below meth c (hA G) NX Q (cWo G d) (cnx d) nL σ pc lv (.ref (ha G 0) :: st) Z :=
  cg_get (q0 := 0) (ci := 1) (k := 6) hk hH hK in_X0 rfl rfl (by decide) q411 rfl rfl hd kk
theorem jc_p_isKept (hk : jk p R s m args meth c NX cc nL RX0 fr lo ret) (hH : cH G KK) (hK : KK s) {b : Bool} {K : SS → Option ρ} (hd : decode cc pc = .ok (.putfield 607, 3)) (kk : ∀ σ', jj p l e R s m args below meth c (hA G) NX Q (cWo G d) (cnx d) nL σ' (pc + 3) lv st (K σ' = some res)) : jj p l e R s m args below meth c (hA G) NX Q (cWo G d) (cnx d) nL σ pc lv (.int (bI b) :: .ref (ha G 0) :: st) ((some (sI σ 36 (bI b))).bind K = some res) :=
  cg_put (σ' := sI σ 36 (bI b)) (q0 := 0) (ci := 1) (k := 6) hk hH hK in_X0 tyX0 tyX0_ok nmX0 rfl rfl (by decide) q411 rfl rfl rfl (narrow_bI b) (fits_bI b) (Nat.le_of_ble_eq_true rfl) hd (ccs_setO G d σ _ (by decide) _ rfl rfl rfl) (kk _)
theorem jc_g_kindNames (hk : jk p R s m args meth c NX cc nL RX0 fr lo ret) (hH : cH G KK) (hK : KK s) (hd : decode cc pc = .ok (.getfield 77, 3)) (kk : jj p l e R s m args below meth c (hA G) NX Q (cWo G d) (cnx d) nL σ (pc + 3) lv (.ref (ha G 64) :: st) Z) : jj p l e R s m args below meth c (hA G) NX Q (cWo G d) (cnx d) nL σ pc lv (.ref (ha G 0) :: st) Z :=
  cg_get (q0 := 0) (ci := 1) (k := 7) hk hH hK in_X0 rfl rfl (by decide) q412 rfl rfl hd kk
theorem jc_g_doings (hk : jk p R s m args meth c NX cc nL RX0 fr lo ret) (hH : cH G KK) (hK : KK s) (hd : decode cc pc = .ok (.getfield 87, 3)) (kk : jj p l e R s m args below meth c (hA G) NX Q (cWo G d) (cnx d) nL σ (pc + 3) lv (.ref (ha G 65) :: st) Z) : jj p l e R s m args below meth c (hA G) NX Q (cWo G d) (cnx d) nL σ pc lv (.ref (ha G 0) :: st) Z :=
  cg_get (q0 := 0) (ci := 1) (k := 8) hk hH hK in_X0 rfl rfl (by decide) q413 rfl rfl hd kk
theorem jc_g_names (hk : jk p R s m args meth c NX cc nL RX0 fr lo ret) (hH : cH G KK) (hK : KK s) (hd : decode cc pc = .ok (.getfield 100, 3)) (kk : jj p l e R s m args below meth c (hA G) NX Q (cWo G d) (cnx d) nL σ (pc + 3) lv (.ref (ha G 66) :: st) Z) : jj p l e R s m args below meth c (hA G) NX Q (cWo G d) (cnx d) nL σ pc lv (.ref (ha G 0) :: st) Z :=
  cg_get (q0 := 0) (ci := 1) (k := 9) hk hH hK in_X0 rfl rfl (by decide) q414 rfl rfl hd kk
theorem jc_g_tape (hk : jk p R s m args meth c NX cc nL RX0 fr lo ret) (hH : cH G KK) (hK : KK s) (hd : decode cc pc = .ok (.getfield 103, 3)) (kk : jj p l e R s m args below meth c (hA G) NX Q (cWo G d) (cnx d) nL σ (pc + 3) lv (.ref (ha G 61) :: st) Z) : jj p l e R s m args below meth c (hA G) NX Q (cWo G d) (cnx d) nL σ pc lv (.ref (ha G 0) :: st) Z :=
  cg_get (q0 := 0) (ci := 1) (k := 10) hk hH hK in_X0 rfl rfl (by decide) q415 rfl rfl hd kk
theorem jc_g_tapeMany (hk : jk p R s m args meth c NX cc nL RX0 fr lo ret) (hH : cH G KK) (hK : KK s) (hd : decode cc pc = .ok (.getfield 230, 3)) (kk : jj p l e R s m args below meth c (hA G) NX Q (cWo G d) (cnx d) nL σ (pc + 3) lv (.int (σ.1 41) :: st) Z) : jj p l e R s m args below meth c (hA G) NX Q (cWo G d) (cnx d) nL σ pc lv (.ref (ha G 0) :: st) Z :=
  cg_get (q0 := 0) (ci := 1) (k := 11) hk hH hK in_X0 rfl rfl (by decide) q416 rfl rfl hd kk
theorem jc_p_tapeMany (hk : jk p R s m args meth c NX cc nL RX0 fr lo ret) (hH : cH G KK) (hK : KK s) {x : Int32} {K : SS → Option ρ} (hd : decode cc pc = .ok (.putfield 230, 3)) (kk : ∀ σ', jj p l e R s m args below meth c (hA G) NX Q (cWo G d) (cnx d) nL σ' (pc + 3) lv st (K σ' = some res)) : jj p l e R s m args below meth c (hA G) NX Q (cWo G d) (cnx d) nL σ pc lv (.int x :: .ref (ha G 0) :: st) ((some (sI σ 41 x)).bind K = some res) :=
  cg_put (σ' := sI σ 41 x) (q0 := 0) (ci := 1) (k := 11) hk hH hK in_X0 tyX0 tyX0_ok nmX0 rfl rfl (by decide) q416 rfl rfl rfl (vp_nar_int x) rfl (Nat.le_of_ble_eq_true rfl) hd (ccs_setO G d σ _ (by decide) _ rfl rfl rfl) (kk _)
theorem jc_g_at (hk : jk p R s m args meth c NX cc nL RX0 fr lo ret) (hH : cH G KK) (hK : KK s) (hd : decode cc pc = .ok (.getfield 234, 3)) (kk : jj p l e R s m args below meth c (hA G) NX Q (cWo G d) (cnx d) nL σ (pc + 3) lv (.int (σ.1 42) :: st) Z) : jj p l e R s m args below meth c (hA G) NX Q (cWo G d) (cnx d) nL σ pc lv (.ref (ha G 0) :: st) Z :=
  cg_get (q0 := 0) (ci := 1) (k := 12) hk hH hK in_X0 rfl rfl (by decide) q417 rfl rfl hd kk
theorem jc_p_at (hk : jk p R s m args meth c NX cc nL RX0 fr lo ret) (hH : cH G KK) (hK : KK s) {x : Int32} {K : SS → Option ρ} (hd : decode cc pc = .ok (.putfield 234, 3)) (kk : ∀ σ', jj p l e R s m args below meth c (hA G) NX Q (cWo G d) (cnx d) nL σ' (pc + 3) lv st (K σ' = some res)) : jj p l e R s m args below meth c (hA G) NX Q (cWo G d) (cnx d) nL σ pc lv (.int x :: .ref (ha G 0) :: st) ((some (sI σ 42 x)).bind K = some res) :=
  cg_put (σ' := sI σ 42 x) (q0 := 0) (ci := 1) (k := 12) hk hH hK in_X0 tyX0 tyX0_ok nmX0 rfl rfl (by decide) q417 rfl rfl rfl (vp_nar_int x) rfl (Nat.le_of_ble_eq_true rfl) hd (ccs_setO G d σ _ (by decide) _ rfl rfl rfl) (kk _)
theorem jc_g_end (hk : jk p R s m args meth c NX cc nL RX0 fr lo ret) (hH : cH G KK) (hK : KK s) (hd : decode cc pc = .ok (.getfield 233, 3)) (kk : jj p l e R s m args below meth c (hA G) NX Q (cWo G d) (cnx d) nL σ (pc + 3) lv (.int (σ.1 43) :: st) Z) : jj p l e R s m args below meth c (hA G) NX Q (cWo G d) (cnx d) nL σ pc lv (.ref (ha G 0) :: st) Z :=
  cg_get (q0 := 0) (ci := 1) (k := 13) hk hH hK in_X0 rfl rfl (by decide) q418 rfl rfl hd kk
theorem jc_p_end (hk : jk p R s m args meth c NX cc nL RX0 fr lo ret) (hH : cH G KK) (hK : KK s) {x : Int32} {K : SS → Option ρ} (hd : decode cc pc = .ok (.putfield 233, 3)) (kk : ∀ σ', jj p l e R s m args below meth c (hA G) NX Q (cWo G d) (cnx d) nL σ' (pc + 3) lv st (K σ' = some res)) : jj p l e R s m args below meth c (hA G) NX Q (cWo G d) (cnx d) nL σ pc lv (.int x :: .ref (ha G 0) :: st) ((some (sI σ 43 x)).bind K = some res) :=
  cg_put (σ' := sI σ 43 x) (q0 := 0) (ci := 1) (k := 13) hk hH hK in_X0 tyX0 tyX0_ok nmX0 rfl rfl (by decide) q418 rfl rfl rfl (vp_nar_int x) rfl (Nat.le_of_ble_eq_true rfl) hd (ccs_setO G d σ _ (by decide) _ rfl rfl rfl) (kk _)
theorem jc_g_facts (hk : jk p R s m args meth c NX cc nL RX0 fr lo ret) (hH : cH G KK) (hK : KK s) (hd : decode cc pc = .ok (.getfield 107, 3)) (kk : jj p l e R s m args below meth c (hA G) NX Q (cWo G d) (cnx d) nL σ (pc + 3) lv (.ref (ha G 54) :: st) Z) : jj p l e R s m args below meth c (hA G) NX Q (cWo G d) (cnx d) nL σ pc lv (.ref (ha G 0) :: st) Z :=
  cg_get (q0 := 0) (ci := 1) (k := 14) hk hH hK in_X0 rfl rfl (by decide) q419 rfl rfl hd kk
theorem jc_g_sos (hk : jk p R s m args meth c NX cc nL RX0 fr lo ret) (hH : cH G KK) (hK : KK s) (hd : decode cc pc = .ok (.getfield 111, 3)) (kk : jj p l e R s m args below meth c (hA G) NX Q (cWo G d) (cnx d) nL σ (pc + 3) lv (.ref (ha G 55) :: st) Z) : jj p l e R s m args below meth c (hA G) NX Q (cWo G d) (cnx d) nL σ pc lv (.ref (ha G 0) :: st) Z :=
  cg_get (q0 := 0) (ci := 1) (k := 15) hk hH hK in_X0 rfl rfl (by decide) q420 rfl rfl hd kk
theorem jc_g_parts (hk : jk p R s m args meth c NX cc nL RX0 fr lo ret) (hH : cH G KK) (hK : KK s) (hd : decode cc pc = .ok (.getfield 114, 3)) (kk : jj p l e R s m args below meth c (hA G) NX Q (cWo G d) (cnx d) nL σ (pc + 3) lv (.ref (ha G 56) :: st) Z) : jj p l e R s m args below meth c (hA G) NX Q (cWo G d) (cnx d) nL σ pc lv (.ref (ha G 0) :: st) Z :=
  cg_get (q0 := 0) (ci := 1) (k := 16) hk hH hK in_X0 rfl rfl (by decide) q421 rfl rfl hd kk
theorem jc_g_told (hk : jk p R s m args meth c NX cc nL RX0 fr lo ret) (hH : cH G KK) (hK : KK s) (hd : decode cc pc = .ok (.getfield 117, 3)) (kk : jj p l e R s m args below meth c (hA G) NX Q (cWo G d) (cnx d) nL σ (pc + 3) lv (.ref (ha G 57) :: st) Z) : jj p l e R s m args below meth c (hA G) NX Q (cWo G d) (cnx d) nL σ pc lv (.ref (ha G 0) :: st) Z :=
  cg_get (q0 := 0) (ci := 1) (k := 17) hk hH hK in_X0 rfl rfl (by decide) q422 rfl rfl hd kk
theorem jc_g_plan (hk : jk p R s m args meth c NX cc nL RX0 fr lo ret) (hH : cH G KK) (hK : KK s) (hd : decode cc pc = .ok (.getfield 120, 3)) (kk : jj p l e R s m args below meth c (hA G) NX Q (cWo G d) (cnx d) nL σ (pc + 3) lv (.ref (ha G 58) :: st) Z) : jj p l e R s m args below meth c (hA G) NX Q (cWo G d) (cnx d) nL σ pc lv (.ref (ha G 0) :: st) Z :=
  cg_get (q0 := 0) (ci := 1) (k := 18) hk hH hK in_X0 rfl rfl (by decide) q423 rfl rfl hd kk
theorem jc_g_most (hk : jk p R s m args meth c NX cc nL RX0 fr lo ret) (hH : cH G KK) (hK : KK s) (hd : decode cc pc = .ok (.getfield 424, 3)) (kk : jj p l e R s m args below meth c (hA G) NX Q (cWo G d) (cnx d) nL σ (pc + 3) lv (.int (σ.1 49) :: st) Z) : jj p l e R s m args below meth c (hA G) NX Q (cWo G d) (cnx d) nL σ pc lv (.ref (ha G 0) :: st) Z :=
  cg_get (q0 := 0) (ci := 1) (k := 19) hk hH hK in_X0 rfl rfl (by decide) q424 rfl rfl hd kk
theorem jc_p_most (hk : jk p R s m args meth c NX cc nL RX0 fr lo ret) (hH : cH G KK) (hK : KK s) {x : Int32} {K : SS → Option ρ} (hd : decode cc pc = .ok (.putfield 424, 3)) (kk : ∀ σ', jj p l e R s m args below meth c (hA G) NX Q (cWo G d) (cnx d) nL σ' (pc + 3) lv st (K σ' = some res)) : jj p l e R s m args below meth c (hA G) NX Q (cWo G d) (cnx d) nL σ pc lv (.int x :: .ref (ha G 0) :: st) ((some (sI σ 49 x)).bind K = some res) :=
  cg_put (σ' := sI σ 49 x) (q0 := 0) (ci := 1) (k := 19) hk hH hK in_X0 tyX0 tyX0_ok nmX0 rfl rfl (by decide) q424 rfl rfl rfl (vp_nar_int x) rfl (Nat.le_of_ble_eq_true rfl) hd (ccs_setO G d σ _ (by decide) _ rfl rfl rfl) (kk _)
theorem jc_g_ways (hk : jk p R s m args meth c NX cc nL RX0 fr lo ret) (hH : cH G KK) (hK : KK s) (hd : decode cc pc = .ok (.getfield 427, 3)) (kk : jj p l e R s m args below meth c (hA G) NX Q (cWo G d) (cnx d) nL σ (pc + 3) lv (.int (σ.1 50) :: st) Z) : jj p l e R s m args below meth c (hA G) NX Q (cWo G d) (cnx d) nL σ pc lv (.ref (ha G 0) :: st) Z :=
  cg_get (q0 := 0) (ci := 1) (k := 20) hk hH hK in_X0 rfl rfl (by decide) q425 rfl rfl hd kk
theorem jc_p_ways (hk : jk p R s m args meth c NX cc nL RX0 fr lo ret) (hH : cH G KK) (hK : KK s) {x : Int32} {K : SS → Option ρ} (hd : decode cc pc = .ok (.putfield 427, 3)) (kk : ∀ σ', jj p l e R s m args below meth c (hA G) NX Q (cWo G d) (cnx d) nL σ' (pc + 3) lv st (K σ' = some res)) : jj p l e R s m args below meth c (hA G) NX Q (cWo G d) (cnx d) nL σ pc lv (.int x :: .ref (ha G 0) :: st) ((some (sI σ 50 x)).bind K = some res) :=
  cg_put (σ' := sI σ 50 x) (q0 := 0) (ci := 1) (k := 20) hk hH hK in_X0 tyX0 tyX0_ok nmX0 rfl rfl (by decide) q425 rfl rfl rfl (vp_nar_int x) rfl (Nat.le_of_ble_eq_true rfl) hd (ccs_setO G d σ _ (by decide) _ rfl rfl rfl) (kk _)
theorem jc_g_planLong (hk : jk p R s m args meth c NX cc nL RX0 fr lo ret) (hH : cH G KK) (hK : KK s) (hd : decode cc pc = .ok (.getfield 430, 3)) (kk : jj p l e R s m args below meth c (hA G) NX Q (cWo G d) (cnx d) nL σ (pc + 3) lv (.int (σ.1 51) :: st) Z) : jj p l e R s m args below meth c (hA G) NX Q (cWo G d) (cnx d) nL σ pc lv (.ref (ha G 0) :: st) Z :=
  cg_get (q0 := 0) (ci := 1) (k := 21) hk hH hK in_X0 rfl rfl (by decide) q426 rfl rfl hd kk
theorem jc_p_planLong (hk : jk p R s m args meth c NX cc nL RX0 fr lo ret) (hH : cH G KK) (hK : KK s) {x : Int32} {K : SS → Option ρ} (hd : decode cc pc = .ok (.putfield 430, 3)) (kk : ∀ σ', jj p l e R s m args below meth c (hA G) NX Q (cWo G d) (cnx d) nL σ' (pc + 3) lv st (K σ' = some res)) : jj p l e R s m args below meth c (hA G) NX Q (cWo G d) (cnx d) nL σ pc lv (.int x :: .ref (ha G 0) :: st) ((some (sI σ 51 x)).bind K = some res) :=
  cg_put (σ' := sI σ 51 x) (q0 := 0) (ci := 1) (k := 21) hk hH hK in_X0 tyX0 tyX0_ok nmX0 rfl rfl (by decide) q426 rfl rfl rfl (vp_nar_int x) rfl (Nat.le_of_ble_eq_true rfl) hd (ccs_setO G d σ _ (by decide) _ rfl rfl rfl) (kk _)
theorem jc_g_wanted (hk : jk p R s m args meth c NX cc nL RX0 fr lo ret) (hH : cH G KK) (hK : KK s) (hd : decode cc pc = .ok (.getfield 446, 3)) (kk : jj p l e R s m args below meth c (hA G) NX Q (cWo G d) (cnx d) nL σ (pc + 3) lv (.int (σ.1 52) :: st) Z) : jj p l e R s m args below meth c (hA G) NX Q (cWo G d) (cnx d) nL σ pc lv (.ref (ha G 0) :: st) Z :=
  cg_get (q0 := 0) (ci := 1) (k := 22) hk hH hK in_X0 rfl rfl (by decide) q427 rfl rfl hd kk
theorem jc_p_wanted (hk : jk p R s m args meth c NX cc nL RX0 fr lo ret) (hH : cH G KK) (hK : KK s) {x : Int32} {K : SS → Option ρ} (hd : decode cc pc = .ok (.putfield 446, 3)) (kk : ∀ σ', jj p l e R s m args below meth c (hA G) NX Q (cWo G d) (cnx d) nL σ' (pc + 3) lv st (K σ' = some res)) : jj p l e R s m args below meth c (hA G) NX Q (cWo G d) (cnx d) nL σ pc lv (.int x :: .ref (ha G 0) :: st) ((some (sI σ 52 x)).bind K = some res) :=
  cg_put (σ' := sI σ 52 x) (q0 := 0) (ci := 1) (k := 22) hk hH hK in_X0 tyX0 tyX0_ok nmX0 rfl rfl (by decide) q427 rfl rfl rfl (vp_nar_int x) rfl (Nat.le_of_ble_eq_true rfl) hd (ccs_setO G d σ _ (by decide) _ rfl rfl rfl) (kk _)
theorem jc_g_fewest (hk : jk p R s m args meth c NX cc nL RX0 fr lo ret) (hH : cH G KK) (hK : KK s) (hd : decode cc pc = .ok (.getfield 449, 3)) (kk : jj p l e R s m args below meth c (hA G) NX Q (cWo G d) (cnx d) nL σ (pc + 3) lv (.int (σ.1 53) :: st) Z) : jj p l e R s m args below meth c (hA G) NX Q (cWo G d) (cnx d) nL σ pc lv (.ref (ha G 0) :: st) Z :=
  cg_get (q0 := 0) (ci := 1) (k := 23) hk hH hK in_X0 rfl rfl (by decide) q428 rfl rfl hd kk
theorem jc_p_fewest (hk : jk p R s m args meth c NX cc nL RX0 fr lo ret) (hH : cH G KK) (hK : KK s) {x : Int32} {K : SS → Option ρ} (hd : decode cc pc = .ok (.putfield 449, 3)) (kk : ∀ σ', jj p l e R s m args below meth c (hA G) NX Q (cWo G d) (cnx d) nL σ' (pc + 3) lv st (K σ' = some res)) : jj p l e R s m args below meth c (hA G) NX Q (cWo G d) (cnx d) nL σ pc lv (.int x :: .ref (ha G 0) :: st) ((some (sI σ 53 x)).bind K = some res) :=
  cg_put (σ' := sI σ 53 x) (q0 := 0) (ci := 1) (k := 23) hk hH hK in_X0 tyX0 tyX0_ok nmX0 rfl rfl (by decide) q428 rfl rfl rfl (vp_nar_int x) rfl (Nat.le_of_ble_eq_true rfl) hd (ccs_setO G d σ _ (by decide) _ rfl rfl rfl) (kk _)
theorem jc_g_stoodEver (hk : jk p R s m args meth c NX cc nL RX0 fr lo ret) (hH : cH G KK) (hK : KK s) (hd : decode cc pc = .ok (.getfield 443, 3)) (kk : jj p l e R s m args below meth c (hA G) NX Q (cWo G d) (cnx d) nL σ (pc + 3) lv (.int (σ.1 54) :: st) Z) : jj p l e R s m args below meth c (hA G) NX Q (cWo G d) (cnx d) nL σ pc lv (.ref (ha G 0) :: st) Z :=
  cg_get (q0 := 0) (ci := 1) (k := 24) hk hH hK in_X0 rfl rfl (by decide) q429 rfl rfl hd kk
theorem jc_p_stoodEver (hk : jk p R s m args meth c NX cc nL RX0 fr lo ret) (hH : cH G KK) (hK : KK s) {x : Int32} {K : SS → Option ρ} (hd : decode cc pc = .ok (.putfield 443, 3)) (kk : ∀ σ', jj p l e R s m args below meth c (hA G) NX Q (cWo G d) (cnx d) nL σ' (pc + 3) lv st (K σ' = some res)) : jj p l e R s m args below meth c (hA G) NX Q (cWo G d) (cnx d) nL σ pc lv (.int x :: .ref (ha G 0) :: st) ((some (sI σ 54 x)).bind K = some res) :=
  cg_put (σ' := sI σ 54 x) (q0 := 0) (ci := 1) (k := 24) hk hH hK in_X0 tyX0 tyX0_ok nmX0 rfl rfl (by decide) q429 rfl rfl rfl (vp_nar_int x) rfl (Nat.le_of_ble_eq_true rfl) hd (ccs_setO G d σ _ (by decide) _ rfl rfl rfl) (kk _)
theorem jc_g_strangers (hk : jk p R s m args meth c NX cc nL RX0 fr lo ret) (hH : cH G KK) (hK : KK s) (hd : decode cc pc = .ok (.getfield 123, 3)) (kk : jj p l e R s m args below meth c (hA G) NX Q (cWo G d) (cnx d) nL σ (pc + 3) lv (.ref (ha G 63) :: st) Z) : jj p l e R s m args below meth c (hA G) NX Q (cWo G d) (cnx d) nL σ pc lv (.ref (ha G 0) :: st) Z :=
  cg_get (q0 := 0) (ci := 1) (k := 25) hk hH hK in_X0 rfl rfl (by decide) q430 rfl rfl hd kk
theorem jc_g_firstFit (hk : jk p R s m args meth c NX cc nL RX0 fr lo ret) (hH : cH G KK) (hK : KK s) (hd : decode cc pc = .ok (.getfield 493, 3)) (kk : jj p l e R s m args below meth c (hA G) NX Q (cWo G d) (cnx d) nL σ (pc + 3) lv (.int (σ.1 56) :: st) Z) : jj p l e R s m args below meth c (hA G) NX Q (cWo G d) (cnx d) nL σ pc lv (.ref (ha G 0) :: st) Z :=
  cg_get (q0 := 0) (ci := 1) (k := 26) hk hH hK in_X0 rfl rfl (by decide) q431 rfl rfl hd kk
theorem jc_p_firstFit (hk : jk p R s m args meth c NX cc nL RX0 fr lo ret) (hH : cH G KK) (hK : KK s) {x : Int32} {K : SS → Option ρ} (hd : decode cc pc = .ok (.putfield 493, 3)) (kk : ∀ σ', jj p l e R s m args below meth c (hA G) NX Q (cWo G d) (cnx d) nL σ' (pc + 3) lv st (K σ' = some res)) : jj p l e R s m args below meth c (hA G) NX Q (cWo G d) (cnx d) nL σ pc lv (.int x :: .ref (ha G 0) :: st) ((some (sI σ 56 x)).bind K = some res) :=
  cg_put (σ' := sI σ 56 x) (q0 := 0) (ci := 1) (k := 26) hk hH hK in_X0 tyX0 tyX0_ok nmX0 rfl rfl (by decide) q431 rfl rfl rfl (vp_nar_int x) rfl (Nat.le_of_ble_eq_true rfl) hd (ccs_setO G d σ _ (by decide) _ rfl rfl rfl) (kk _)
theorem jc_g_rows (hk : jk p R s m args meth c NX cc nL RX0 fr lo ret) (hH : cH G KK) (hK : KK s) (hd : decode cc pc = .ok (.getfield 126, 3)) (kk : jj p l e R s m args below meth c (hA G) NX Q (cWo G d) (cnx d) nL σ (pc + 3) lv (.ref (ha G 59) :: st) Z) : jj p l e R s m args below meth c (hA G) NX Q (cWo G d) (cnx d) nL σ pc lv (.ref (ha G 0) :: st) Z :=
  cg_get (q0 := 0) (ci := 1) (k := 27) hk hH hK in_X0 rfl rfl (by decide) q432 rfl rfl hd kk
theorem jc_g_rowMany (hk : jk p R s m args meth c NX cc nL RX0 fr lo ret) (hH : cH G KK) (hK : KK s) (hd : decode cc pc = .ok (.getfield 509, 3)) (kk : jj p l e R s m args below meth c (hA G) NX Q (cWo G d) (cnx d) nL σ (pc + 3) lv (.int (σ.1 58) :: st) Z) : jj p l e R s m args below meth c (hA G) NX Q (cWo G d) (cnx d) nL σ pc lv (.ref (ha G 0) :: st) Z :=
  cg_get (q0 := 0) (ci := 1) (k := 28) hk hH hK in_X0 rfl rfl (by decide) q433 rfl rfl hd kk
theorem jc_p_rowMany (hk : jk p R s m args meth c NX cc nL RX0 fr lo ret) (hH : cH G KK) (hK : KK s) {x : Int32} {K : SS → Option ρ} (hd : decode cc pc = .ok (.putfield 509, 3)) (kk : ∀ σ', jj p l e R s m args below meth c (hA G) NX Q (cWo G d) (cnx d) nL σ' (pc + 3) lv st (K σ' = some res)) : jj p l e R s m args below meth c (hA G) NX Q (cWo G d) (cnx d) nL σ pc lv (.int x :: .ref (ha G 0) :: st) ((some (sI σ 58 x)).bind K = some res) :=
  cg_put (σ' := sI σ 58 x) (q0 := 0) (ci := 1) (k := 28) hk hH hK in_X0 tyX0 tyX0_ok nmX0 rfl rfl (by decide) q433 rfl rfl rfl (vp_nar_int x) rfl (Nat.le_of_ble_eq_true rfl) hd (ccs_setO G d σ _ (by decide) _ rfl rfl rfl) (kk _)
theorem jc_g_shelves (hk : jk p R s m args meth c NX cc nL RX0 fr lo ret) (hH : cH G KK) (hK : KK s) (hd : decode cc pc = .ok (.getfield 131, 3)) (kk : jj p l e R s m args below meth c (hA G) NX Q (cWo G d) (cnx d) nL σ (pc + 3) lv (.ref (ha G 67) :: st) Z) : jj p l e R s m args below meth c (hA G) NX Q (cWo G d) (cnx d) nL σ pc lv (.ref (ha G 0) :: st) Z :=
  cg_get (q0 := 0) (ci := 1) (k := 29) hk hH hK in_X0 rfl rfl (by decide) q434 rfl rfl hd kk
theorem jc_g_sheets (hk : jk p R s m args meth c NX cc nL RX0 fr lo ret) (hH : cH G KK) (hK : KK s) (hd : decode cc pc = .ok (.getfield 135, 3)) (kk : jj p l e R s m args below meth c (hA G) NX Q (cWo G d) (cnx d) nL σ (pc + 3) lv (.ref (ha G 68) :: st) Z) : jj p l e R s m args below meth c (hA G) NX Q (cWo G d) (cnx d) nL σ pc lv (.ref (ha G 0) :: st) Z :=
  cg_get (q0 := 0) (ci := 1) (k := 30) hk hH hK in_X0 rfl rfl (by decide) q435 rfl rfl hd kk
theorem jc_g_trace (hk : jk p R s m args meth c NX cc nL RX0 fr lo ret) (hH : cH G KK) (hK : KK s) (hd : decode cc pc = .ok (.getfield 141, 3)) (kk : jj p l e R s m args below meth c (hA G) NX Q (cWo G d) (cnx d) nL σ (pc + 3) lv (.ref (ha G 6) :: st) Z) : jj p l e R s m args below meth c (hA G) NX Q (cWo G d) (cnx d) nL σ pc lv (.ref (ha G 0) :: st) Z :=
  cg_get (q0 := 0) (ci := 1) (k := 31) hk hH hK in_X0 rfl rfl (by decide) q436 rfl rfl hd kk
theorem jc_t_people (hk : jk p R s m args meth c NX cc nL RX0 fr lo ret) (hH : cH G KK) (hK : KK s) (hd : decode cc pc = .ok (.getfield 146, 3)) (kk : jj p l e R s m args below meth c (hA G) NX Q (cWo G d) (cnx d) nL σ (pc + 3) lv (.int (σ.1 0) :: st) Z) : jj p l e R s m args below meth c (hA G) NX Q (cWo G d) (cnx d) nL σ pc lv (.ref (ha G 3) :: st) Z :=
  cg_get (q0 := 3) (ci := 2) (k := 0) hk hH hK in_X3 rfl rfl (by decide) q275 rfl rfl hd kk
theorem jc_tp_people (hk : jk p R s m args meth c NX cc nL RX0 fr lo ret) (hH : cH G KK) (hK : KK s) {x : Int32} {K : SS → Option ρ} (hd : decode cc pc = .ok (.putfield 146, 3)) (kk : ∀ σ', jj p l e R s m args below meth c (hA G) NX Q (cWo G d) (cnx d) nL σ' (pc + 3) lv st (K σ' = some res)) : jj p l e R s m args below meth c (hA G) NX Q (cWo G d) (cnx d) nL σ pc lv (.int x :: .ref (ha G 3) :: st) ((some (sI σ 0 x)).bind K = some res) :=
  cg_put (σ' := sI σ 0 x) (q0 := 3) (ci := 2) (k := 0) hk hH hK in_X3 tyX3 tyX3_ok nmX3 rfl rfl (by decide) q275 rfl rfl rfl (vp_nar_int x) rfl (Nat.le_of_ble_eq_true rfl) hd (ccs_setO G d σ _ (by decide) _ rfl rfl rfl) (kk _)
theorem jc_t_deeds (hk : jk p R s m args meth c NX cc nL RX0 fr lo ret) (hH : cH G KK) (hK : KK s) (hd : decode cc pc = .ok (.getfield 154, 3)) (kk : jj p l e R s m args below meth c (hA G) NX Q (cWo G d) (cnx d) nL σ (pc + 3) lv (.int (σ.1 1) :: st) Z) : jj p l e R s m args below meth c (hA G) NX Q (cWo G d) (cnx d) nL σ pc lv (.ref (ha G 3) :: st) Z :=
  cg_get (q0 := 3) (ci := 2) (k := 1) hk hH hK in_X3 rfl rfl (by decide) q277 rfl rfl hd kk
theorem jc_tp_deeds (hk : jk p R s m args meth c NX cc nL RX0 fr lo ret) (hH : cH G KK) (hK : KK s) {x : Int32} {K : SS → Option ρ} (hd : decode cc pc = .ok (.putfield 154, 3)) (kk : ∀ σ', jj p l e R s m args below meth c (hA G) NX Q (cWo G d) (cnx d) nL σ' (pc + 3) lv st (K σ' = some res)) : jj p l e R s m args below meth c (hA G) NX Q (cWo G d) (cnx d) nL σ pc lv (.int x :: .ref (ha G 3) :: st) ((some (sI σ 1 x)).bind K = some res) :=
  cg_put (σ' := sI σ 1 x) (q0 := 3) (ci := 2) (k := 1) hk hH hK in_X3 tyX3 tyX3_ok nmX3 rfl rfl (by decide) q277 rfl rfl rfl (vp_nar_int x) rfl (Nat.le_of_ble_eq_true rfl) hd (ccs_setO G d σ _ (by decide) _ rfl rfl rfl) (kk _)
theorem jc_t_end (hk : jk p R s m args meth c NX cc nL RX0 fr lo ret) (hH : cH G KK) (hK : KK s) (hd : decode cc pc = .ok (.getfield 220, 3)) (kk : jj p l e R s m args below meth c (hA G) NX Q (cWo G d) (cnx d) nL σ (pc + 3) lv (.int (σ.1 2) :: st) Z) : jj p l e R s m args below meth c (hA G) NX Q (cWo G d) (cnx d) nL σ pc lv (.ref (ha G 3) :: st) Z :=
  cg_get (q0 := 3) (ci := 2) (k := 2) hk hH hK in_X3 rfl rfl (by decide) q279 rfl rfl hd kk
theorem jc_tp_end (hk : jk p R s m args meth c NX cc nL RX0 fr lo ret) (hH : cH G KK) (hK : KK s) {x : Int32} {K : SS → Option ρ} (hd : decode cc pc = .ok (.putfield 220, 3)) (kk : ∀ σ', jj p l e R s m args below meth c (hA G) NX Q (cWo G d) (cnx d) nL σ' (pc + 3) lv st (K σ' = some res)) : jj p l e R s m args below meth c (hA G) NX Q (cWo G d) (cnx d) nL σ pc lv (.int x :: .ref (ha G 3) :: st) ((some (sI σ 2 x)).bind K = some res) :=
  cg_put (σ' := sI σ 2 x) (q0 := 3) (ci := 2) (k := 2) hk hH hK in_X3 tyX3 tyX3_ok nmX3 rfl rfl (by decide) q279 rfl rfl rfl (vp_nar_int x) rfl (Nat.le_of_ble_eq_true rfl) hd (ccs_setO G d σ _ (by decide) _ rfl rfl rfl) (kk _)
theorem jc_t_year (hk : jk p R s m args meth c NX cc nL RX0 fr lo ret) (hH : cH G KK) (hK : KK s) (hd : decode cc pc = .ok (.getfield 186, 3)) (kk : jj p l e R s m args below meth c (hA G) NX Q (cWo G d) (cnx d) nL σ (pc + 3) lv (.int (σ.1 3) :: st) Z) : jj p l e R s m args below meth c (hA G) NX Q (cWo G d) (cnx d) nL σ pc lv (.ref (ha G 3) :: st) Z :=
  cg_get (q0 := 3) (ci := 2) (k := 3) hk hH hK in_X3 rfl rfl (by decide) q281 rfl rfl hd kk
theorem jc_tp_year (hk : jk p R s m args meth c NX cc nL RX0 fr lo ret) (hH : cH G KK) (hK : KK s) {x : Int32} {K : SS → Option ρ} (hd : decode cc pc = .ok (.putfield 186, 3)) (kk : ∀ σ', jj p l e R s m args below meth c (hA G) NX Q (cWo G d) (cnx d) nL σ' (pc + 3) lv st (K σ' = some res)) : jj p l e R s m args below meth c (hA G) NX Q (cWo G d) (cnx d) nL σ pc lv (.int x :: .ref (ha G 3) :: st) ((some (sI σ 3 x)).bind K = some res) :=
  cg_put (σ' := sI σ 3 x) (q0 := 3) (ci := 2) (k := 3) hk hH hK in_X3 tyX3 tyX3_ok nmX3 rfl rfl (by decide) q281 rfl rfl rfl (vp_nar_int x) rfl (Nat.le_of_ble_eq_true rfl) hd (ccs_setO G d σ _ (by decide) _ rfl rfl rfl) (kk _)
theorem jc_t_score (hk : jk p R s m args meth c NX cc nL RX0 fr lo ret) (hH : cH G KK) (hK : KK s) (hd : decode cc pc = .ok (.getfield 223, 3)) (kk : jj p l e R s m args below meth c (hA G) NX Q (cWo G d) (cnx d) nL σ (pc + 3) lv (.int (σ.1 4) :: st) Z) : jj p l e R s m args below meth c (hA G) NX Q (cWo G d) (cnx d) nL σ pc lv (.ref (ha G 3) :: st) Z :=
  cg_get (q0 := 3) (ci := 2) (k := 4) hk hH hK in_X3 rfl rfl (by decide) q283 rfl rfl hd kk
theorem jc_tp_score (hk : jk p R s m args meth c NX cc nL RX0 fr lo ret) (hH : cH G KK) (hK : KK s) {x : Int32} {K : SS → Option ρ} (hd : decode cc pc = .ok (.putfield 223, 3)) (kk : ∀ σ', jj p l e R s m args below meth c (hA G) NX Q (cWo G d) (cnx d) nL σ' (pc + 3) lv st (K σ' = some res)) : jj p l e R s m args below meth c (hA G) NX Q (cWo G d) (cnx d) nL σ pc lv (.int x :: .ref (ha G 3) :: st) ((some (sI σ 4 x)).bind K = some res) :=
  cg_put (σ' := sI σ 4 x) (q0 := 3) (ci := 2) (k := 4) hk hH hK in_X3 tyX3 tyX3_ok nmX3 rfl rfl (by decide) q283 rfl rfl rfl (vp_nar_int x) rfl (Nat.le_of_ble_eq_true rfl) hd (ccs_setO G d σ _ (by decide) _ rfl rfl rfl) (kk _)
theorem jc_t_reports (hk : jk p R s m args meth c NX cc nL RX0 fr lo ret) (hH : cH G KK) (hK : KK s) (hd : decode cc pc = .ok (.getfield 471, 3)) (kk : jj p l e R s m args below meth c (hA G) NX Q (cWo G d) (cnx d) nL σ (pc + 3) lv (.int (σ.1 5) :: st) Z) : jj p l e R s m args below meth c (hA G) NX Q (cWo G d) (cnx d) nL σ pc lv (.ref (ha G 3) :: st) Z :=
  cg_get (q0 := 3) (ci := 2) (k := 5) hk hH hK in_X3 rfl rfl (by decide) q285 rfl rfl hd kk
theorem jc_tp_reports (hk : jk p R s m args meth c NX cc nL RX0 fr lo ret) (hH : cH G KK) (hK : KK s) {x : Int32} {K : SS → Option ρ} (hd : decode cc pc = .ok (.putfield 471, 3)) (kk : ∀ σ', jj p l e R s m args below meth c (hA G) NX Q (cWo G d) (cnx d) nL σ' (pc + 3) lv st (K σ' = some res)) : jj p l e R s m args below meth c (hA G) NX Q (cWo G d) (cnx d) nL σ pc lv (.int x :: .ref (ha G 3) :: st) ((some (sI σ 5 x)).bind K = some res) :=
  cg_put (σ' := sI σ 5 x) (q0 := 3) (ci := 2) (k := 5) hk hH hK in_X3 tyX3 tyX3_ok nmX3 rfl rfl (by decide) q285 rfl rfl rfl (vp_nar_int x) rfl (Nat.le_of_ble_eq_true rfl) hd (ccs_setO G d σ _ (by decide) _ rfl rfl rfl) (kk _)
theorem jc_t_z (hk : jk p R s m args meth c NX cc nL RX0 fr lo ret) (hH : cH G KK) (hK : KK s) (hd : decode cc pc = .ok (.getfield 499, 3)) (kk : jj p l e R s m args below meth c (hA G) NX Q (cWo G d) (cnx d) nL σ (pc + 3) lv (.int (σ.1 6) :: st) Z) : jj p l e R s m args below meth c (hA G) NX Q (cWo G d) (cnx d) nL σ pc lv (.ref (ha G 3) :: st) Z :=
  cg_get (q0 := 3) (ci := 2) (k := 6) hk hH hK in_X3 rfl rfl (by decide) q287 rfl rfl hd kk
theorem jc_tp_z (hk : jk p R s m args meth c NX cc nL RX0 fr lo ret) (hH : cH G KK) (hK : KK s) {x : Int32} {K : SS → Option ρ} (hd : decode cc pc = .ok (.putfield 499, 3)) (kk : ∀ σ', jj p l e R s m args below meth c (hA G) NX Q (cWo G d) (cnx d) nL σ' (pc + 3) lv st (K σ' = some res)) : jj p l e R s m args below meth c (hA G) NX Q (cWo G d) (cnx d) nL σ pc lv (.int x :: .ref (ha G 3) :: st) ((some (sI σ 6 x)).bind K = some res) :=
  cg_put (σ' := sI σ 6 x) (q0 := 3) (ci := 2) (k := 6) hk hH hK in_X3 tyX3 tyX3_ok nmX3 rfl rfl (by decide) q287 rfl rfl rfl (vp_nar_int x) rfl (Nat.le_of_ble_eq_true rfl) hd (ccs_setO G d σ _ (by decide) _ rfl rfl rfl) (kk _)
theorem jc_t_kind (hk : jk p R s m args meth c NX cc nL RX0 fr lo ret) (hH : cH G KK) (hK : KK s) (hd : decode cc pc = .ok (.getfield 157, 3)) (kk : jj p l e R s m args below meth c (hA G) NX Q (cWo G d) (cnx d) nL σ (pc + 3) lv (.ref (ha G 15) :: st) Z) : jj p l e R s m args below meth c (hA G) NX Q (cWo G d) (cnx d) nL σ pc lv (.ref (ha G 3) :: st) Z :=
  cg_get (q0 := 3) (ci := 2) (k := 7) hk hH hK in_X3 rfl rfl (by decide) q289 rfl rfl hd kk
theorem jc_t_grace (hk : jk p R s m args meth c NX cc nL RX0 fr lo ret) (hH : cH G KK) (hK : KK s) (hd : decode cc pc = .ok (.getfield 160, 3)) (kk : jj p l e R s m args below meth c (hA G) NX Q (cWo G d) (cnx d) nL σ (pc + 3) lv (.ref (ha G 16) :: st) Z) : jj p l e R s m args below meth c (hA G) NX Q (cWo G d) (cnx d) nL σ pc lv (.ref (ha G 3) :: st) Z :=
  cg_get (q0 := 3) (ci := 2) (k := 8) hk hH hK in_X3 rfl rfl (by decide) q291 rfl rfl hd kk
theorem jc_t_strength (hk : jk p R s m args meth c NX cc nL RX0 fr lo ret) (hH : cH G KK) (hK : KK s) (hd : decode cc pc = .ok (.getfield 173, 3)) (kk : jj p l e R s m args below meth c (hA G) NX Q (cWo G d) (cnx d) nL σ (pc + 3) lv (.ref (ha G 17) :: st) Z) : jj p l e R s m args below meth c (hA G) NX Q (cWo G d) (cnx d) nL σ pc lv (.ref (ha G 3) :: st) Z :=
  cg_get (q0 := 3) (ci := 2) (k := 9) hk hH hK in_X3 rfl rfl (by decide) q293 rfl rfl hd kk
theorem jc_t_whose (hk : jk p R s m args meth c NX cc nL RX0 fr lo ret) (hH : cH G KK) (hK : KK s) (hd : decode cc pc = .ok (.getfield 198, 3)) (kk : jj p l e R s m args below meth c (hA G) NX Q (cWo G d) (cnx d) nL σ (pc + 3) lv (.ref (ha G 18) :: st) Z) : jj p l e R s m args below meth c (hA G) NX Q (cWo G d) (cnx d) nL σ pc lv (.ref (ha G 3) :: st) Z :=
  cg_get (q0 := 3) (ci := 2) (k := 10) hk hH hK in_X3 rfl rfl (by decide) q295 rfl rfl hd kk
theorem jc_t_when (hk : jk p R s m args meth c NX cc nL RX0 fr lo ret) (hH : cH G KK) (hK : KK s) (hd : decode cc pc = .ok (.getfield 201, 3)) (kk : jj p l e R s m args below meth c (hA G) NX Q (cWo G d) (cnx d) nL σ (pc + 3) lv (.ref (ha G 19) :: st) Z) : jj p l e R s m args below meth c (hA G) NX Q (cWo G d) (cnx d) nL σ pc lv (.ref (ha G 3) :: st) Z :=
  cg_get (q0 := 3) (ci := 2) (k := 11) hk hH hK in_X3 rfl rfl (by decide) q297 rfl rfl hd kk
theorem jc_t_weight (hk : jk p R s m args meth c NX cc nL RX0 fr lo ret) (hH : cH G KK) (hK : KK s) (hd : decode cc pc = .ok (.getfield 204, 3)) (kk : jj p l e R s m args below meth c (hA G) NX Q (cWo G d) (cnx d) nL σ (pc + 3) lv (.ref (ha G 20) :: st) Z) : jj p l e R s m args below meth c (hA G) NX Q (cWo G d) (cnx d) nL σ pc lv (.ref (ha G 3) :: st) Z :=
  cg_get (q0 := 3) (ci := 2) (k := 12) hk hH hK in_X3 rfl rfl (by decide) q299 rfl rfl hd kk
theorem jc_t_need (hk : jk p R s m args meth c NX cc nL RX0 fr lo ret) (hH : cH G KK) (hK : KK s) (hd : decode cc pc = .ok (.getfield 207, 3)) (kk : jj p l e R s m args below meth c (hA G) NX Q (cWo G d) (cnx d) nL σ (pc + 3) lv (.ref (ha G 21) :: st) Z) : jj p l e R s m args below meth c (hA G) NX Q (cWo G d) (cnx d) nL σ pc lv (.ref (ha G 3) :: st) Z :=
  cg_get (q0 := 3) (ci := 2) (k := 13) hk hH hK in_X3 rfl rfl (by decide) q301 rfl rfl hd kk
theorem jc_t_so (hk : jk p R s m args meth c NX cc nL RX0 fr lo ret) (hH : cH G KK) (hK : KK s) (hd : decode cc pc = .ok (.getfield 210, 3)) (kk : jj p l e R s m args below meth c (hA G) NX Q (cWo G d) (cnx d) nL σ (pc + 3) lv (.ref (ha G 22) :: st) Z) : jj p l e R s m args below meth c (hA G) NX Q (cWo G d) (cnx d) nL σ pc lv (.ref (ha G 3) :: st) Z :=
  cg_get (q0 := 3) (ci := 2) (k := 14) hk hH hK in_X3 rfl rfl (by decide) q303 rfl rfl hd kk
theorem jc_t_owed (hk : jk p R s m args meth c NX cc nL RX0 fr lo ret) (hH : cH G KK) (hK : KK s) (hd : decode cc pc = .ok (.getfield 410, 3)) (kk : jj p l e R s m args below meth c (hA G) NX Q (cWo G d) (cnx d) nL σ (pc + 3) lv (.ref (ha G 23) :: st) Z) : jj p l e R s m args below meth c (hA G) NX Q (cWo G d) (cnx d) nL σ pc lv (.ref (ha G 3) :: st) Z :=
  cg_get (q0 := 3) (ci := 2) (k := 15) hk hH hK in_X3 rfl rfl (by decide) q305 rfl rfl hd kk
theorem jc_t_heavy (hk : jk p R s m args meth c NX cc nL RX0 fr lo ret) (hH : cH G KK) (hK : KK s) (hd : decode cc pc = .ok (.getfield 474, 3)) (kk : jj p l e R s m args below meth c (hA G) NX Q (cWo G d) (cnx d) nL σ (pc + 3) lv (.ref (ha G 24) :: st) Z) : jj p l e R s m args below meth c (hA G) NX Q (cWo G d) (cnx d) nL σ pc lv (.ref (ha G 3) :: st) Z :=
  cg_get (q0 := 3) (ci := 2) (k := 16) hk hH hK in_X3 rfl rfl (by decide) q307 rfl rfl hd kk
theorem jc_t_done (hk : jk p R s m args meth c NX cc nL RX0 fr lo ret) (hH : cH G KK) (hK : KK s) (hd : decode cc pc = .ok (.getfield 477, 3)) (kk : jj p l e R s m args below meth c (hA G) NX Q (cWo G d) (cnx d) nL σ (pc + 3) lv (.ref (ha G 25) :: st) Z) : jj p l e R s m args below meth c (hA G) NX Q (cWo G d) (cnx d) nL σ pc lv (.ref (ha G 3) :: st) Z :=
  cg_get (q0 := 3) (ci := 2) (k := 17) hk hH hK in_X3 rfl rfl (by decide) q309 rfl rfl hd kk
theorem jc_t_by (hk : jk p R s m args meth c NX cc nL RX0 fr lo ret) (hH : cH G KK) (hK : KK s) (hd : decode cc pc = .ok (.getfield 480, 3)) (kk : jj p l e R s m args below meth c (hA G) NX Q (cWo G d) (cnx d) nL σ (pc + 3) lv (.ref (ha G 26) :: st) Z) : jj p l e R s m args below meth c (hA G) NX Q (cWo G d) (cnx d) nL σ pc lv (.ref (ha G 3) :: st) Z :=
  cg_get (q0 := 3) (ci := 2) (k := 18) hk hH hK in_X3 rfl rfl (by decide) q311 rfl rfl hd kk
theorem jc_t_was (hk : jk p R s m args meth c NX cc nL RX0 fr lo ret) (hH : cH G KK) (hK : KK s) (hd : decode cc pc = .ok (.getfield 483, 3)) (kk : jj p l e R s m args below meth c (hA G) NX Q (cWo G d) (cnx d) nL σ (pc + 3) lv (.ref (ha G 27) :: st) Z) : jj p l e R s m args below meth c (hA G) NX Q (cWo G d) (cnx d) nL σ pc lv (.ref (ha G 3) :: st) Z :=
  cg_get (q0 := 3) (ci := 2) (k := 19) hk hH hK in_X3 rfl rfl (by decide) q313 rfl rfl hd kk
theorem jc_t_rules (hk : jk p R s m args meth c NX cc nL RX0 fr lo ret) (hH : cH G KK) (hK : KK s) {K : Nat → Option ρ} (hd : decode cc pc = .ok (.getfield 347, 3)) (kk : ∀ q, jj p l e R s m args below meth c (hA G) NX Q (cWo G d) (cnx d) nL σ (pc + 3) lv (.ref q :: st) (K q = some res)) : jj p l e R s m args below meth c (hA G) NX Q (cWo G d) (cnx d) nL σ pc lv (.ref (ha G 3) :: st) ((σ.2.2.1 0).bind K = some res) := by
  intro hz
  cases hq : σ.2.2.1 0 with
  | none => rw [hq] at hz; cases hz
  | some q =>
    rw [hq] at hz
    exact cg_get (v := .ref q) (q0 := 3) (ci := 2) (k := 20) hk hH hK in_X3 rfl rfl (by decide) q315 rfl (show some (va_rf (σ.2.2.1 0)) = _ by rw [hq]; rfl) hd (kk q) hz
theorem cO_T (G : cG) (σ : SS) {t : Nat} (ht : t < 3) : (cO G σ)[3 + t]? = some (ha G (3 + t), .inr (2, tfs G σ t)) := by
  rcases (show t = 0 ∨ t = 1 ∨ t = 2 by omega) with h | h | h <;> subst h <;> rfl
theorem jc_T_people (hk : jk p R s m args meth c NX cc nL RX3 fr lo ret) (hH : cH G KK) (hK : KK s) {t : Nat} (ht : t < 3) (hd : decode cc pc = .ok (.getfield 64, 3)) (kk : jj p l e R s m args below meth c (hA G) NX Q (cWo G d) (cnx d) nL σ (pc + 3) lv (.int (σ.1 (7 * t + 0)) :: st) Z) : jj p l e R s m args below meth c (hA G) NX Q (cWo G d) (cnx d) nL σ pc lv (.ref (ha G (3 + t)) :: st) Z :=
  cg_get (q0 := 3 + t) (ci := 2) (k := 0) hk hH hK in_X3 (by rw [ccs_O G d σ (by omega)]; exact cO_T G σ ht) rfl (by decide) q274 rfl rfl hd kk
theorem jc_Tp_people (hk : jk p R s m args meth c NX cc nL RX3 fr lo ret) (hH : cH G KK) (hK : KK s) {t : Nat} {x : Int32} {K : SS → Option ρ} (ht : t < 3) (hd : decode cc pc = .ok (.putfield 64, 3)) (kk : ∀ σ', jj p l e R s m args below meth c (hA G) NX Q (cWo G d) (cnx d) nL σ' (pc + 3) lv st (K σ' = some res)) : jj p l e R s m args below meth c (hA G) NX Q (cWo G d) (cnx d) nL σ pc lv (.int x :: .ref (ha G (3 + t)) :: st) ((some (sI σ (7 * t + 0) x)).bind K = some res) := by
  rcases (show t = 0 ∨ t = 1 ∨ t = 2 by omega) with h | h | h <;> subst h
  · exact cg_put (σ' := sI σ (7 * 0 + 0) x) (q0 := 3) (ci := 2) (k := 0) hk hH hK in_X3 tyX3 tyX3_ok nmX3 rfl rfl (by decide) q274 rfl rfl rfl (vp_nar_int x) rfl (Nat.le_of_ble_eq_true rfl) hd (ccs_setO G d σ _ (by decide) _ rfl rfl rfl) (kk _)
  · exact cg_put (σ' := sI σ (7 * 1 + 0) x) (q0 := 4) (ci := 2) (k := 0) hk hH hK in_X3 tyX3 tyX3_ok nmX3 rfl rfl (by decide) q274 rfl rfl rfl (vp_nar_int x) rfl (Nat.le_of_ble_eq_true rfl) hd (ccs_setO G d σ _ (by decide) _ rfl rfl rfl) (kk _)
  · exact cg_put (σ' := sI σ (7 * 2 + 0) x) (q0 := 5) (ci := 2) (k := 0) hk hH hK in_X3 tyX3 tyX3_ok nmX3 rfl rfl (by decide) q274 rfl rfl rfl (vp_nar_int x) rfl (Nat.le_of_ble_eq_true rfl) hd (ccs_setO G d σ _ (by decide) _ rfl rfl rfl) (kk _)
theorem jc_T_deeds (hk : jk p R s m args meth c NX cc nL RX3 fr lo ret) (hH : cH G KK) (hK : KK s) {t : Nat} (ht : t < 3) (hd : decode cc pc = .ok (.getfield 67, 3)) (kk : jj p l e R s m args below meth c (hA G) NX Q (cWo G d) (cnx d) nL σ (pc + 3) lv (.int (σ.1 (7 * t + 1)) :: st) Z) : jj p l e R s m args below meth c (hA G) NX Q (cWo G d) (cnx d) nL σ pc lv (.ref (ha G (3 + t)) :: st) Z :=
  cg_get (q0 := 3 + t) (ci := 2) (k := 1) hk hH hK in_X3 (by rw [ccs_O G d σ (by omega)]; exact cO_T G σ ht) rfl (by decide) q276 rfl rfl hd kk
theorem jc_Tp_deeds (hk : jk p R s m args meth c NX cc nL RX3 fr lo ret) (hH : cH G KK) (hK : KK s) {t : Nat} {x : Int32} {K : SS → Option ρ} (ht : t < 3) (hd : decode cc pc = .ok (.putfield 67, 3)) (kk : ∀ σ', jj p l e R s m args below meth c (hA G) NX Q (cWo G d) (cnx d) nL σ' (pc + 3) lv st (K σ' = some res)) : jj p l e R s m args below meth c (hA G) NX Q (cWo G d) (cnx d) nL σ pc lv (.int x :: .ref (ha G (3 + t)) :: st) ((some (sI σ (7 * t + 1) x)).bind K = some res) := by
  rcases (show t = 0 ∨ t = 1 ∨ t = 2 by omega) with h | h | h <;> subst h
  · exact cg_put (σ' := sI σ (7 * 0 + 1) x) (q0 := 3) (ci := 2) (k := 1) hk hH hK in_X3 tyX3 tyX3_ok nmX3 rfl rfl (by decide) q276 rfl rfl rfl (vp_nar_int x) rfl (Nat.le_of_ble_eq_true rfl) hd (ccs_setO G d σ _ (by decide) _ rfl rfl rfl) (kk _)
  · exact cg_put (σ' := sI σ (7 * 1 + 1) x) (q0 := 4) (ci := 2) (k := 1) hk hH hK in_X3 tyX3 tyX3_ok nmX3 rfl rfl (by decide) q276 rfl rfl rfl (vp_nar_int x) rfl (Nat.le_of_ble_eq_true rfl) hd (ccs_setO G d σ _ (by decide) _ rfl rfl rfl) (kk _)
  · exact cg_put (σ' := sI σ (7 * 2 + 1) x) (q0 := 5) (ci := 2) (k := 1) hk hH hK in_X3 tyX3 tyX3_ok nmX3 rfl rfl (by decide) q276 rfl rfl rfl (vp_nar_int x) rfl (Nat.le_of_ble_eq_true rfl) hd (ccs_setO G d σ _ (by decide) _ rfl rfl rfl) (kk _)
theorem jc_T_end (hk : jk p R s m args meth c NX cc nL RX3 fr lo ret) (hH : cH G KK) (hK : KK s) {t : Nat} (ht : t < 3) (hd : decode cc pc = .ok (.getfield 9, 3)) (kk : jj p l e R s m args below meth c (hA G) NX Q (cWo G d) (cnx d) nL σ (pc + 3) lv (.int (σ.1 (7 * t + 2)) :: st) Z) : jj p l e R s m args below meth c (hA G) NX Q (cWo G d) (cnx d) nL σ pc lv (.ref (ha G (3 + t)) :: st) Z :=
  cg_get (q0 := 3 + t) (ci := 2) (k := 2) hk hH hK in_X3 (by rw [ccs_O G d σ (by omega)]; exact cO_T G σ ht) rfl (by decide) q278 rfl rfl hd kk
theorem jc_Tp_end (hk : jk p R s m args meth c NX cc nL RX3 fr lo ret) (hH : cH G KK) (hK : KK s) {t : Nat} {x : Int32} {K : SS → Option ρ} (ht : t < 3) (hd : decode cc pc = .ok (.putfield 9, 3)) (kk : ∀ σ', jj p l e R s m args below meth c (hA G) NX Q (cWo G d) (cnx d) nL σ' (pc + 3) lv st (K σ' = some res)) : jj p l e R s m args below meth c (hA G) NX Q (cWo G d) (cnx d) nL σ pc lv (.int x :: .ref (ha G (3 + t)) :: st) ((some (sI σ (7 * t + 2) x)).bind K = some res) := by
  rcases (show t = 0 ∨ t = 1 ∨ t = 2 by omega) with h | h | h <;> subst h
  · exact cg_put (σ' := sI σ (7 * 0 + 2) x) (q0 := 3) (ci := 2) (k := 2) hk hH hK in_X3 tyX3 tyX3_ok nmX3 rfl rfl (by decide) q278 rfl rfl rfl (vp_nar_int x) rfl (Nat.le_of_ble_eq_true rfl) hd (ccs_setO G d σ _ (by decide) _ rfl rfl rfl) (kk _)
  · exact cg_put (σ' := sI σ (7 * 1 + 2) x) (q0 := 4) (ci := 2) (k := 2) hk hH hK in_X3 tyX3 tyX3_ok nmX3 rfl rfl (by decide) q278 rfl rfl rfl (vp_nar_int x) rfl (Nat.le_of_ble_eq_true rfl) hd (ccs_setO G d σ _ (by decide) _ rfl rfl rfl) (kk _)
  · exact cg_put (σ' := sI σ (7 * 2 + 2) x) (q0 := 5) (ci := 2) (k := 2) hk hH hK in_X3 tyX3 tyX3_ok nmX3 rfl rfl (by decide) q278 rfl rfl rfl (vp_nar_int x) rfl (Nat.le_of_ble_eq_true rfl) hd (ccs_setO G d σ _ (by decide) _ rfl rfl rfl) (kk _)
theorem jc_T_year (hk : jk p R s m args meth c NX cc nL RX3 fr lo ret) (hH : cH G KK) (hK : KK s) {t : Nat} (ht : t < 3) (hd : decode cc pc = .ok (.getfield 70, 3)) (kk : jj p l e R s m args below meth c (hA G) NX Q (cWo G d) (cnx d) nL σ (pc + 3) lv (.int (σ.1 (7 * t + 3)) :: st) Z) : jj p l e R s m args below meth c (hA G) NX Q (cWo G d) (cnx d) nL σ pc lv (.ref (ha G (3 + t)) :: st) Z :=
  cg_get (q0 := 3 + t) (ci := 2) (k := 3) hk hH hK in_X3 (by rw [ccs_O G d σ (by omega)]; exact cO_T G σ ht) rfl (by decide) q280 rfl rfl hd kk
theorem jc_Tp_year (hk : jk p R s m args meth c NX cc nL RX3 fr lo ret) (hH : cH G KK) (hK : KK s) {t : Nat} {x : Int32} {K : SS → Option ρ} (ht : t < 3) (hd : decode cc pc = .ok (.putfield 70, 3)) (kk : ∀ σ', jj p l e R s m args below meth c (hA G) NX Q (cWo G d) (cnx d) nL σ' (pc + 3) lv st (K σ' = some res)) : jj p l e R s m args below meth c (hA G) NX Q (cWo G d) (cnx d) nL σ pc lv (.int x :: .ref (ha G (3 + t)) :: st) ((some (sI σ (7 * t + 3) x)).bind K = some res) := by
  rcases (show t = 0 ∨ t = 1 ∨ t = 2 by omega) with h | h | h <;> subst h
  · exact cg_put (σ' := sI σ (7 * 0 + 3) x) (q0 := 3) (ci := 2) (k := 3) hk hH hK in_X3 tyX3 tyX3_ok nmX3 rfl rfl (by decide) q280 rfl rfl rfl (vp_nar_int x) rfl (Nat.le_of_ble_eq_true rfl) hd (ccs_setO G d σ _ (by decide) _ rfl rfl rfl) (kk _)
  · exact cg_put (σ' := sI σ (7 * 1 + 3) x) (q0 := 4) (ci := 2) (k := 3) hk hH hK in_X3 tyX3 tyX3_ok nmX3 rfl rfl (by decide) q280 rfl rfl rfl (vp_nar_int x) rfl (Nat.le_of_ble_eq_true rfl) hd (ccs_setO G d σ _ (by decide) _ rfl rfl rfl) (kk _)
  · exact cg_put (σ' := sI σ (7 * 2 + 3) x) (q0 := 5) (ci := 2) (k := 3) hk hH hK in_X3 tyX3 tyX3_ok nmX3 rfl rfl (by decide) q280 rfl rfl rfl (vp_nar_int x) rfl (Nat.le_of_ble_eq_true rfl) hd (ccs_setO G d σ _ (by decide) _ rfl rfl rfl) (kk _)
theorem jc_T_score (hk : jk p R s m args meth c NX cc nL RX3 fr lo ret) (hH : cH G KK) (hK : KK s) {t : Nat} (ht : t < 3) (hd : decode cc pc = .ok (.getfield 73, 3)) (kk : jj p l e R s m args below meth c (hA G) NX Q (cWo G d) (cnx d) nL σ (pc + 3) lv (.int (σ.1 (7 * t + 4)) :: st) Z) : jj p l e R s m args below meth c (hA G) NX Q (cWo G d) (cnx d) nL σ pc lv (.ref (ha G (3 + t)) :: st) Z :=
  cg_get (q0 := 3 + t) (ci := 2) (k := 4) hk hH hK in_X3 (by rw [ccs_O G d σ (by omega)]; exact cO_T G σ ht) rfl (by decide) q282 rfl rfl hd kk
theorem jc_Tp_score (hk : jk p R s m args meth c NX cc nL RX3 fr lo ret) (hH : cH G KK) (hK : KK s) {t : Nat} {x : Int32} {K : SS → Option ρ} (ht : t < 3) (hd : decode cc pc = .ok (.putfield 73, 3)) (kk : ∀ σ', jj p l e R s m args below meth c (hA G) NX Q (cWo G d) (cnx d) nL σ' (pc + 3) lv st (K σ' = some res)) : jj p l e R s m args below meth c (hA G) NX Q (cWo G d) (cnx d) nL σ pc lv (.int x :: .ref (ha G (3 + t)) :: st) ((some (sI σ (7 * t + 4) x)).bind K = some res) := by
  rcases (show t = 0 ∨ t = 1 ∨ t = 2 by omega) with h | h | h <;> subst h
  · exact cg_put (σ' := sI σ (7 * 0 + 4) x) (q0 := 3) (ci := 2) (k := 4) hk hH hK in_X3 tyX3 tyX3_ok nmX3 rfl rfl (by decide) q282 rfl rfl rfl (vp_nar_int x) rfl (Nat.le_of_ble_eq_true rfl) hd (ccs_setO G d σ _ (by decide) _ rfl rfl rfl) (kk _)
  · exact cg_put (σ' := sI σ (7 * 1 + 4) x) (q0 := 4) (ci := 2) (k := 4) hk hH hK in_X3 tyX3 tyX3_ok nmX3 rfl rfl (by decide) q282 rfl rfl rfl (vp_nar_int x) rfl (Nat.le_of_ble_eq_true rfl) hd (ccs_setO G d σ _ (by decide) _ rfl rfl rfl) (kk _)
  · exact cg_put (σ' := sI σ (7 * 2 + 4) x) (q0 := 5) (ci := 2) (k := 4) hk hH hK in_X3 tyX3 tyX3_ok nmX3 rfl rfl (by decide) q282 rfl rfl rfl (vp_nar_int x) rfl (Nat.le_of_ble_eq_true rfl) hd (ccs_setO G d σ _ (by decide) _ rfl rfl rfl) (kk _)
theorem jc_T_reports (hk : jk p R s m args meth c NX cc nL RX3 fr lo ret) (hH : cH G KK) (hK : KK s) {t : Nat} (ht : t < 3) (hd : decode cc pc = .ok (.getfield 76, 3)) (kk : jj p l e R s m args below meth c (hA G) NX Q (cWo G d) (cnx d) nL σ (pc + 3) lv (.int (σ.1 (7 * t + 5)) :: st) Z) : jj p l e R s m args below meth c (hA G) NX Q (cWo G d) (cnx d) nL σ pc lv (.ref (ha G (3 + t)) :: st) Z :=
  cg_get (q0 := 3 + t) (ci := 2) (k := 5) hk hH hK in_X3 (by rw [ccs_O G d σ (by omega)]; exact cO_T G σ ht) rfl (by decide) q284 rfl rfl hd kk
theorem jc_Tp_reports (hk : jk p R s m args meth c NX cc nL RX3 fr lo ret) (hH : cH G KK) (hK : KK s) {t : Nat} {x : Int32} {K : SS → Option ρ} (ht : t < 3) (hd : decode cc pc = .ok (.putfield 76, 3)) (kk : ∀ σ', jj p l e R s m args below meth c (hA G) NX Q (cWo G d) (cnx d) nL σ' (pc + 3) lv st (K σ' = some res)) : jj p l e R s m args below meth c (hA G) NX Q (cWo G d) (cnx d) nL σ pc lv (.int x :: .ref (ha G (3 + t)) :: st) ((some (sI σ (7 * t + 5) x)).bind K = some res) := by
  rcases (show t = 0 ∨ t = 1 ∨ t = 2 by omega) with h | h | h <;> subst h
  · exact cg_put (σ' := sI σ (7 * 0 + 5) x) (q0 := 3) (ci := 2) (k := 5) hk hH hK in_X3 tyX3 tyX3_ok nmX3 rfl rfl (by decide) q284 rfl rfl rfl (vp_nar_int x) rfl (Nat.le_of_ble_eq_true rfl) hd (ccs_setO G d σ _ (by decide) _ rfl rfl rfl) (kk _)
  · exact cg_put (σ' := sI σ (7 * 1 + 5) x) (q0 := 4) (ci := 2) (k := 5) hk hH hK in_X3 tyX3 tyX3_ok nmX3 rfl rfl (by decide) q284 rfl rfl rfl (vp_nar_int x) rfl (Nat.le_of_ble_eq_true rfl) hd (ccs_setO G d σ _ (by decide) _ rfl rfl rfl) (kk _)
  · exact cg_put (σ' := sI σ (7 * 2 + 5) x) (q0 := 5) (ci := 2) (k := 5) hk hH hK in_X3 tyX3 tyX3_ok nmX3 rfl rfl (by decide) q284 rfl rfl rfl (vp_nar_int x) rfl (Nat.le_of_ble_eq_true rfl) hd (ccs_setO G d σ _ (by decide) _ rfl rfl rfl) (kk _)
theorem jc_T_z (hk : jk p R s m args meth c NX cc nL RX3 fr lo ret) (hH : cH G KK) (hK : KK s) {t : Nat} (ht : t < 3) (hd : decode cc pc = .ok (.getfield 15, 3)) (kk : jj p l e R s m args below meth c (hA G) NX Q (cWo G d) (cnx d) nL σ (pc + 3) lv (.int (σ.1 (7 * t + 6)) :: st) Z) : jj p l e R s m args below meth c (hA G) NX Q (cWo G d) (cnx d) nL σ pc lv (.ref (ha G (3 + t)) :: st) Z :=
  cg_get (q0 := 3 + t) (ci := 2) (k := 6) hk hH hK in_X3 (by rw [ccs_O G d σ (by omega)]; exact cO_T G σ ht) rfl (by decide) q286 rfl rfl hd kk
theorem jc_Tp_z (hk : jk p R s m args meth c NX cc nL RX3 fr lo ret) (hH : cH G KK) (hK : KK s) {t : Nat} {x : Int32} {K : SS → Option ρ} (ht : t < 3) (hd : decode cc pc = .ok (.putfield 15, 3)) (kk : ∀ σ', jj p l e R s m args below meth c (hA G) NX Q (cWo G d) (cnx d) nL σ' (pc + 3) lv st (K σ' = some res)) : jj p l e R s m args below meth c (hA G) NX Q (cWo G d) (cnx d) nL σ pc lv (.int x :: .ref (ha G (3 + t)) :: st) ((some (sI σ (7 * t + 6) x)).bind K = some res) := by
  rcases (show t = 0 ∨ t = 1 ∨ t = 2 by omega) with h | h | h <;> subst h
  · exact cg_put (σ' := sI σ (7 * 0 + 6) x) (q0 := 3) (ci := 2) (k := 6) hk hH hK in_X3 tyX3 tyX3_ok nmX3 rfl rfl (by decide) q286 rfl rfl rfl (vp_nar_int x) rfl (Nat.le_of_ble_eq_true rfl) hd (ccs_setO G d σ _ (by decide) _ rfl rfl rfl) (kk _)
  · exact cg_put (σ' := sI σ (7 * 1 + 6) x) (q0 := 4) (ci := 2) (k := 6) hk hH hK in_X3 tyX3 tyX3_ok nmX3 rfl rfl (by decide) q286 rfl rfl rfl (vp_nar_int x) rfl (Nat.le_of_ble_eq_true rfl) hd (ccs_setO G d σ _ (by decide) _ rfl rfl rfl) (kk _)
  · exact cg_put (σ' := sI σ (7 * 2 + 6) x) (q0 := 5) (ci := 2) (k := 6) hk hH hK in_X3 tyX3 tyX3_ok nmX3 rfl rfl (by decide) q286 rfl rfl rfl (vp_nar_int x) rfl (Nat.le_of_ble_eq_true rfl) hd (ccs_setO G d σ _ (by decide) _ rfl rfl rfl) (kk _)
theorem jc_T_kind (hk : jk p R s m args meth c NX cc nL RX3 fr lo ret) (hH : cH G KK) (hK : KK s) {t : Nat} (ht : t < 3) (hd : decode cc pc = .ok (.getfield 18, 3)) (kk : jj p l e R s m args below meth c (hA G) NX Q (cWo G d) (cnx d) nL σ (pc + 3) lv (.ref (ha G (15 + (13 * t + 0))) :: st) Z) : jj p l e R s m args below meth c (hA G) NX Q (cWo G d) (cnx d) nL σ pc lv (.ref (ha G (3 + t)) :: st) Z :=
  cg_get (q0 := 3 + t) (ci := 2) (k := 7) hk hH hK in_X3 (by rw [ccs_O G d σ (by omega)]; exact cO_T G σ ht) rfl (by decide) q288 rfl rfl hd kk
theorem jc_T_grace (hk : jk p R s m args meth c NX cc nL RX3 fr lo ret) (hH : cH G KK) (hK : KK s) {t : Nat} (ht : t < 3) (hd : decode cc pc = .ok (.getfield 22, 3)) (kk : jj p l e R s m args below meth c (hA G) NX Q (cWo G d) (cnx d) nL σ (pc + 3) lv (.ref (ha G (15 + (13 * t + 1))) :: st) Z) : jj p l e R s m args below meth c (hA G) NX Q (cWo G d) (cnx d) nL σ pc lv (.ref (ha G (3 + t)) :: st) Z :=
  cg_get (q0 := 3 + t) (ci := 2) (k := 8) hk hH hK in_X3 (by rw [ccs_O G d σ (by omega)]; exact cO_T G σ ht) rfl (by decide) q290 rfl rfl hd kk
theorem jc_T_strength (hk : jk p R s m args meth c NX cc nL RX3 fr lo ret) (hH : cH G KK) (hK : KK s) {t : Nat} (ht : t < 3) (hd : decode cc pc = .ok (.getfield 25, 3)) (kk : jj p l e R s m args below meth c (hA G) NX Q (cWo G d) (cnx d) nL σ (pc + 3) lv (.ref (ha G (15 + (13 * t + 2))) :: st) Z) : jj p l e R s m args below meth c (hA G) NX Q (cWo G d) (cnx d) nL σ pc lv (.ref (ha G (3 + t)) :: st) Z :=
  cg_get (q0 := 3 + t) (ci := 2) (k := 9) hk hH hK in_X3 (by rw [ccs_O G d σ (by omega)]; exact cO_T G σ ht) rfl (by decide) q292 rfl rfl hd kk
theorem jc_T_whose (hk : jk p R s m args meth c NX cc nL RX3 fr lo ret) (hH : cH G KK) (hK : KK s) {t : Nat} (ht : t < 3) (hd : decode cc pc = .ok (.getfield 28, 3)) (kk : jj p l e R s m args below meth c (hA G) NX Q (cWo G d) (cnx d) nL σ (pc + 3) lv (.ref (ha G (15 + (13 * t + 3))) :: st) Z) : jj p l e R s m args below meth c (hA G) NX Q (cWo G d) (cnx d) nL σ pc lv (.ref (ha G (3 + t)) :: st) Z :=
  cg_get (q0 := 3 + t) (ci := 2) (k := 10) hk hH hK in_X3 (by rw [ccs_O G d σ (by omega)]; exact cO_T G σ ht) rfl (by decide) q294 rfl rfl hd kk
theorem jc_T_when (hk : jk p R s m args meth c NX cc nL RX3 fr lo ret) (hH : cH G KK) (hK : KK s) {t : Nat} (ht : t < 3) (hd : decode cc pc = .ok (.getfield 31, 3)) (kk : jj p l e R s m args below meth c (hA G) NX Q (cWo G d) (cnx d) nL σ (pc + 3) lv (.ref (ha G (15 + (13 * t + 4))) :: st) Z) : jj p l e R s m args below meth c (hA G) NX Q (cWo G d) (cnx d) nL σ pc lv (.ref (ha G (3 + t)) :: st) Z :=
  cg_get (q0 := 3 + t) (ci := 2) (k := 11) hk hH hK in_X3 (by rw [ccs_O G d σ (by omega)]; exact cO_T G σ ht) rfl (by decide) q296 rfl rfl hd kk
theorem jc_T_weight (hk : jk p R s m args meth c NX cc nL RX3 fr lo ret) (hH : cH G KK) (hK : KK s) {t : Nat} (ht : t < 3) (hd : decode cc pc = .ok (.getfield 34, 3)) (kk : jj p l e R s m args below meth c (hA G) NX Q (cWo G d) (cnx d) nL σ (pc + 3) lv (.ref (ha G (15 + (13 * t + 5))) :: st) Z) : jj p l e R s m args below meth c (hA G) NX Q (cWo G d) (cnx d) nL σ pc lv (.ref (ha G (3 + t)) :: st) Z :=
  cg_get (q0 := 3 + t) (ci := 2) (k := 12) hk hH hK in_X3 (by rw [ccs_O G d σ (by omega)]; exact cO_T G σ ht) rfl (by decide) q298 rfl rfl hd kk
theorem jc_T_need (hk : jk p R s m args meth c NX cc nL RX3 fr lo ret) (hH : cH G KK) (hK : KK s) {t : Nat} (ht : t < 3) (hd : decode cc pc = .ok (.getfield 37, 3)) (kk : jj p l e R s m args below meth c (hA G) NX Q (cWo G d) (cnx d) nL σ (pc + 3) lv (.ref (ha G (15 + (13 * t + 6))) :: st) Z) : jj p l e R s m args below meth c (hA G) NX Q (cWo G d) (cnx d) nL σ pc lv (.ref (ha G (3 + t)) :: st) Z :=
  cg_get (q0 := 3 + t) (ci := 2) (k := 13) hk hH hK in_X3 (by rw [ccs_O G d σ (by omega)]; exact cO_T G σ ht) rfl (by decide) q300 rfl rfl hd kk
theorem jc_T_so (hk : jk p R s m args meth c NX cc nL RX3 fr lo ret) (hH : cH G KK) (hK : KK s) {t : Nat} (ht : t < 3) (hd : decode cc pc = .ok (.getfield 40, 3)) (kk : jj p l e R s m args below meth c (hA G) NX Q (cWo G d) (cnx d) nL σ (pc + 3) lv (.ref (ha G (15 + (13 * t + 7))) :: st) Z) : jj p l e R s m args below meth c (hA G) NX Q (cWo G d) (cnx d) nL σ pc lv (.ref (ha G (3 + t)) :: st) Z :=
  cg_get (q0 := 3 + t) (ci := 2) (k := 14) hk hH hK in_X3 (by rw [ccs_O G d σ (by omega)]; exact cO_T G σ ht) rfl (by decide) q302 rfl rfl hd kk
theorem jc_T_owed (hk : jk p R s m args meth c NX cc nL RX3 fr lo ret) (hH : cH G KK) (hK : KK s) {t : Nat} (ht : t < 3) (hd : decode cc pc = .ok (.getfield 43, 3)) (kk : jj p l e R s m args below meth c (hA G) NX Q (cWo G d) (cnx d) nL σ (pc + 3) lv (.ref (ha G (15 + (13 * t + 8))) :: st) Z) : jj p l e R s m args below meth c (hA G) NX Q (cWo G d) (cnx d) nL σ pc lv (.ref (ha G (3 + t)) :: st) Z :=
  cg_get (q0 := 3 + t) (ci := 2) (k := 15) hk hH hK in_X3 (by rw [ccs_O G d σ (by omega)]; exact cO_T G σ ht) rfl (by decide) q304 rfl rfl hd kk
theorem jc_T_heavy (hk : jk p R s m args meth c NX cc nL RX3 fr lo ret) (hH : cH G KK) (hK : KK s) {t : Nat} (ht : t < 3) (hd : decode cc pc = .ok (.getfield 46, 3)) (kk : jj p l e R s m args below meth c (hA G) NX Q (cWo G d) (cnx d) nL σ (pc + 3) lv (.ref (ha G (15 + (13 * t + 9))) :: st) Z) : jj p l e R s m args below meth c (hA G) NX Q (cWo G d) (cnx d) nL σ pc lv (.ref (ha G (3 + t)) :: st) Z :=
  cg_get (q0 := 3 + t) (ci := 2) (k := 16) hk hH hK in_X3 (by rw [ccs_O G d σ (by omega)]; exact cO_T G σ ht) rfl (by decide) q306 rfl rfl hd kk
theorem jc_T_done (hk : jk p R s m args meth c NX cc nL RX3 fr lo ret) (hH : cH G KK) (hK : KK s) {t : Nat} (ht : t < 3) (hd : decode cc pc = .ok (.getfield 49, 3)) (kk : jj p l e R s m args below meth c (hA G) NX Q (cWo G d) (cnx d) nL σ (pc + 3) lv (.ref (ha G (15 + (13 * t + 10))) :: st) Z) : jj p l e R s m args below meth c (hA G) NX Q (cWo G d) (cnx d) nL σ pc lv (.ref (ha G (3 + t)) :: st) Z :=
  cg_get (q0 := 3 + t) (ci := 2) (k := 17) hk hH hK in_X3 (by rw [ccs_O G d σ (by omega)]; exact cO_T G σ ht) rfl (by decide) q308 rfl rfl hd kk
theorem jc_T_by (hk : jk p R s m args meth c NX cc nL RX3 fr lo ret) (hH : cH G KK) (hK : KK s) {t : Nat} (ht : t < 3) (hd : decode cc pc = .ok (.getfield 52, 3)) (kk : jj p l e R s m args below meth c (hA G) NX Q (cWo G d) (cnx d) nL σ (pc + 3) lv (.ref (ha G (15 + (13 * t + 11))) :: st) Z) : jj p l e R s m args below meth c (hA G) NX Q (cWo G d) (cnx d) nL σ pc lv (.ref (ha G (3 + t)) :: st) Z :=
  cg_get (q0 := 3 + t) (ci := 2) (k := 18) hk hH hK in_X3 (by rw [ccs_O G d σ (by omega)]; exact cO_T G σ ht) rfl (by decide) q310 rfl rfl hd kk
theorem jc_T_was (hk : jk p R s m args meth c NX cc nL RX3 fr lo ret) (hH : cH G KK) (hK : KK s) {t : Nat} (ht : t < 3) (hd : decode cc pc = .ok (.getfield 55, 3)) (kk : jj p l e R s m args below meth c (hA G) NX Q (cWo G d) (cnx d) nL σ (pc + 3) lv (.ref (ha G (15 + (13 * t + 12))) :: st) Z) : jj p l e R s m args below meth c (hA G) NX Q (cWo G d) (cnx d) nL σ pc lv (.ref (ha G (3 + t)) :: st) Z :=
  cg_get (q0 := 3 + t) (ci := 2) (k := 19) hk hH hK in_X3 (by rw [ccs_O G d σ (by omega)]; exact cO_T G σ ht) rfl (by decide) q312 rfl rfl hd kk
theorem jc_T_rules (hk : jk p R s m args meth c NX cc nL RX3 fr lo ret) (hH : cH G KK) (hK : KK s) {t : Nat} (ht : t < 3) (hd : decode cc pc = .ok (.getfield 60, 3)) (kk : jj p l e R s m args below meth c (hA G) NX Q (cWo G d) (cnx d) nL σ (pc + 3) lv (va_rf (σ.2.2.1 t) :: st) Z) : jj p l e R s m args below meth c (hA G) NX Q (cWo G d) (cnx d) nL σ pc lv (.ref (ha G (3 + t)) :: st) Z :=
  cg_get (q0 := 3 + t) (ci := 2) (k := 20) hk hH hK in_X3 (by rw [ccs_O G d σ (by omega)]; exact cO_T G σ ht) rfl (by decide) q314 rfl rfl hd kk
theorem jc_Tp_rules (hk : jk p R s m args meth c NX cc nL RX3 fr lo ret) (hH : cH G KK) (hK : KK s) {t : Nat} {x : Option Nat} {K : SS → Option ρ} (ht : t < 3) (hd : decode cc pc = .ok (.putfield 60, 3)) (kk : ∀ σ', jj p l e R s m args below meth c (hA G) NX Q (cWo G d) (cnx d) nL σ' (pc + 3) lv st (K σ' = some res)) : jj p l e R s m args below meth c (hA G) NX Q (cWo G d) (cnx d) nL σ pc lv (va_rf x :: .ref (ha G (3 + t)) :: st) ((some (sF σ t x)).bind K = some res) := by
  have hf : narrow (tyX3 20) (va_rf x) = va_rf x ∧ fits (tyX3 20) (va_rf x) = true := by cases x <;> exact ⟨rfl, rfl⟩
  rcases (show t = 0 ∨ t = 1 ∨ t = 2 by omega) with h | h | h <;> subst h
  · exact cg_put (σ' := sF σ 0 x) (q0 := 3) (ci := 2) (k := 20) hk hH hK in_X3 tyX3 tyX3_ok nmX3 rfl rfl (by decide) q314 rfl rfl rfl hf.1 hf.2 (Nat.le_of_ble_eq_true rfl) hd (ccs_setO G d σ _ (by decide) _ rfl rfl rfl) (kk _)
  · exact cg_put (σ' := sF σ 1 x) (q0 := 4) (ci := 2) (k := 20) hk hH hK in_X3 tyX3 tyX3_ok nmX3 rfl rfl (by decide) q314 rfl rfl rfl hf.1 hf.2 (Nat.le_of_ble_eq_true rfl) hd (ccs_setO G d σ _ (by decide) _ rfl rfl rfl) (kk _)
  · exact cg_put (σ' := sF σ 2 x) (q0 := 5) (ci := 2) (k := 20) hk hH hK in_X3 tyX3 tyX3_ok nmX3 rfl rfl (by decide) q314 rfl rfl rfl hf.1 hf.2 (Nat.le_of_ble_eq_true rfl) hd (ccs_setO G d σ _ (by decide) _ rfl rfl rfl) (kk _)
theorem jc_n_many (hk : jk p R s m args meth c NX cc nL RX0 fr lo ret) (hH : cH G KK) (hK : KK s) (hd : decode cc pc = .ok (.getfield 581, 3)) (kk : jj p l e R s m args below meth c (hA G) NX Q (cWo G d) (cnx d) nL σ (pc + 3) lv (.int (σ.1 70) :: st) Z) : jj p l e R s m args below meth c (hA G) NX Q (cWo G d) (cnx d) nL σ pc lv (.ref (ha G 6) :: st) Z :=
  cg_getN (host := RX0) (q0 := 6) (ci := 3) (k := 1) hk hH hK in_X4 rfl rfl (by decide) (List.mem_of_getElem? (i := 14) rfl) rfl rfl hd kk
theorem jc_np_many (hk : jk p R s m args meth c NX cc nL RX0 fr lo ret) (hH : cH G KK) (hK : KK s) {x : Int32} {K : SS → Option ρ} (hd : decode cc pc = .ok (.putfield 581, 3)) (kk : ∀ σ', jj p l e R s m args below meth c (hA G) NX Q (cWo G d) (cnx d) nL σ' (pc + 3) lv st (K σ' = some res)) : jj p l e R s m args below meth c (hA G) NX Q (cWo G d) (cnx d) nL σ pc lv (.int x :: .ref (ha G 6) :: st) ((some (sI σ 70 x)).bind K = some res) :=
  cg_putN (host := RX0) (σ' := sI σ 70 x) (q0 := 6) (ci := 3) (k := 1) hk hH hK in_X4 tyX4 tyX4_ok nmX4 rfl rfl (by decide) (List.mem_of_getElem? (i := 14) rfl) rfl rfl rfl (vp_nar_int x) rfl (Nat.le_of_ble_eq_true rfl) hd (ccs_setO G d σ _ (by decide) _ rfl rfl rfl) (kk _)
theorem jc_n_bodies (hk : jk p R s m args meth c NX cc nL RX0 fr lo ret) (hH : cH G KK) (hK : KK s) (hd : decode cc pc = .ok (.getfield 601, 3)) (kk : jj p l e R s m args below meth c (hA G) NX Q (cWo G d) (cnx d) nL σ (pc + 3) lv (.ref (ha G 60) :: st) Z) : jj p l e R s m args below meth c (hA G) NX Q (cWo G d) (cnx d) nL σ pc lv (.ref (ha G 6) :: st) Z :=
  cg_getN (host := RX0) (q0 := 6) (ci := 3) (k := 0) hk hH hK in_X4 rfl rfl (by decide) (List.mem_of_getElem? (i := 13) rfl) rfl rfl hd kk
theorem jc_r_many (hk : jk p R s m args meth c NX cc nL RX4 fr lo ret) (hH : cH G KK) (hK : KK s) (hd : decode cc pc = .ok (.getfield 13, 3)) (kk : jj p l e R s m args below meth c (hA G) NX Q (cWo G d) (cnx d) nL σ (pc + 3) lv (.int (σ.1 70) :: st) Z) : jj p l e R s m args below meth c (hA G) NX Q (cWo G d) (cnx d) nL σ pc lv (.ref (ha G 6) :: st) Z :=
  cg_get (q0 := 6) (ci := 3) (k := 1) hk hH hK in_X4 rfl rfl (by decide) q388 rfl rfl hd kk
theorem jc_rp_many (hk : jk p R s m args meth c NX cc nL RX4 fr lo ret) (hH : cH G KK) (hK : KK s) {x : Int32} {K : SS → Option ρ} (hd : decode cc pc = .ok (.putfield 13, 3)) (kk : ∀ σ', jj p l e R s m args below meth c (hA G) NX Q (cWo G d) (cnx d) nL σ' (pc + 3) lv st (K σ' = some res)) : jj p l e R s m args below meth c (hA G) NX Q (cWo G d) (cnx d) nL σ pc lv (.int x :: .ref (ha G 6) :: st) ((some (sI σ 70 x)).bind K = some res) :=
  cg_put (σ' := sI σ 70 x) (q0 := 6) (ci := 3) (k := 1) hk hH hK in_X4 tyX4 tyX4_ok nmX4 rfl rfl (by decide) q388 rfl rfl rfl (vp_nar_int x) rfl (Nat.le_of_ble_eq_true rfl) hd (ccs_setO G d σ _ (by decide) _ rfl rfl rfl) (kk _)
theorem jc_r_bodies (hk : jk p R s m args meth c NX cc nL RX4 fr lo ret) (hH : cH G KK) (hK : KK s) (hd : decode cc pc = .ok (.getfield 7, 3)) (kk : jj p l e R s m args below meth c (hA G) NX Q (cWo G d) (cnx d) nL σ (pc + 3) lv (.ref (ha G 60) :: st) Z) : jj p l e R s m args below meth c (hA G) NX Q (cWo G d) (cnx d) nL σ pc lv (.ref (ha G 6) :: st) Z :=
  cg_get (q0 := 6) (ci := 3) (k := 0) hk hH hK in_X4 rfl rfl (by decide) q386 rfl rfl hd kk
theorem jc_alenS (hk : jk p R s m args meth c NX cc nL own fr lo ret) (hH : cH G KK) (hK : KK s) {j : Nat} {v : Int32} (hj : j < 46) (hv : Int32.ofNat (lenC j) = v) (hd : decode cc pc = .ok (.arraylength, 1)) (kk : jj p l e R s m args below meth c (hA G) NX Q (cWo G d) (cnx d) nL σ (pc + 1) lv (.int v :: st) Z) : jj p l e R s m args below meth c (hA G) NX Q (cWo G d) (cnx d) nL σ pc lv (.ref (ha G (15 + j)) :: st) Z :=
  fun hz => ⟨(kk hz).1, fun H locs ls hW hn hS hl => va_alen (x := (lenC j, .inl (σ.2.1 j))) hk.1.1 hk.1.2.1 (hH.2.1 s hK).1 hW.1 (15 + j) 0 (by rw [ccs_A G d σ (show j < 47 by omega)]; unfold cArr; rw [if_neg (by omega)]) rfl hv hd ((kk hz).2 H locs ls hW hn hS hl)⟩
def ldR (σ : SS) (j : Nat) (i : Int32) : Option (Option Nat) := if i < 0 ∨ [6, 45].getD j 0 ≤ i.toNatClampNeg then none else some (σ.2.2.2 j i.toNatClampNeg)
/-- an element that isn't null -/
def ldN (σ : SS) (j : Nat) (i : Int32) : Option Nat := (ldR σ j i).bind id
/-- a shelf, a sheet: its number -/
def ldS (i : Int32) : Option Nat := if i < 0 ∨ 4 ≤ i.toNatClampNeg then none else some i.toNatClampNeg

theorem jc_ldR0 (hk : jk p R s m args meth c NX cc nL own fr lo ret) (hH : cH G KK) (hK : KK s) {i : Int32} {K : Option Nat → Option ρ} (hd : decode cc pc = .ok (.aaload, 1)) (kk : ∀ r, jj p l e R s m args below meth c (hA G) NX Q (cWo G d) (cnx d) nL σ (pc + 1) lv (va_rf r :: st) (K r = some res)) : jj p l e R s m args below meth c (hA G) NX Q (cWo G d) (cnx d) nL σ pc lv (.int i :: .ref (ha G 62) :: st) ((ldR σ 0 i).bind K = some res) := by
  intro hz
  unfold ldR at hz
  by_cases h : i < 0 ∨ [6, 45].getD 0 0 ≤ i.toNatClampNeg
  · rw [if_pos h] at hz; cases hz
  · rw [if_neg h] at hz
    have hk2 := kk _ hz
    exact ⟨hk2.1, fun H locs ls hW hn hS hl => va_aldq hk.1.1 hk.1.2.1 (hH.2.1 s hK).1 hW.1 62 5 (ccs_R G d σ (i := 0) (by decide)) rfl h hd (hk2.2 H locs ls hW hn hS hl)⟩
theorem jc_ldN0 (hk : jk p R s m args meth c NX cc nL own fr lo ret) (hH : cH G KK) (hK : KK s) {i : Int32} {K : Nat → Option ρ} (hd : decode cc pc = .ok (.aaload, 1)) (kk : ∀ r, jj p l e R s m args below meth c (hA G) NX Q (cWo G d) (cnx d) nL σ (pc + 1) lv (.ref r :: st) (K r = some res)) : jj p l e R s m args below meth c (hA G) NX Q (cWo G d) (cnx d) nL σ pc lv (.int i :: .ref (ha G 62) :: st) ((ldN σ 0 i).bind K = some res) := by
  intro hz
  unfold ldN at hz
  rw [Option.bind_assoc] at hz
  refine jc_ldR0 (K := fun r => (id r).bind K) hk hH hK hd (fun r => ?_) hz
  cases r with
  | none => exact fun h => by cases h
  | some q => exact kk q
theorem jc_ldR1 (hk : jk p R s m args meth c NX cc nL own fr lo ret) (hH : cH G KK) (hK : KK s) {i : Int32} {K : Option Nat → Option ρ} (hd : decode cc pc = .ok (.aaload, 1)) (kk : ∀ r, jj p l e R s m args below meth c (hA G) NX Q (cWo G d) (cnx d) nL σ (pc + 1) lv (va_rf r :: st) (K r = some res)) : jj p l e R s m args below meth c (hA G) NX Q (cWo G d) (cnx d) nL σ pc lv (.int i :: .ref (ha G 63) :: st) ((ldR σ 1 i).bind K = some res) := by
  intro hz
  unfold ldR at hz
  by_cases h : i < 0 ∨ [6, 45].getD 1 0 ≤ i.toNatClampNeg
  · rw [if_pos h] at hz; cases hz
  · rw [if_neg h] at hz
    have hk2 := kk _ hz
    exact ⟨hk2.1, fun H locs ls hW hn hS hl => va_aldq hk.1.1 hk.1.2.1 (hH.2.1 s hK).1 hW.1 63 5 (ccs_R G d σ (i := 1) (by decide)) rfl h hd (hk2.2 H locs ls hW hn hS hl)⟩
theorem jc_ldN1 (hk : jk p R s m args meth c NX cc nL own fr lo ret) (hH : cH G KK) (hK : KK s) {i : Int32} {K : Nat → Option ρ} (hd : decode cc pc = .ok (.aaload, 1)) (kk : ∀ r, jj p l e R s m args below meth c (hA G) NX Q (cWo G d) (cnx d) nL σ (pc + 1) lv (.ref r :: st) (K r = some res)) : jj p l e R s m args below meth c (hA G) NX Q (cWo G d) (cnx d) nL σ pc lv (.int i :: .ref (ha G 63) :: st) ((ldN σ 1 i).bind K = some res) := by
  intro hz
  unfold ldN at hz
  rw [Option.bind_assoc] at hz
  refine jc_ldR1 (K := fun r => (id r).bind K) hk hH hK hd (fun r => ?_) hz
  cases r with
  | none => exact fun h => by cases h
  | some q => exact kk q
theorem ccs_dl {G : cG} {d : DS} {σ : SS} {q : Nat} {e : dE} (h : dl d q = some e) : ∃ i : Nat, (ccs G d σ)[69 + i]? = some (dT G (q, e)) := by
  obtain ⟨i, hi⟩ := dl_spec h
  exact ⟨i, by rw [ccs_D, hi]; rfl⟩
/-- an object's class; whether it is of a class; an int field, a reference; a person's ints -/
def dci (d : DS) (q : Nat) : Option Nat := match dl d q with
  | some (.inr (ci, _)) => some ci
  | _ => none
def dcl (d : DS) (ci q : Nat) : Option Unit := match dl d q with
  | some (.inr (c, _)) => if c = ci then some () else none
  | _ => none
def dInt (d : DS) (ci k q : Nat) : Option Int32 := match dl d q with
  | some (.inr (c, fs)) => if c = ci then (match fs[k]? with | some (.int x) => some x | _ => none) else none
  | _ => none
def dRef (d : DS) (ci k q : Nat) : Option (Option Nat) := match dl d q with
  | some (.inr (c, fs)) => if c = ci then (match fs[k]? with | some (.ref a) => some (some a) | some .null => some none | _ => none) else none
  | _ => none
def dRfn (d : DS) (ci k q : Nat) : Option Nat := (dRef d ci k q).bind id
def hInt (d : DS) (k q : Nat) : Option Int32 := match dl d q with
  | some (.inr (c, fs)) => if 7 ≤ c ∧ c ≤ 11 then (match fs[k]? with | some (.int x) => some x | _ => none) else none
  | _ => none
/-- an array of rules: how long, its elements -/
def dlnR (d : DS) (q : Nat) : Option Int32 := match dl d q with
  | some (.inl (8, n, _)) => some (Int32.ofNat n)
  | _ => none
def dld (d : DS) (q : Nat) (i : Int32) : Option Nat := match dl d q with
  | some (.inl (8, n, .inr (.inr (.inr (.inr f))))) => if i < 0 ∨ n ≤ i.toNatClampNeg then none else f i.toNatClampNeg
  | _ => none
theorem dcl_spec {d : DS} {ci q : Nat} (h : dcl d ci q = some ()) : ∃ fs, dl d q = some (.inr (ci, fs)) := by
  unfold dcl at h
  split at h
  · rename_i c fs e
    split at h
    · rename_i hc; subst hc; exact ⟨fs, e⟩
    · cases h
  · cases h
theorem dInt_spec {d : DS} {ci k q : Nat} {x : Int32} (h : dInt d ci k q = some x) : ∃ fs, dl d q = some (.inr (ci, fs)) ∧ fs[k]? = some (.int x) := by
  unfold dInt at h
  split at h
  · rename_i c fs e
    split at h
    · rename_i hc
      subst hc
      split at h
      · rename_i y hy; cases h; exact ⟨fs, e, hy⟩
      · cases h
    · cases h
  · cases h
theorem dRef_spec {d : DS} {ci k q : Nat} {x : Option Nat} (h : dRef d ci k q = some x) : ∃ fs, dl d q = some (.inr (ci, fs)) ∧ fs[k]? = some (va_rf x) := by
  unfold dRef at h
  split at h
  · rename_i c fs e
    split at h
    · rename_i hc
      subst hc
      split at h
      · rename_i y hy; cases h; exact ⟨fs, e, hy⟩
      · rename_i hy; cases h; exact ⟨fs, e, hy⟩
      · cases h
    · cases h
  · cases h
theorem hInt_spec {d : DS} {k q : Nat} {x : Int32} (h : hInt d k q = some x) : ∃ ci fs, (ci = 7 ∨ ci = 8 ∨ ci = 9 ∨ ci = 10 ∨ ci = 11) ∧ dl d q = some (.inr (ci, fs)) ∧ fs[k]? = some (.int x) := by
  unfold hInt at h
  split at h
  · rename_i c fs e
    split at h
    · rename_i hc
      split at h
      · rename_i y hy; cases h; exact ⟨c, fs, by omega, e, hy⟩
      · cases h
    · cases h
  · cases h
theorem jj_dcl {ci q : Nat} {ρ1 : Type} {F : Option ρ1} {K : ρ1 → Option ρ} (h : ∀ fs, dl d q = some (.inr (ci, fs)) → jj p l e R s m args below meth c (hA G) NX Q (cWo G d) (cnx d) nL σ pc lv st (F.bind K = some res)) : jj p l e R s m args below meth c (hA G) NX Q (cWo G d) (cnx d) nL σ pc lv st (((dcl d ci q).bind fun _ => F).bind K = some res) := by
  intro hz
  cases hc : dcl d ci q with
  | none => rw [hc] at hz; cases hz
  | some u =>
    rw [hc] at hz
    obtain ⟨fs, hf⟩ := dcl_spec hc
    exact h fs hf hz
theorem jc_dlnR (hk : jk p R s m args meth c NX cc nL own fr lo ret) (hH : cH G KK) (hK : KK s) {q : Nat} {K : Int32 → Option ρ} (hd : decode cc pc = .ok (.arraylength, 1)) (kk : ∀ v, jj p l e R s m args below meth c (hA G) NX Q (cWo G d) (cnx d) nL σ (pc + 1) lv (.int v :: st) (K v = some res)) : jj p l e R s m args below meth c (hA G) NX Q (cWo G d) (cnx d) nL σ pc lv (.ref q :: st) ((dlnR d q).bind K = some res) := by
  intro hz
  unfold dlnR at hz
  split at hz
  · rename_i n f he
    obtain ⟨i, hi⟩ := ccs_dl (G := G) (σ := σ) he
    have hk2 := kk _ hz
    exact ⟨hk2.1, fun H locs ls hW hn hS hl => va_alen hk.1.1 hk.1.2.1 (hH.2.1 s hK).1 hW.1 (69 + i) 8 hi rfl rfl hd (hk2.2 H locs ls hW hn hS hl)⟩
  · cases hz
theorem jc_dldR (hk : jk p R s m args meth c NX cc nL own fr lo ret) (hH : cH G KK) (hK : KK s) {q : Nat} {i : Int32} {K : Nat → Option ρ} (hd : decode cc pc = .ok (.aaload, 1)) (kk : ∀ v, jj p l e R s m args below meth c (hA G) NX Q (cWo G d) (cnx d) nL σ (pc + 1) lv (.ref v :: st) (K v = some res)) : jj p l e R s m args below meth c (hA G) NX Q (cWo G d) (cnx d) nL σ pc lv (.int i :: .ref q :: st) ((dld d q i).bind K = some res) := by
  intro hz
  unfold dld at hz
  split at hz
  · rename_i n f he
    by_cases h : i < 0 ∨ n ≤ i.toNatClampNeg
    · rw [if_pos h] at hz; cases hz
    · rw [if_neg h] at hz
      cases hf : f i.toNatClampNeg with
      | none => rw [hf] at hz; cases hz
      | some r =>
        rw [hf] at hz
        obtain ⟨ix, hi⟩ := ccs_dl (G := G) (σ := σ) he
        have hk2 := kk r hz
        exact ⟨hk2.1, fun H locs ls hW hn hS hl => va_aldq hk.1.1 hk.1.2.1 (hH.2.1 s hK).1 hW.1 (69 + ix) 8 hi rfl h hd (by rw [hf]; exact hk2.2 H locs ls hW hn hS hl)⟩
  · cases hz
theorem jd_X15_fact (hk : jk p R s m args meth c NX cc nL RX15 fr lo ret) (hH : cH G KK) (hK : KK s) {q : Nat} {K : Int32 → Option ρ} (hd : decode cc pc = .ok (.getfield 7, 3)) (kk : ∀ v, jj p l e R s m args below meth c (hA G) NX Q (cWo G d) (cnx d) nL σ (pc + 3) lv (.int v :: st) (K v = some res)) : jj p l e R s m args below meth c (hA G) NX Q (cWo G d) (cnx d) nL σ pc lv (.ref q :: st) ((dInt d 16 0 q).bind K = some res) := by
  intro hz
  cases hv : dInt d 16 0 q with
  | none => rw [hv] at hz; cases hz
  | some x =>
    rw [hv] at hz
    obtain ⟨fs, he, hx⟩ := dInt_spec hv
    obtain ⟨i, hi⟩ := ccs_dl (G := G) (σ := σ) he
    exact cg_get (q0 := 69 + i) (ci := 16) (k := 0) hk hH hK in_X15 hi rfl (by decide) q851 rfl hx hd (kk x) hz
theorem jd_X15_n (hk : jk p R s m args meth c NX cc nL RX15 fr lo ret) (hH : cH G KK) (hK : KK s) {q : Nat} {K : Int32 → Option ρ} (hd : decode cc pc = .ok (.getfield 13, 3)) (kk : ∀ v, jj p l e R s m args below meth c (hA G) NX Q (cWo G d) (cnx d) nL σ (pc + 3) lv (.int v :: st) (K v = some res)) : jj p l e R s m args below meth c (hA G) NX Q (cWo G d) (cnx d) nL σ pc lv (.ref q :: st) ((dInt d 16 1 q).bind K = some res) := by
  intro hz
  cases hv : dInt d 16 1 q with
  | none => rw [hv] at hz; cases hz
  | some x =>
    rw [hv] at hz
    obtain ⟨fs, he, hx⟩ := dInt_spec hv
    obtain ⟨i, hi⟩ := ccs_dl (G := G) (σ := σ) he
    exact cg_get (q0 := 69 + i) (ci := 16) (k := 1) hk hH hK in_X15 hi rfl (by decide) q852 rfl hx hd (kk x) hz
theorem jd_X16_firsto (hk : jk p R s m args meth c NX cc nL RX16 fr lo ret) (hH : cH G KK) (hK : KK s) {q : Nat} {K : Option Nat → Option ρ} (hd : decode cc pc = .ok (.getfield 7, 3)) (kk : ∀ v, jj p l e R s m args below meth c (hA G) NX Q (cWo G d) (cnx d) nL σ (pc + 3) lv (va_rf v :: st) (K v = some res)) : jj p l e R s m args below meth c (hA G) NX Q (cWo G d) (cnx d) nL σ pc lv (.ref q :: st) ((dRef d 13 0 q).bind K = some res) := by
  intro hz
  cases hv : dRef d 13 0 q with
  | none => rw [hv] at hz; cases hz
  | some x =>
    rw [hv] at hz
    obtain ⟨fs, he, hx⟩ := dRef_spec hv
    obtain ⟨i, hi⟩ := ccs_dl (G := G) (σ := σ) he
    exact cg_get (q0 := 69 + i) (ci := 13) (k := 0) hk hH hK in_X16 hi rfl (by decide) q868 rfl hx hd (kk x) hz
theorem jd_X16_first (hk : jk p R s m args meth c NX cc nL RX16 fr lo ret) (hH : cH G KK) (hK : KK s) {q : Nat} {K : Nat → Option ρ} (hd : decode cc pc = .ok (.getfield 7, 3)) (kk : ∀ v, jj p l e R s m args below meth c (hA G) NX Q (cWo G d) (cnx d) nL σ (pc + 3) lv (.ref v :: st) (K v = some res)) : jj p l e R s m args below meth c (hA G) NX Q (cWo G d) (cnx d) nL σ pc lv (.ref q :: st) ((dRfn d 13 0 q).bind K = some res) := by
  intro hz
  unfold dRfn at hz
  rw [Option.bind_assoc] at hz
  refine jd_X16_firsto (K := fun r => (id r).bind K) hk hH hK hd (fun r => ?_) hz
  cases r with
  | none => exact fun h => by cases h
  | some a => exact kk a
theorem jd_X16_secondo (hk : jk p R s m args meth c NX cc nL RX16 fr lo ret) (hH : cH G KK) (hK : KK s) {q : Nat} {K : Option Nat → Option ρ} (hd : decode cc pc = .ok (.getfield 17, 3)) (kk : ∀ v, jj p l e R s m args below meth c (hA G) NX Q (cWo G d) (cnx d) nL σ (pc + 3) lv (va_rf v :: st) (K v = some res)) : jj p l e R s m args below meth c (hA G) NX Q (cWo G d) (cnx d) nL σ pc lv (.ref q :: st) ((dRef d 13 1 q).bind K = some res) := by
  intro hz
  cases hv : dRef d 13 1 q with
  | none => rw [hv] at hz; cases hz
  | some x =>
    rw [hv] at hz
    obtain ⟨fs, he, hx⟩ := dRef_spec hv
    obtain ⟨i, hi⟩ := ccs_dl (G := G) (σ := σ) he
    exact cg_get (q0 := 69 + i) (ci := 13) (k := 1) hk hH hK in_X16 hi rfl (by decide) q869 rfl hx hd (kk x) hz
theorem jd_X16_second (hk : jk p R s m args meth c NX cc nL RX16 fr lo ret) (hH : cH G KK) (hK : KK s) {q : Nat} {K : Nat → Option ρ} (hd : decode cc pc = .ok (.getfield 17, 3)) (kk : ∀ v, jj p l e R s m args below meth c (hA G) NX Q (cWo G d) (cnx d) nL σ (pc + 3) lv (.ref v :: st) (K v = some res)) : jj p l e R s m args below meth c (hA G) NX Q (cWo G d) (cnx d) nL σ pc lv (.ref q :: st) ((dRfn d 13 1 q).bind K = some res) := by
  intro hz
  unfold dRfn at hz
  rw [Option.bind_assoc] at hz
  refine jd_X16_secondo (K := fun r => (id r).bind K) hk hH hK hd (fun r => ?_) hz
  cases r with
  | none => exact fun h => by cases h
  | some a => exact kk a
theorem jd_X16_sign (hk : jk p R s m args meth c NX cc nL RX16 fr lo ret) (hH : cH G KK) (hK : KK s) {q : Nat} {K : Int32 → Option ρ} (hd : decode cc pc = .ok (.getfield 13, 3)) (kk : ∀ v, jj p l e R s m args below meth c (hA G) NX Q (cWo G d) (cnx d) nL σ (pc + 3) lv (.int v :: st) (K v = some res)) : jj p l e R s m args below meth c (hA G) NX Q (cWo G d) (cnx d) nL σ pc lv (.ref q :: st) ((dInt d 13 2 q).bind K = some res) := by
  intro hz
  cases hv : dInt d 13 2 q with
  | none => rw [hv] at hz; cases hz
  | some x =>
    rw [hv] at hz
    obtain ⟨fs, he, hx⟩ := dInt_spec hv
    obtain ⟨i, hi⟩ := ccs_dl (G := G) (σ := σ) he
    exact cg_get (q0 := 69 + i) (ci := 13) (k := 2) hk hH hK in_X16 hi rfl (by decide) q870 rfl hx hd (kk x) hz
theorem jd_X14_ofo (hk : jk p R s m args meth c NX cc nL RX14 fr lo ret) (hH : cH G KK) (hK : KK s) {q : Nat} {K : Option Nat → Option ρ} (hd : decode cc pc = .ok (.getfield 7, 3)) (kk : ∀ v, jj p l e R s m args below meth c (hA G) NX Q (cWo G d) (cnx d) nL σ (pc + 3) lv (va_rf v :: st) (K v = some res)) : jj p l e R s m args below meth c (hA G) NX Q (cWo G d) (cnx d) nL σ pc lv (.ref q :: st) ((dRef d 12 0 q).bind K = some res) := by
  intro hz
  cases hv : dRef d 12 0 q with
  | none => rw [hv] at hz; cases hz
  | some x =>
    rw [hv] at hz
    obtain ⟨fs, he, hx⟩ := dRef_spec hv
    obtain ⟨i, hi⟩ := ccs_dl (G := G) (σ := σ) he
    exact cg_get (q0 := 69 + i) (ci := 12) (k := 0) hk hH hK in_X14 hi rfl (by decide) q831 rfl hx hd (kk x) hz
theorem jd_X14_of (hk : jk p R s m args meth c NX cc nL RX14 fr lo ret) (hH : cH G KK) (hK : KK s) {q : Nat} {K : Nat → Option ρ} (hd : decode cc pc = .ok (.getfield 7, 3)) (kk : ∀ v, jj p l e R s m args below meth c (hA G) NX Q (cWo G d) (cnx d) nL σ (pc + 3) lv (.ref v :: st) (K v = some res)) : jj p l e R s m args below meth c (hA G) NX Q (cWo G d) (cnx d) nL σ pc lv (.ref q :: st) ((dRfn d 12 0 q).bind K = some res) := by
  intro hz
  unfold dRfn at hz
  rw [Option.bind_assoc] at hz
  refine jd_X14_ofo (K := fun r => (id r).bind K) hk hH hK hd (fun r => ?_) hz
  cases r with
  | none => exact fun h => by cases h
  | some a => exact kk a
theorem jd_X17_firsto (hk : jk p R s m args meth c NX cc nL RX17 fr lo ret) (hH : cH G KK) (hK : KK s) {q : Nat} {K : Option Nat → Option ρ} (hd : decode cc pc = .ok (.getfield 7, 3)) (kk : ∀ v, jj p l e R s m args below meth c (hA G) NX Q (cWo G d) (cnx d) nL σ (pc + 3) lv (va_rf v :: st) (K v = some res)) : jj p l e R s m args below meth c (hA G) NX Q (cWo G d) (cnx d) nL σ pc lv (.ref q :: st) ((dRef d 14 0 q).bind K = some res) := by
  intro hz
  cases hv : dRef d 14 0 q with
  | none => rw [hv] at hz; cases hz
  | some x =>
    rw [hv] at hz
    obtain ⟨fs, he, hx⟩ := dRef_spec hv
    obtain ⟨i, hi⟩ := ccs_dl (G := G) (σ := σ) he
    exact cg_get (q0 := 69 + i) (ci := 14) (k := 0) hk hH hK in_X17 hi rfl (by decide) q885 rfl hx hd (kk x) hz
theorem jd_X17_first (hk : jk p R s m args meth c NX cc nL RX17 fr lo ret) (hH : cH G KK) (hK : KK s) {q : Nat} {K : Nat → Option ρ} (hd : decode cc pc = .ok (.getfield 7, 3)) (kk : ∀ v, jj p l e R s m args below meth c (hA G) NX Q (cWo G d) (cnx d) nL σ (pc + 3) lv (.ref v :: st) (K v = some res)) : jj p l e R s m args below meth c (hA G) NX Q (cWo G d) (cnx d) nL σ pc lv (.ref q :: st) ((dRfn d 14 0 q).bind K = some res) := by
  intro hz
  unfold dRfn at hz
  rw [Option.bind_assoc] at hz
  refine jd_X17_firsto (K := fun r => (id r).bind K) hk hH hK hd (fun r => ?_) hz
  cases r with
  | none => exact fun h => by cases h
  | some a => exact kk a
theorem jd_X17_secondo (hk : jk p R s m args meth c NX cc nL RX17 fr lo ret) (hH : cH G KK) (hK : KK s) {q : Nat} {K : Option Nat → Option ρ} (hd : decode cc pc = .ok (.getfield 13, 3)) (kk : ∀ v, jj p l e R s m args below meth c (hA G) NX Q (cWo G d) (cnx d) nL σ (pc + 3) lv (va_rf v :: st) (K v = some res)) : jj p l e R s m args below meth c (hA G) NX Q (cWo G d) (cnx d) nL σ pc lv (.ref q :: st) ((dRef d 14 1 q).bind K = some res) := by
  intro hz
  cases hv : dRef d 14 1 q with
  | none => rw [hv] at hz; cases hz
  | some x =>
    rw [hv] at hz
    obtain ⟨fs, he, hx⟩ := dRef_spec hv
    obtain ⟨i, hi⟩ := ccs_dl (G := G) (σ := σ) he
    exact cg_get (q0 := 69 + i) (ci := 14) (k := 1) hk hH hK in_X17 hi rfl (by decide) q888 rfl hx hd (kk x) hz
theorem jd_X17_second (hk : jk p R s m args meth c NX cc nL RX17 fr lo ret) (hH : cH G KK) (hK : KK s) {q : Nat} {K : Nat → Option ρ} (hd : decode cc pc = .ok (.getfield 13, 3)) (kk : ∀ v, jj p l e R s m args below meth c (hA G) NX Q (cWo G d) (cnx d) nL σ (pc + 3) lv (.ref v :: st) (K v = some res)) : jj p l e R s m args below meth c (hA G) NX Q (cWo G d) (cnx d) nL σ pc lv (.ref q :: st) ((dRfn d 14 1 q).bind K = some res) := by
  intro hz
  unfold dRfn at hz
  rw [Option.bind_assoc] at hz
  refine jd_X17_secondo (K := fun r => (id r).bind K) hk hH hK hd (fun r => ?_) hz
  cases r with
  | none => exact fun h => by cases h
  | some a => exact kk a
theorem jd_X19_kind (hk : jk p R s m args meth c NX cc nL RX19 fr lo ret) (hH : cH G KK) (hK : KK s) {q : Nat} {K : Int32 → Option ρ} (hd : decode cc pc = .ok (.getfield 9, 3)) (kk : ∀ v, jj p l e R s m args below meth c (hA G) NX Q (cWo G d) (cnx d) nL σ (pc + 3) lv (.int v :: st) (K v = some res)) : jj p l e R s m args below meth c (hA G) NX Q (cWo G d) (cnx d) nL σ pc lv (.ref q :: st) ((dInt d 17 0 q).bind K = some res) := by
  intro hz
  cases hv : dInt d 17 0 q with
  | none => rw [hv] at hz; cases hz
  | some x =>
    rw [hv] at hz
    obtain ⟨fs, he, hx⟩ := dInt_spec hv
    obtain ⟨i, hi⟩ := ccs_dl (G := G) (σ := σ) he
    exact cg_get (q0 := 69 + i) (ci := 17) (k := 0) hk hH hK in_X19 hi rfl (by decide) q916 rfl hx hd (kk x) hz
theorem jd_X19_does (hk : jk p R s m args meth c NX cc nL RX19 fr lo ret) (hH : cH G KK) (hK : KK s) {q : Nat} {K : Int32 → Option ρ} (hd : decode cc pc = .ok (.getfield 19, 3)) (kk : ∀ v, jj p l e R s m args below meth c (hA G) NX Q (cWo G d) (cnx d) nL σ (pc + 3) lv (.int v :: st) (K v = some res)) : jj p l e R s m args below meth c (hA G) NX Q (cWo G d) (cnx d) nL σ pc lv (.ref q :: st) ((dInt d 17 1 q).bind K = some res) := by
  intro hz
  cases hv : dInt d 17 1 q with
  | none => rw [hv] at hz; cases hz
  | some x =>
    rw [hv] at hz
    obtain ⟨fs, he, hx⟩ := dInt_spec hv
    obtain ⟨i, hi⟩ := ccs_dl (G := G) (σ := σ) he
    exact cg_get (q0 := 69 + i) (ci := 17) (k := 1) hk hH hK in_X19 hi rfl (by decide) q917 rfl hx hd (kk x) hz
theorem jd_X19_n (hk : jk p R s m args meth c NX cc nL RX19 fr lo ret) (hH : cH G KK) (hK : KK s) {q : Nat} {K : Int32 → Option ρ} (hd : decode cc pc = .ok (.getfield 22, 3)) (kk : ∀ v, jj p l e R s m args below meth c (hA G) NX Q (cWo G d) (cnx d) nL σ (pc + 3) lv (.int v :: st) (K v = some res)) : jj p l e R s m args below meth c (hA G) NX Q (cWo G d) (cnx d) nL σ pc lv (.ref q :: st) ((dInt d 17 2 q).bind K = some res) := by
  intro hz
  cases hv : dInt d 17 2 q with
  | none => rw [hv] at hz; cases hz
  | some x =>
    rw [hv] at hz
    obtain ⟨fs, he, hx⟩ := dInt_spec hv
    obtain ⟨i, hi⟩ := ccs_dl (G := G) (σ := σ) he
    exact cg_get (q0 := 69 + i) (ci := 17) (k := 2) hk hH hK in_X19 hi rfl (by decide) q919 rfl hx hd (kk x) hz
theorem jd_X19_condo (hk : jk p R s m args meth c NX cc nL RX19 fr lo ret) (hH : cH G KK) (hK : KK s) {q : Nat} {K : Option Nat → Option ρ} (hd : decode cc pc = .ok (.getfield 15, 3)) (kk : ∀ v, jj p l e R s m args below meth c (hA G) NX Q (cWo G d) (cnx d) nL σ (pc + 3) lv (va_rf v :: st) (K v = some res)) : jj p l e R s m args below meth c (hA G) NX Q (cWo G d) (cnx d) nL σ pc lv (.ref q :: st) ((dRef d 17 3 q).bind K = some res) := by
  intro hz
  cases hv : dRef d 17 3 q with
  | none => rw [hv] at hz; cases hz
  | some x =>
    rw [hv] at hz
    obtain ⟨fs, he, hx⟩ := dRef_spec hv
    obtain ⟨i, hi⟩ := ccs_dl (G := G) (σ := σ) he
    exact cg_get (q0 := 69 + i) (ci := 17) (k := 3) hk hH hK in_X19 hi rfl (by decide) q920 rfl hx hd (kk x) hz
theorem jd_X19_cond (hk : jk p R s m args meth c NX cc nL RX19 fr lo ret) (hH : cH G KK) (hK : KK s) {q : Nat} {K : Nat → Option ρ} (hd : decode cc pc = .ok (.getfield 15, 3)) (kk : ∀ v, jj p l e R s m args below meth c (hA G) NX Q (cWo G d) (cnx d) nL σ (pc + 3) lv (.ref v :: st) (K v = some res)) : jj p l e R s m args below meth c (hA G) NX Q (cWo G d) (cnx d) nL σ pc lv (.ref q :: st) ((dRfn d 17 3 q).bind K = some res) := by
  intro hz
  unfold dRfn at hz
  rw [Option.bind_assoc] at hz
  refine jd_X19_condo (K := fun r => (id r).bind K) hk hH hK hd (fun r => ?_) hz
  cases r with
  | none => exact fun h => by cases h
  | some a => exact kk a
theorem jd_X0_does (hk : jk p R s m args meth c NX cc nL RX0 fr lo ret) (hH : cH G KK) (hK : KK s) {q : Nat} {K : Int32 → Option ρ} (hd : decode cc pc = .ok (.getfield 358, 3)) (kk : ∀ v, jj p l e R s m args below meth c (hA G) NX Q (cWo G d) (cnx d) nL σ (pc + 3) lv (.int v :: st) (K v = some res)) : jj p l e R s m args below meth c (hA G) NX Q (cWo G d) (cnx d) nL σ pc lv (.ref q :: st) ((dInt d 17 1 q).bind K = some res) := by
  intro hz
  cases hv : dInt d 17 1 q with
  | none => rw [hv] at hz; cases hz
  | some x =>
    rw [hv] at hz
    obtain ⟨fs, he, hx⟩ := dInt_spec hv
    obtain ⟨i, hi⟩ := ccs_dl (G := G) (σ := σ) he
    exact cg_get (q0 := 69 + i) (ci := 17) (k := 1) hk hH hK in_X19 hi rfl (by decide) q918 rfl hx hd (kk x) hz
theorem jd_X18_firsto (hk : jk p R s m args meth c NX cc nL RX18 fr lo ret) (hH : cH G KK) (hK : KK s) {q : Nat} {K : Option Nat → Option ρ} (hd : decode cc pc = .ok (.getfield 7, 3)) (kk : ∀ v, jj p l e R s m args below meth c (hA G) NX Q (cWo G d) (cnx d) nL σ (pc + 3) lv (va_rf v :: st) (K v = some res)) : jj p l e R s m args below meth c (hA G) NX Q (cWo G d) (cnx d) nL σ pc lv (.ref q :: st) ((dRef d 15 0 q).bind K = some res) := by
  intro hz
  cases hv : dRef d 15 0 q with
  | none => rw [hv] at hz; cases hz
  | some x =>
    rw [hv] at hz
    obtain ⟨fs, he, hx⟩ := dRef_spec hv
    obtain ⟨i, hi⟩ := ccs_dl (G := G) (σ := σ) he
    exact cg_getS (q0 := 69 + i) (ci := 15) (k := 0) hk hH hK in_X18 hi rfl (by decide) q886 q887 hx hd (kk x) hz
theorem jd_X18_first (hk : jk p R s m args meth c NX cc nL RX18 fr lo ret) (hH : cH G KK) (hK : KK s) {q : Nat} {K : Nat → Option ρ} (hd : decode cc pc = .ok (.getfield 7, 3)) (kk : ∀ v, jj p l e R s m args below meth c (hA G) NX Q (cWo G d) (cnx d) nL σ (pc + 3) lv (.ref v :: st) (K v = some res)) : jj p l e R s m args below meth c (hA G) NX Q (cWo G d) (cnx d) nL σ pc lv (.ref q :: st) ((dRfn d 15 0 q).bind K = some res) := by
  intro hz
  unfold dRfn at hz
  rw [Option.bind_assoc] at hz
  refine jd_X18_firsto (K := fun r => (id r).bind K) hk hH hK hd (fun r => ?_) hz
  cases r with
  | none => exact fun h => by cases h
  | some a => exact kk a
theorem jd_X18_secondo (hk : jk p R s m args meth c NX cc nL RX18 fr lo ret) (hH : cH G KK) (hK : KK s) {q : Nat} {K : Option Nat → Option ρ} (hd : decode cc pc = .ok (.getfield 19, 3)) (kk : ∀ v, jj p l e R s m args below meth c (hA G) NX Q (cWo G d) (cnx d) nL σ (pc + 3) lv (va_rf v :: st) (K v = some res)) : jj p l e R s m args below meth c (hA G) NX Q (cWo G d) (cnx d) nL σ pc lv (.ref q :: st) ((dRef d 15 1 q).bind K = some res) := by
  intro hz
  cases hv : dRef d 15 1 q with
  | none => rw [hv] at hz; cases hz
  | some x =>
    rw [hv] at hz
    obtain ⟨fs, he, hx⟩ := dRef_spec hv
    obtain ⟨i, hi⟩ := ccs_dl (G := G) (σ := σ) he
    exact cg_getS (q0 := 69 + i) (ci := 15) (k := 1) hk hH hK in_X18 hi rfl (by decide) q889 q890 hx hd (kk x) hz
theorem jd_X18_second (hk : jk p R s m args meth c NX cc nL RX18 fr lo ret) (hH : cH G KK) (hK : KK s) {q : Nat} {K : Nat → Option ρ} (hd : decode cc pc = .ok (.getfield 19, 3)) (kk : ∀ v, jj p l e R s m args below meth c (hA G) NX Q (cWo G d) (cnx d) nL σ (pc + 3) lv (.ref v :: st) (K v = some res)) : jj p l e R s m args below meth c (hA G) NX Q (cWo G d) (cnx d) nL σ pc lv (.ref q :: st) ((dRfn d 15 1 q).bind K = some res) := by
  intro hz
  unfold dRfn at hz
  rw [Option.bind_assoc] at hz
  refine jd_X18_secondo (K := fun r => (id r).bind K) hk hH hK hd (fun r => ?_) hz
  cases r with
  | none => exact fun h => by cases h
  | some a => exact kk a
theorem jd_X7_number (hk : jk p R s m args meth c NX cc nL RX7 fr lo ret) (hH : cH G KK) (hK : KK s) {q : Nat} {K : Int32 → Option ρ} (hd : decode cc pc = .ok (.getfield 7, 3)) (kk : ∀ v, jj p l e R s m args below meth c (hA G) NX Q (cWo G d) (cnx d) nL σ (pc + 3) lv (.int v :: st) (K v = some res)) : jj p l e R s m args below meth c (hA G) NX Q (cWo G d) (cnx d) nL σ pc lv (.ref q :: st) ((hInt d 0 q).bind K = some res) := by
  intro hz
  cases hv : hInt d 0 q with
  | none => rw [hv] at hz; cases hz
  | some x =>
    rw [hv] at hz
    obtain ⟨ci, fs, hci, he, hx⟩ := hInt_spec hv
    obtain ⟨i, hi⟩ := ccs_dl (G := G) (σ := σ) he
    rcases hci with h | h | h | h | h <;> subst h
    · exact cg_get (q0 := 69 + i) (ci := 7) (k := 0) hk hH hK in_X8 hi rfl (by decide) q531 rfl hx hd (kk x) hz
    · exact cg_get (q0 := 69 + i) (ci := 8) (k := 0) hk hH hK in_X9 hi rfl (by decide) q531 rfl hx hd (kk x) hz
    · exact cg_get (q0 := 69 + i) (ci := 9) (k := 0) hk hH hK in_X10 hi rfl (by decide) q531 rfl hx hd (kk x) hz
    · exact cg_get (q0 := 69 + i) (ci := 10) (k := 0) hk hH hK in_X11 hi rfl (by decide) q531 rfl hx hd (kk x) hz
    · exact cg_get (q0 := 69 + i) (ci := 11) (k := 0) hk hH hK in_X12 hi rfl (by decide) q531 rfl hx hd (kk x) hz
theorem jd_X7_grace (hk : jk p R s m args meth c NX cc nL RX7 fr lo ret) (hH : cH G KK) (hK : KK s) {q : Nat} {K : Int32 → Option ρ} (hd : decode cc pc = .ok (.getfield 13, 3)) (kk : ∀ v, jj p l e R s m args below meth c (hA G) NX Q (cWo G d) (cnx d) nL σ (pc + 3) lv (.int v :: st) (K v = some res)) : jj p l e R s m args below meth c (hA G) NX Q (cWo G d) (cnx d) nL σ pc lv (.ref q :: st) ((hInt d 1 q).bind K = some res) := by
  intro hz
  cases hv : hInt d 1 q with
  | none => rw [hv] at hz; cases hz
  | some x =>
    rw [hv] at hz
    obtain ⟨ci, fs, hci, he, hx⟩ := hInt_spec hv
    obtain ⟨i, hi⟩ := ccs_dl (G := G) (σ := σ) he
    rcases hci with h | h | h | h | h <;> subst h
    · exact cg_get (q0 := 69 + i) (ci := 7) (k := 1) hk hH hK in_X8 hi rfl (by decide) q532 rfl hx hd (kk x) hz
    · exact cg_get (q0 := 69 + i) (ci := 8) (k := 1) hk hH hK in_X9 hi rfl (by decide) q532 rfl hx hd (kk x) hz
    · exact cg_get (q0 := 69 + i) (ci := 9) (k := 1) hk hH hK in_X10 hi rfl (by decide) q532 rfl hx hd (kk x) hz
    · exact cg_get (q0 := 69 + i) (ci := 10) (k := 1) hk hH hK in_X11 hi rfl (by decide) q532 rfl hx hd (kk x) hz
    · exact cg_get (q0 := 69 + i) (ci := 11) (k := 1) hk hH hK in_X12 hi rfl (by decide) q532 rfl hx hd (kk x) hz
theorem jc_bst (hk : jk p R s m args meth c NX cc nL own fr lo ret) (hH : cH G KK) (hK : KK s) {i x : Int32} {K : SS → Option ρ} (hd : decode cc pc = .ok (.bastore, 1)) (kk : ∀ σ', jj p l e R s m args below meth c (hA G) NX Q (cWo G d) (cnx d) nL σ' (pc + 1) lv st (K σ' = some res)) : jj p l e R s m args below meth c (hA G) NX Q (cWo G d) (cnx d) nL σ pc lv (.int x :: .int i :: .ref (ha G 61) :: st) ((stB σ 46 i x).bind K = some res) := by
  intro hz
  unfold stB at hz
  by_cases h : i < 0 ∨ lenC 46 ≤ i.toNatClampNeg
  · rw [if_pos h] at hz; cases hz
  · rw [if_neg h] at hz
    have hat := ccs_A G d σ (show 46 < 47 by omega)
    have hst := ccs_setA G d σ (show 46 < 47 by omega) (upd (σ.2.1 46) i.toNatClampNeg (vp_nar .byte x))
    refine cw_step hH (kk _) (fun H locs ls hP hD hS hl go => va_bast hk.1.1 hk.1.2.1 (hH.2.1 s hK).1 hP hD hS 61 1 hat rfl h hd (fun H1 locs1 h1 h2 h3 => go H1 locs1 ?_ ?_ h3)) hz
    · rw [hst]; exact h1
    · rw [hst]; exact h2
theorem cblind {KK : State → Prop} (hA' : jA KK) {Wo' : SS → Heap → Prop} {nx' : SS → Nat} {av : List Value} {σ : SS} : FrameBlind (va_Pc av (fun U => Wo' σ U.heap ∧ U.heap.size = nx' σ ∧ KK U)) :=
  fun a U g mk q => ⟨q.1, q.2.1, q.2.2.1, hA' U (U.calling g mk a) (State.WarmedH.refl U) q.2.2.2⟩
/-- a receiver: an object of the class C at b -/
def cRv (G : cG) (d : DS) (σ : SS) (s : State) (b : Nat) (C : String) : Prop := ∀ H : Heap, cWo G d σ H → ∃ cell : Cell, H[b]? = some cell ∧ cell.vm.isStatics = false ∧ s.vm.findClass C = some cell.cls
theorem cRv_at {G : cG} {d : DS} {σ : SS} {s : State} {KK : State → Prop} (hH : cH G KK) (hK : KK s) {q0 a ci : Nat} {q : vw_C} {fs : List Value} (hc : jcl[ci]? = some q) (he : (ccs G d σ)[q0]? = some (a, .inr (ci, fs))) : cRv G d σ s a q.1 := fun _ hW => va_recv (hH.2.1 s hK).1 hW.1 hc he
theorem cRv_T {G : cG} {d : DS} {σ : SS} {s : State} {KK : State → Prop} (hH : cH G KK) (hK : KK s) {t : Nat} (ht : t < 3) : cRv G d σ s (ha G (3 + t)) RX3 := cRv_at (q := (RX3, TX3, 21)) (ci := 2) hH hK rfl ((ccs_O G d σ (by omega)).trans (cO_T G σ ht))
theorem cRv_D {G : cG} {d : DS} {σ : SS} {s : State} {KK : State → Prop} (hH : cH G KK) (hK : KK s) {a ci : Nat} {q : vw_C} {fs : List Value} (hc : jcl[ci]? = some q) (he : dl d a = some (.inr (ci, fs))) : cRv G d σ s a q.1 := by
  obtain ⟨i, hi⟩ := ccs_dl (G := G) (σ := σ) he
  exact cRv_at hH hK hc hi
theorem jc_VUi (hk : jk p R s m args meth c NX cc nL own fr lo ret) (hH : cH G KK) (hK : KK s) {y : MethodName} {bytes : ByteArray} {C : String} {b : Nat} {nLc frc loc idx n : Nat} {F : Option (Int32 × SS)} {K : (Int32 × SS) → Option ρ} (As : List Value) {st0 : List Value} (hM : ∀ r, F = some r → jM l y (ws_ y bytes nLc (some .int)) frc loc (.ref b :: As) (cWo G d) (cnx d) KK σ (jU r) (hA G) d.2)
    (hl : GoodIn lw_all (wsV own idx C y (ws_ y bytes nLc (some .int)))) (hrv : cRv G d σ s b C) (hy : y.cls = C ∧ y.cls ≠ "java/lang/invoke/MethodHandle" ∧ y.cls ≠ "java/lang/invoke/VarHandle" ∧ (parseMethodDescriptor y.desc).map (fun d => d.parameters.length) = some n) (hlen : As.length = n) (hst : st0 = (As.reverse ++ .ref b :: st)) (hd : decode cc pc = .ok (.invokevirtual idx, 3)) (hr : frc + 1 ≤ fr ∧ 8 + (nLc + 11) + loc ≤ lo) (hw : (st.map fun v => v.category).sum ≤ 8)
    (kk : ∀ r, jj p l e R s m args below meth c (hA G) NX Q (cWo G d) (cnx d) nL r.2 (pc + 3) lv (.int r.1 :: st) (K r = some res)) : jj p l e R s m args below meth c (hA G) NX Q (cWo G d) (cnx d) nL σ pc lv st0 (F.bind K = some res) := by
  subst hst
  cases hF : F with
  | none => exact fun hz => by cases hz
  | some r =>
    subst hF
    refine jj_run (σ1 := r.2) (v := some (.int r.1)) (Ψ1 := jU r) (idx := idx) (a1 := (Value.ref b :: As).toArray) hk (Nat.le_refl _) (fun o σ' h => ⟨by have h1 := h.1; cases h1; rfl, h.2⟩) (fun H locs ls hW hn hS hlv hle => ?_) (kk r)
    exact va_runV (As := As) (rest := st) hk.1 (hM r rfl) (cwV n hk.1.2.2.2.2 hl rfl rfl rfl hy (by rw [hk.2.1]; exact hr)) ⟨cblind hH.1, hrv H hW, fun U hU hWm => ⟨rfl, by rw [hU]; exact hW, by rw [hU]; exact hn, hH.1 _ _ hWm hK⟩⟩ rfl hlen hlv.1 rfl (lv_room hw) hd (by rw [hk.2.1]; have : d.2 ≤ NX := hle; constructor <;> (show _ ≤ _; dsimp only [cnx]; omega))
theorem jc_VUz (hk : jk p R s m args meth c NX cc nL own fr lo ret) (hH : cH G KK) (hK : KK s) {y : MethodName} {bytes : ByteArray} {C : String} {b : Nat} {nLc frc loc idx n : Nat} {F : Option (Bool × SS)} {K : (Bool × SS) → Option ρ} (As : List Value) {st0 : List Value} (hM : ∀ r, F = some r → jM l y (ws_ y bytes nLc (some .boolean)) frc loc (.ref b :: As) (cWo G d) (cnx d) KK σ (jUz r) (hA G) d.2)
    (hl : GoodIn lw_all (wsV own idx C y (ws_ y bytes nLc (some .boolean)))) (hrv : cRv G d σ s b C) (hy : y.cls = C ∧ y.cls ≠ "java/lang/invoke/MethodHandle" ∧ y.cls ≠ "java/lang/invoke/VarHandle" ∧ (parseMethodDescriptor y.desc).map (fun d => d.parameters.length) = some n) (hlen : As.length = n) (hst : st0 = (As.reverse ++ .ref b :: st)) (hd : decode cc pc = .ok (.invokevirtual idx, 3)) (hr : frc + 1 ≤ fr ∧ 8 + (nLc + 11) + loc ≤ lo) (hw : (st.map fun v => v.category).sum ≤ 8)
    (kk : ∀ r, jj p l e R s m args below meth c (hA G) NX Q (cWo G d) (cnx d) nL r.2 (pc + 3) lv (.int (bI r.1) :: st) (K r = some res)) : jj p l e R s m args below meth c (hA G) NX Q (cWo G d) (cnx d) nL σ pc lv st0 (F.bind K = some res) := by
  subst hst
  cases hF : F with
  | none => exact fun hz => by cases hz
  | some r =>
    subst hF
    refine jj_run (σ1 := r.2) (v := some (.int (bI r.1))) (Ψ1 := jUz r) (idx := idx) (a1 := (Value.ref b :: As).toArray) hk (Nat.le_refl _) (fun o σ' h => ⟨by have h1 := h.1; cases h1; rfl, h.2⟩) (fun H locs ls hW hn hS hlv hle => ?_) (kk r)
    exact va_runV (As := As) (rest := st) hk.1 (hM r rfl) (cwV n hk.1.2.2.2.2 hl rfl rfl rfl hy (by rw [hk.2.1]; exact hr)) ⟨cblind hH.1, hrv H hW, fun U hU hWm => ⟨rfl, by rw [hU]; exact hW, by rw [hU]; exact hn, hH.1 _ _ hWm hK⟩⟩ rfl hlen hlv.1 rfl (lv_room hw) hd (by rw [hk.2.1]; have : d.2 ≤ NX := hle; constructor <;> (show _ ≤ _; dsimp only [cnx]; omega))
theorem jc_VV (hk : jk p R s m args meth c NX cc nL own fr lo ret) (hH : cH G KK) (hK : KK s) {y : MethodName} {bytes : ByteArray} {C : String} {b : Nat} {nLc frc loc idx n : Nat} {F : Option SS} {K : SS → Option ρ} (As : List Value) {st0 : List Value} (hM : ∀ r, F = some r → jM l y (ws_ y bytes nLc none) frc loc (.ref b :: As) (cWo G d) (cnx d) KK σ (jV r) (hA G) d.2)
    (hl : GoodIn lw_all (wsV own idx C y (ws_ y bytes nLc none))) (hrv : cRv G d σ s b C) (hy : y.cls = C ∧ y.cls ≠ "java/lang/invoke/MethodHandle" ∧ y.cls ≠ "java/lang/invoke/VarHandle" ∧ (parseMethodDescriptor y.desc).map (fun d => d.parameters.length) = some n) (hlen : As.length = n) (hst : st0 = (As.reverse ++ .ref b :: st)) (hd : decode cc pc = .ok (.invokevirtual idx, 3)) (hr : frc + 1 ≤ fr ∧ 8 + (nLc + 11) + loc ≤ lo) (hw : (st.map fun v => v.category).sum ≤ 8)
    (kk : ∀ r, jj p l e R s m args below meth c (hA G) NX Q (cWo G d) (cnx d) nL r (pc + 3) lv st (K r = some res)) : jj p l e R s m args below meth c (hA G) NX Q (cWo G d) (cnx d) nL σ pc lv st0 (F.bind K = some res) := by
  subst hst
  cases hF : F with
  | none => exact fun hz => by cases hz
  | some r =>
    subst hF
    refine jj_run (σ1 := r) (v := none) (Ψ1 := jV r) (idx := idx) (a1 := (Value.ref b :: As).toArray) hk (Nat.le_refl _) (fun o σ' h => ⟨by have h1 := h.1; cases h1; rfl, h.2⟩) (fun H locs ls hW hn hS hlv hle => ?_) (kk r)
    exact va_runV (As := As) (rest := st) hk.1 (hM r rfl) (cwV n hk.1.2.2.2.2 hl rfl rfl rfl hy (by rw [hk.2.1]; exact hr)) ⟨cblind hH.1, hrv H hW, fun U hU hWm => ⟨rfl, by rw [hU]; exact hW, by rw [hU]; exact hn, hH.1 _ _ hWm hK⟩⟩ rfl hlen hlv.1 rfl (lv_room hw) hd (by rw [hk.2.1]; have : d.2 ≤ NX := hle; constructor <;> (show _ ≤ _; dsimp only [cnx]; omega))
theorem jc_VRi (hk : jk p R s m args meth c NX cc nL own fr lo ret) (hH : cH G KK) (hK : KK s) {y : MethodName} {bytes : ByteArray} {C : String} {b : Nat} {nLc frc loc idx n : Nat} {F : Option Int32} {K : Int32 → Option ρ} (As : List Value) {st0 : List Value} (hM : ∀ r, F = some r → jM l y (ws_ y bytes nLc (some .int)) frc loc (.ref b :: As) (cWo G d) (cnx d) KK σ (jR σ r) (hA G) d.2)
    (hl : GoodIn lw_all (wsV own idx C y (ws_ y bytes nLc (some .int)))) (hrv : cRv G d σ s b C) (hy : y.cls = C ∧ y.cls ≠ "java/lang/invoke/MethodHandle" ∧ y.cls ≠ "java/lang/invoke/VarHandle" ∧ (parseMethodDescriptor y.desc).map (fun d => d.parameters.length) = some n) (hlen : As.length = n) (hst : st0 = (As.reverse ++ .ref b :: st)) (hd : decode cc pc = .ok (.invokevirtual idx, 3)) (hr : frc + 1 ≤ fr ∧ 8 + (nLc + 11) + loc ≤ lo) (hw : (st.map fun v => v.category).sum ≤ 8)
    (kk : ∀ r, jj p l e R s m args below meth c (hA G) NX Q (cWo G d) (cnx d) nL σ (pc + 3) lv (.int r :: st) (K r = some res)) : jj p l e R s m args below meth c (hA G) NX Q (cWo G d) (cnx d) nL σ pc lv st0 (F.bind K = some res) := by
  subst hst
  cases hF : F with
  | none => exact fun hz => by cases hz
  | some r =>
    subst hF
    refine jj_run (σ1 := σ) (v := some (.int r)) (Ψ1 := jR σ r) (idx := idx) (a1 := (Value.ref b :: As).toArray) hk (Nat.le_refl _) (fun o σ' h => ⟨by have h1 := h.1; cases h1; rfl, h.2⟩) (fun H locs ls hW hn hS hlv hle => ?_) (kk r)
    exact va_runV (As := As) (rest := st) hk.1 (hM r rfl) (cwV n hk.1.2.2.2.2 hl rfl rfl rfl hy (by rw [hk.2.1]; exact hr)) ⟨cblind hH.1, hrv H hW, fun U hU hWm => ⟨rfl, by rw [hU]; exact hW, by rw [hU]; exact hn, hH.1 _ _ hWm hK⟩⟩ rfl hlen hlv.1 rfl (lv_room hw) hd (by rw [hk.2.1]; have : d.2 ≤ NX := hle; constructor <;> (show _ ≤ _; dsimp only [cnx]; omega))
theorem jc_VRz (hk : jk p R s m args meth c NX cc nL own fr lo ret) (hH : cH G KK) (hK : KK s) {y : MethodName} {bytes : ByteArray} {C : String} {b : Nat} {nLc frc loc idx n : Nat} {F : Option Bool} {K : Bool → Option ρ} (As : List Value) {st0 : List Value} (hM : ∀ r, F = some r → jM l y (ws_ y bytes nLc (some .boolean)) frc loc (.ref b :: As) (cWo G d) (cnx d) KK σ (jRz σ r) (hA G) d.2)
    (hl : GoodIn lw_all (wsV own idx C y (ws_ y bytes nLc (some .boolean)))) (hrv : cRv G d σ s b C) (hy : y.cls = C ∧ y.cls ≠ "java/lang/invoke/MethodHandle" ∧ y.cls ≠ "java/lang/invoke/VarHandle" ∧ (parseMethodDescriptor y.desc).map (fun d => d.parameters.length) = some n) (hlen : As.length = n) (hst : st0 = (As.reverse ++ .ref b :: st)) (hd : decode cc pc = .ok (.invokevirtual idx, 3)) (hr : frc + 1 ≤ fr ∧ 8 + (nLc + 11) + loc ≤ lo) (hw : (st.map fun v => v.category).sum ≤ 8)
    (kk : ∀ r, jj p l e R s m args below meth c (hA G) NX Q (cWo G d) (cnx d) nL σ (pc + 3) lv (.int (bI r) :: st) (K r = some res)) : jj p l e R s m args below meth c (hA G) NX Q (cWo G d) (cnx d) nL σ pc lv st0 (F.bind K = some res) := by
  subst hst
  cases hF : F with
  | none => exact fun hz => by cases hz
  | some r =>
    subst hF
    refine jj_run (σ1 := σ) (v := some (.int (bI r))) (Ψ1 := jRz σ r) (idx := idx) (a1 := (Value.ref b :: As).toArray) hk (Nat.le_refl _) (fun o σ' h => ⟨by have h1 := h.1; cases h1; rfl, h.2⟩) (fun H locs ls hW hn hS hlv hle => ?_) (kk r)
    exact va_runV (As := As) (rest := st) hk.1 (hM r rfl) (cwV n hk.1.2.2.2.2 hl rfl rfl rfl hy (by rw [hk.2.1]; exact hr)) ⟨cblind hH.1, hrv H hW, fun U hU hWm => ⟨rfl, by rw [hU]; exact hW, by rw [hU]; exact hn, hH.1 _ _ hWm hK⟩⟩ rfl hlen hlv.1 rfl (lv_room hw) hd (by rw [hk.2.1]; have : d.2 ≤ NX := hle; constructor <;> (show _ ≤ _; dsimp only [cnx]; omega))
theorem jc_SUi (hk : jk p R s m args meth c NX cc nL own fr lo ret) (hH : cH G KK) (hK : KK s) {y : MethodName} {bytes : ByteArray} {nLc frc loc idx n : Nat} {F : Option (Int32 × SS)} {K : (Int32 × SS) → Option ρ} (As : List Value) {st0 : List Value} (hM : ∀ r, F = some r → jM l y (ws_ y bytes nLc (some .int)) frc loc (As) (cWo G d) (cnx d) KK σ (jU r) (hA G) d.2)
    (hl : GoodIn lw_all (va_wsS own idx y (ws_ y bytes nLc (some .int)))) (hy : y.cls ≠ "java/lang/invoke/MethodHandle" ∧ y.cls ≠ "java/lang/invoke/VarHandle" ∧ (parseMethodDescriptor y.desc).map (fun d => d.parameters.length) = some n) (hlen : As.length = n) (hst : st0 = (As.reverse ++ st)) (hd : decode cc pc = .ok (.invokestatic idx, 3)) (hr : frc + 1 ≤ fr ∧ 8 + (nLc + 11) + loc ≤ lo) (hw : (st.map fun v => v.category).sum ≤ 8)
    (kk : ∀ r, jj p l e R s m args below meth c (hA G) NX Q (cWo G d) (cnx d) nL r.2 (pc + 3) lv (.int r.1 :: st) (K r = some res)) : jj p l e R s m args below meth c (hA G) NX Q (cWo G d) (cnx d) nL σ pc lv st0 (F.bind K = some res) := by
  subst hst
  cases hF : F with
  | none => exact fun hz => by cases hz
  | some r =>
    subst hF
    refine jj_run (σ1 := r.2) (v := some (.int r.1)) (Ψ1 := jU r) (idx := idx) (a1 := As.toArray) hk (Nat.le_refl _) (fun o σ' h => ⟨by have h1 := h.1; cases h1; rfl, h.2⟩) (fun H locs ls hW hn hS hlv hle => ?_) (kk r)
    exact va_runS (As := As) (rest := st) hk.1 (hM r rfl) (va_cwS n hk.1.2.2.2.2 hl rfl rfl rfl hy (by rw [hk.2.1]; exact hr)) ⟨cblind hH.1, fun U hU hWm => ⟨rfl, by rw [hU]; exact hW, by rw [hU]; exact hn, hH.1 _ _ hWm hK⟩⟩ rfl hlen hlv.1 rfl (lv_room hw) hd (by rw [hk.2.1]; have : d.2 ≤ NX := hle; constructor <;> (show _ ≤ _; dsimp only [cnx]; omega))
theorem jc_SUz (hk : jk p R s m args meth c NX cc nL own fr lo ret) (hH : cH G KK) (hK : KK s) {y : MethodName} {bytes : ByteArray} {nLc frc loc idx n : Nat} {F : Option (Bool × SS)} {K : (Bool × SS) → Option ρ} (As : List Value) {st0 : List Value} (hM : ∀ r, F = some r → jM l y (ws_ y bytes nLc (some .boolean)) frc loc (As) (cWo G d) (cnx d) KK σ (jUz r) (hA G) d.2)
    (hl : GoodIn lw_all (va_wsS own idx y (ws_ y bytes nLc (some .boolean)))) (hy : y.cls ≠ "java/lang/invoke/MethodHandle" ∧ y.cls ≠ "java/lang/invoke/VarHandle" ∧ (parseMethodDescriptor y.desc).map (fun d => d.parameters.length) = some n) (hlen : As.length = n) (hst : st0 = (As.reverse ++ st)) (hd : decode cc pc = .ok (.invokestatic idx, 3)) (hr : frc + 1 ≤ fr ∧ 8 + (nLc + 11) + loc ≤ lo) (hw : (st.map fun v => v.category).sum ≤ 8)
    (kk : ∀ r, jj p l e R s m args below meth c (hA G) NX Q (cWo G d) (cnx d) nL r.2 (pc + 3) lv (.int (bI r.1) :: st) (K r = some res)) : jj p l e R s m args below meth c (hA G) NX Q (cWo G d) (cnx d) nL σ pc lv st0 (F.bind K = some res) := by
  subst hst
  cases hF : F with
  | none => exact fun hz => by cases hz
  | some r =>
    subst hF
    refine jj_run (σ1 := r.2) (v := some (.int (bI r.1))) (Ψ1 := jUz r) (idx := idx) (a1 := As.toArray) hk (Nat.le_refl _) (fun o σ' h => ⟨by have h1 := h.1; cases h1; rfl, h.2⟩) (fun H locs ls hW hn hS hlv hle => ?_) (kk r)
    exact va_runS (As := As) (rest := st) hk.1 (hM r rfl) (va_cwS n hk.1.2.2.2.2 hl rfl rfl rfl hy (by rw [hk.2.1]; exact hr)) ⟨cblind hH.1, fun U hU hWm => ⟨rfl, by rw [hU]; exact hW, by rw [hU]; exact hn, hH.1 _ _ hWm hK⟩⟩ rfl hlen hlv.1 rfl (lv_room hw) hd (by rw [hk.2.1]; have : d.2 ≤ NX := hle; constructor <;> (show _ ≤ _; dsimp only [cnx]; omega))
theorem jc_SV (hk : jk p R s m args meth c NX cc nL own fr lo ret) (hH : cH G KK) (hK : KK s) {y : MethodName} {bytes : ByteArray} {nLc frc loc idx n : Nat} {F : Option SS} {K : SS → Option ρ} (As : List Value) {st0 : List Value} (hM : ∀ r, F = some r → jM l y (ws_ y bytes nLc none) frc loc (As) (cWo G d) (cnx d) KK σ (jV r) (hA G) d.2)
    (hl : GoodIn lw_all (va_wsS own idx y (ws_ y bytes nLc none))) (hy : y.cls ≠ "java/lang/invoke/MethodHandle" ∧ y.cls ≠ "java/lang/invoke/VarHandle" ∧ (parseMethodDescriptor y.desc).map (fun d => d.parameters.length) = some n) (hlen : As.length = n) (hst : st0 = (As.reverse ++ st)) (hd : decode cc pc = .ok (.invokestatic idx, 3)) (hr : frc + 1 ≤ fr ∧ 8 + (nLc + 11) + loc ≤ lo) (hw : (st.map fun v => v.category).sum ≤ 8)
    (kk : ∀ r, jj p l e R s m args below meth c (hA G) NX Q (cWo G d) (cnx d) nL r (pc + 3) lv st (K r = some res)) : jj p l e R s m args below meth c (hA G) NX Q (cWo G d) (cnx d) nL σ pc lv st0 (F.bind K = some res) := by
  subst hst
  cases hF : F with
  | none => exact fun hz => by cases hz
  | some r =>
    subst hF
    refine jj_run (σ1 := r) (v := none) (Ψ1 := jV r) (idx := idx) (a1 := As.toArray) hk (Nat.le_refl _) (fun o σ' h => ⟨by have h1 := h.1; cases h1; rfl, h.2⟩) (fun H locs ls hW hn hS hlv hle => ?_) (kk r)
    exact va_runS (As := As) (rest := st) hk.1 (hM r rfl) (va_cwS n hk.1.2.2.2.2 hl rfl rfl rfl hy (by rw [hk.2.1]; exact hr)) ⟨cblind hH.1, fun U hU hWm => ⟨rfl, by rw [hU]; exact hW, by rw [hU]; exact hn, hH.1 _ _ hWm hK⟩⟩ rfl hlen hlv.1 rfl (lv_room hw) hd (by rw [hk.2.1]; have : d.2 ≤ NX := hle; constructor <;> (show _ ≤ _; dsimp only [cnx]; omega))
theorem jc_SRi (hk : jk p R s m args meth c NX cc nL own fr lo ret) (hH : cH G KK) (hK : KK s) {y : MethodName} {bytes : ByteArray} {nLc frc loc idx n : Nat} {F : Option Int32} {K : Int32 → Option ρ} (As : List Value) {st0 : List Value} (hM : ∀ r, F = some r → jM l y (ws_ y bytes nLc (some .int)) frc loc (As) (cWo G d) (cnx d) KK σ (jR σ r) (hA G) d.2)
    (hl : GoodIn lw_all (va_wsS own idx y (ws_ y bytes nLc (some .int)))) (hy : y.cls ≠ "java/lang/invoke/MethodHandle" ∧ y.cls ≠ "java/lang/invoke/VarHandle" ∧ (parseMethodDescriptor y.desc).map (fun d => d.parameters.length) = some n) (hlen : As.length = n) (hst : st0 = (As.reverse ++ st)) (hd : decode cc pc = .ok (.invokestatic idx, 3)) (hr : frc + 1 ≤ fr ∧ 8 + (nLc + 11) + loc ≤ lo) (hw : (st.map fun v => v.category).sum ≤ 8)
    (kk : ∀ r, jj p l e R s m args below meth c (hA G) NX Q (cWo G d) (cnx d) nL σ (pc + 3) lv (.int r :: st) (K r = some res)) : jj p l e R s m args below meth c (hA G) NX Q (cWo G d) (cnx d) nL σ pc lv st0 (F.bind K = some res) := by
  subst hst
  cases hF : F with
  | none => exact fun hz => by cases hz
  | some r =>
    subst hF
    refine jj_run (σ1 := σ) (v := some (.int r)) (Ψ1 := jR σ r) (idx := idx) (a1 := As.toArray) hk (Nat.le_refl _) (fun o σ' h => ⟨by have h1 := h.1; cases h1; rfl, h.2⟩) (fun H locs ls hW hn hS hlv hle => ?_) (kk r)
    exact va_runS (As := As) (rest := st) hk.1 (hM r rfl) (va_cwS n hk.1.2.2.2.2 hl rfl rfl rfl hy (by rw [hk.2.1]; exact hr)) ⟨cblind hH.1, fun U hU hWm => ⟨rfl, by rw [hU]; exact hW, by rw [hU]; exact hn, hH.1 _ _ hWm hK⟩⟩ rfl hlen hlv.1 rfl (lv_room hw) hd (by rw [hk.2.1]; have : d.2 ≤ NX := hle; constructor <;> (show _ ≤ _; dsimp only [cnx]; omega))
theorem jc_SRz (hk : jk p R s m args meth c NX cc nL own fr lo ret) (hH : cH G KK) (hK : KK s) {y : MethodName} {bytes : ByteArray} {nLc frc loc idx n : Nat} {F : Option Bool} {K : Bool → Option ρ} (As : List Value) {st0 : List Value} (hM : ∀ r, F = some r → jM l y (ws_ y bytes nLc (some .boolean)) frc loc (As) (cWo G d) (cnx d) KK σ (jRz σ r) (hA G) d.2)
    (hl : GoodIn lw_all (va_wsS own idx y (ws_ y bytes nLc (some .boolean)))) (hy : y.cls ≠ "java/lang/invoke/MethodHandle" ∧ y.cls ≠ "java/lang/invoke/VarHandle" ∧ (parseMethodDescriptor y.desc).map (fun d => d.parameters.length) = some n) (hlen : As.length = n) (hst : st0 = (As.reverse ++ st)) (hd : decode cc pc = .ok (.invokestatic idx, 3)) (hr : frc + 1 ≤ fr ∧ 8 + (nLc + 11) + loc ≤ lo) (hw : (st.map fun v => v.category).sum ≤ 8)
    (kk : ∀ r, jj p l e R s m args below meth c (hA G) NX Q (cWo G d) (cnx d) nL σ (pc + 3) lv (.int (bI r) :: st) (K r = some res)) : jj p l e R s m args below meth c (hA G) NX Q (cWo G d) (cnx d) nL σ pc lv st0 (F.bind K = some res) := by
  subst hst
  cases hF : F with
  | none => exact fun hz => by cases hz
  | some r =>
    subst hF
    refine jj_run (σ1 := σ) (v := some (.int (bI r))) (Ψ1 := jRz σ r) (idx := idx) (a1 := As.toArray) hk (Nat.le_refl _) (fun o σ' h => ⟨by have h1 := h.1; cases h1; rfl, h.2⟩) (fun H locs ls hW hn hS hlv hle => ?_) (kk r)
    exact va_runS (As := As) (rest := st) hk.1 (hM r rfl) (va_cwS n hk.1.2.2.2.2 hl rfl rfl rfl hy (by rw [hk.2.1]; exact hr)) ⟨cblind hH.1, fun U hU hWm => ⟨rfl, by rw [hU]; exact hW, by rw [hU]; exact hn, hH.1 _ _ hWm hK⟩⟩ rfl hlen hlv.1 rfl (lv_room hw) hd (by rw [hk.2.1]; have : d.2 ≤ NX := hle; constructor <;> (show _ ≤ _; dsimp only [cnx]; omega))
theorem jc_SNRz (hk : jk p R s m args meth c NX cc nL own fr lo ret) (hH : cH G KK) (hK : KK s) {y : MethodName} {bytes : ByteArray} {host : String} {nLc frc loc idx n : Nat} {F : Option Bool} {K : Bool → Option ρ} (As : List Value) {st0 : List Value} (hM : ∀ r, F = some r → jM l y (ws_ y bytes nLc (some .boolean)) frc loc As (cWo G d) (cnx d) KK σ (jRz σ r) (hA G) d.2)
    (hl : Cond.methodLinkNest own idx y host ∈ cNw) (hst2 : (Cond.static y).before args s = true) (hini : (Cond.initialized y.cls).before args s = true) (hcd : Cond.code y bytes nLc (some .boolean) ∈ lw_all) (hy : y.cls ≠ "java/lang/invoke/MethodHandle" ∧ y.cls ≠ "java/lang/invoke/VarHandle" ∧ (parseMethodDescriptor y.desc).map (fun d => d.parameters.length) = some n) (hlen : As.length = n) (hst : st0 = (As.reverse ++ st)) (hd : decode cc pc = .ok (.invokestatic idx, 3)) (hr : frc + 1 ≤ fr ∧ 8 + (nLc + 11) + loc ≤ lo) (hw : (st.map fun v => v.category).sum ≤ 8)
    (kk : ∀ r, jj p l e R s m args below meth c (hA G) NX Q (cWo G d) (cnx d) nL σ (pc + 3) lv (.int (bI r) :: st) (K r = some res)) : jj p l e R s m args below meth c (hA G) NX Q (cWo G d) (cnx d) nL σ pc lv st0 (F.bind K = some res) := by
  subst hst
  cases hF : F with
  | none => exact fun hz => by cases hz
  | some r =>
    subst hF
    refine jj_run (σ1 := σ) (v := some (.int (bI r))) (Ψ1 := jRz σ r) (idx := idx) (a1 := As.toArray) hk (Nat.le_refl _) (fun o σ' h => ⟨by have h1 := h.1; cases h1; rfl, h.2⟩) (fun H locs ls hW hn hS hlv hle => ?_) (kk r)
    exact va_runSN (As := As) (rest := st) hk.1 (hM r rfl) ⟨va_cnB n hk.1.2.2.2.2 (lw_meth hcd) rfl rfl rfl ((hH.2.1 s hK).2.1 _ hl) hini hy (by rw [hk.2.1]; exact hr), hst2, trivial⟩ ⟨cblind hH.1, fun U hU hWm => ⟨rfl, by rw [hU]; exact hW, by rw [hU]; exact hn, hH.1 _ _ hWm hK⟩⟩ rfl hlen hlv.1 rfl (lv_room hw) hd (by rw [hk.2.1]; have : d.2 ≤ NX := hle; constructor <;> (show _ ≤ _; dsimp only [cnx]; omega))
theorem jc_retRi (hk : jk p R s m args meth c d.2 cc nL own fr lo (some .int)) {x : Int32} {res : Int32} (hd : decode cc pc = .ok (.ireturn, 1)) : jj p l e R s m args below meth c (hA G) d.2 (jZ below args s (hA G) d.2 (jR σ res) (cWo G d) (cnx d)) (cWo G d) (cnx d) nL σ pc lv [.int x] (some x = some res) :=
  jj_endI hk rfl hd (vp_nar_int x) (fun hz => by cases hz; exact ⟨⟨rfl, rfl⟩, rfl⟩)
theorem jc_retRz (hk : jk p R s m args meth c d.2 cc nL own fr lo (some .boolean)) {b : Bool} {res : Bool} (hd : decode cc pc = .ok (.ireturn, 1)) : jj p l e R s m args below meth c (hA G) d.2 (jZ below args s (hA G) d.2 (jRz σ res) (cWo G d) (cnx d)) (cWo G d) (cnx d) nL σ pc lv [.int (bI b)] (some b = some res) :=
  jj_endI hk rfl hd (narrow_bI b) (fun hz => by cases hz; exact ⟨⟨rfl, rfl⟩, rfl⟩)
theorem jc_retUi (hk : jk p R s m args meth c d.2 cc nL own fr lo (some .int)) {x : Int32} {res : (Int32 × SS)} (hd : decode cc pc = .ok (.ireturn, 1)) : jj p l e R s m args below meth c (hA G) d.2 (jZ below args s (hA G) d.2 (jU res) (cWo G d) (cnx d)) (cWo G d) (cnx d) nL σ pc lv [.int x] (some (x, σ) = some res) :=
  jj_endI hk rfl hd (vp_nar_int x) (fun hz => by cases hz; exact ⟨⟨rfl, rfl⟩, rfl⟩)
theorem jc_retUz (hk : jk p R s m args meth c d.2 cc nL own fr lo (some .boolean)) {b : Bool} {res : (Bool × SS)} (hd : decode cc pc = .ok (.ireturn, 1)) : jj p l e R s m args below meth c (hA G) d.2 (jZ below args s (hA G) d.2 (jUz res) (cWo G d) (cnx d)) (cWo G d) (cnx d) nL σ pc lv [.int (bI b)] (some (b, σ) = some res) :=
  jj_endI hk rfl hd (narrow_bI b) (fun hz => by cases hz; exact ⟨⟨rfl, rfl⟩, rfl⟩)
theorem jc_retV (hk : jk p R s m args meth c d.2 cc nL own fr lo none) {res : SS} (hd : decode cc pc = .ok (.return_, 1)) : jj p l e R s m args below meth c (hA G) d.2 (jZ below args s (hA G) d.2 (jV res) (cWo G d) (cnx d)) (cWo G d) (cnx d) nL σ pc lv [] (some σ = some res) :=
  jj_endV hk rfl hd (fun hz => by cases hz; exact ⟨⟨rfl, rfl⟩, rfl⟩)
end CR
section SX
variable {p : Program} {l : Launch} {e : Env} {R : Room} {s : State} {m : MethodId} {args : Array Value} {below : List Frame} {meth : Method} {c : Code} {H : Heap} {locs : List Loc} {cells slots : Nat}
/-- super.m(..) where the class above only inherits m from the class above it -/
theorem jw_runSX {x y : MethodName} {bytes cc : ByteArray} {maxL nL mc ms n index : Nat} {ret : Option FieldType} {ws : List Cond} {rm : Room} {Pc : Array Value → State → Prop} {Qc : Array Value → State → Outcome → State → Prop} {free : Addr → Prop} {own C : String} {cC : ClassId} {b : Addr} {As rest : List Value} {g : JFrame}
    (hat : ClassAt s C cC) (S : CallFix p m c cc nL s args lw_all own) (hM : Met l y ws rm Pc Qc mc ms free) (hrc : rm.cells = mc) (hrs : rm.slots = ms) (hR : rm.frames + 1 ≤ R.frames ∧ 8 + (maxL + 11) + rm.locals ≤ R.locals) (hG : GoodIn lw_all ws) (hcw : Cond.code y bytes maxL ret ∈ ws)
    (hl1 : Cond.methodLink own index x ∈ lw_all) (hl2 : Cond.sameMethod x.cls y.cls x.name x.desc ∈ lw_all) (hl3 : Cond.superclass own x.cls ∈ lw_all) (hl5 : Cond.superclass x.cls y.cls ∈ lw_all) (hl4 : Cond.instanceMethod y ∈ lw_all) (hini : Cond.initialized y.cls ∈ lw_all) (hyx : y = ⟨y.cls, x.name, x.desc⟩) (hno : x.name ≠ "<init>") (hlen : (parseMethodDescriptor y.desc).map (fun d => d.parameters.length) = some n) (hp : PreV s H C b Pc As)
    (hg : g.method = m) (hn : As.length = n) (hsize : g.locals.size = nL) (hstack : g.stack = As.reverse ++ .ref b :: rest) (hW : 2 * g.monitorRoom + (rest.map fun v => v.category).sum ≤ 8) (hdg : decode cc g.pc = .ok (.invokespecial index, 3)) (hf : cells + mc ≤ R.cells ∧ slots + ms ≤ R.slots) :
    va_Run p l e R s m args below meth c H locs cells slots mc ms g rest (Qc (Value.ref b :: As).toArray) (free) := by
  obtain ⟨hx, hb, hml, ho, hts⟩ := S
  have hK : Back l R p e below s args y 3 8 (PreOf R mc ms Pc) (PostOf Qc mc ms free) := back_of (bytes := bytes) (maxL := maxL) (ret := ret) hM hp.1 hrc hrs hR.1 hR.2 (pay_in hts hG) hcw (fun a' U hW => word_at hW (Or.inl (by first | rfl | simp [Cond.onTables, Cond.keeps, Cond.steady])) (hts _ hini))
  obtain ⟨-, ⟨cellB, hcB, hoB, hclB⟩, hPc⟩ := hp
  obtain ⟨hfc, kB, hkB, -⟩ := hat
  cases hfc.symm.trans hclB
  have hcode : (Cond.code y bytes maxL ret).before args s = true := hts _ (hG _ hcw).1
  obtain ⟨mk, methM, hnamed, hmethM, hstM, habM⟩ := Cond.instanceMethod_spec (hts _ hl4)
  obtain ⟨methM', cM, hmethM', -, -, -, -, -, -, hsigM⟩ := Cond.code_spec hnamed hcode
  cases hmethM.symm.trans hmethM'
  obtain ⟨ps, dk, kp, hps, hdk, hkp, hsuper, -, -, hnid⟩ := Cond.superclass_spec ho (hts _ hl3)
  obtain ⟨pt, dk2, kp2, hpt, hdk2, hkp2, hsuper2, -, -, -⟩ := Cond.superclass_spec hps (hts _ hl5)
  have hnm : s.methodNamed? ⟨y.cls, x.name, x.desc⟩ = some mk := by rw [← hyx]; exact hnamed
  have hpm : pt = mk.cls := Option.some.inj (hpt.symm.trans (findClass_of_methodNamed hnamed))
  have hsub : s.vm.isSubclass ps mk.cls = true := by
    rw [← hpm]
    have hz : ps < s.vm.classes.size := (Array.getElem?_eq_some_iff.mp hdk2).1
    obtain ⟨k, hk⟩ : ∃ k, s.vm.classes.size = k + 1 := ⟨_, (Nat.succ_pred_eq_of_pos (Nat.lt_of_le_of_lt (Nat.zero_le ps) hz)).symm⟩
    unfold Vm.isSubclass
    rw [hk]
    simp [Vm.isSubclassAux, hdk2, hsuper2]
  intro T hT X
  have hlen2 : ∀ sig, parseMethodDescriptor y.desc = some sig → As.length = sig.parameters.length := fun sig h => by
    rw [h] at hlen
    rw [hn]
    exact (Option.some.inj hlen).symm
  obtain ⟨vm₁, X₁, hstep₁⟩ := X.invokespecialUp hx ho (hts _ hl1) (hts _ hl2) hnm hmethM hstM habM hno hdk hnid hps hsuper hsub (a := b) (cell := cellB) (by rw [hT]; exact hcB)
    (fun z h => by rw [h] at hoB; cases hoB) hkB (g := g) hg (argsL := As) (rest := rest) (hlen2 _ hsigM) hstack (by rw [hb]; exact hdg)
  obtain ⟨v, B, X', hpost, hsteps⟩ := hK m meth c ⟨T.setVm vm₁, locs, cells, slots⟩ { g with stack := rest } (.invokespecial index) mk (Value.ref b :: As).toArray X₁ hg (hsize.trans hml.symm) (by rw [hb]; exact hdg) hW (X₁.named hnamed) ⟨hf.1, hf.2, hPc (T.setVm vm₁) hT X₁.warmed⟩
  obtain ⟨U', l2, c2, s2⟩ := B
  obtain ⟨g', mk2, t, L, e1, e2, hq, h1, hL, h2, h3⟩ := hpost
  dsimp only [Pt.U, Pt.locs, Pt.cells, Pt.slots] at X' e1 e2 h1 h2 h3 hsteps
  subst h1; subst h2; subst h3
  exact ⟨v, (T.setVm vm₁).calling g' mk2 (Value.ref b :: As).toArray, t, U', L, hT, X', hL, e1, e2, hq, fun target h => hstep₁ _ (by rw [doInvoke_state]; exact hsteps.trans h)⟩
end SX
section CR
variable {p : Program} {l : Launch} {e : Env} {R : Room} {s : State} {m : MethodId} {args : Array Value} {below : List Frame} {meth : Method} {c : Code}
variable {NX : Nat} {Q : State → Prop} {nL : Nat} {cc : ByteArray} {fr lo : Nat} {ret : Option FieldType} {own : String}
variable {pc pc' : Nat} {σ σ' : SS} {lv lv' : List (Nat × Value)} {st st' : List Value} {Z : Prop} {G : cG} {d : DS} {ρ : Type} {res : ρ} {KK : State → Prop}
theorem lw_Uw {own : String} {idx : Nat} {C : String} {x y : MethodName} {b : ByteArray} {L : Nat} {r : Option FieldType} (h1 : Cond.methodLink own idx x ∈ lw_all) (h2 : Cond.sameMethod x.cls x.cls x.name x.desc ∈ lw_all) (h3 : Cond.selects C x y ∈ lw_all) (h4 : Cond.instanceMethod y ∈ lw_all) (h5 : Cond.initialized y.cls ∈ lw_all) (h6 : Cond.code y b L r ∈ lw_all) : GoodIn lw_all (va_wsU own idx C x.cls x y (ws_ y b L r)) := by
  refine lw_app ?_ (lw_meth h6)
  intro w hw
  simp only [List.mem_cons, List.not_mem_nil, or_false] at hw
  rcases hw with e | e | e | e | e
  · rw [e]; exact h1
  · rw [e]; exact h2
  · rw [e]; exact h3
  · rw [e]; exact h4
  · rw [e]; exact h5
theorem lw_SUw {own : String} {idx : Nat} {y : MethodName} {b : ByteArray} {L : Nat} {r : Option FieldType} (h1 : Cond.methodLink own idx y ∈ lw_all) (h2 : Cond.sameMethod y.cls y.cls y.name y.desc ∈ lw_all) (h3 : Cond.superclass own y.cls ∈ lw_all) (h4 : Cond.instanceMethod y ∈ lw_all) (h5 : Cond.initialized y.cls ∈ lw_all) (h6 : Cond.code y b L r ∈ lw_all) : GoodIn lw_all (va_wsSU own idx y (ws_ y b L r)) := by
  refine lw_app ?_ (lw_meth h6)
  intro w hw
  simp only [List.mem_cons, List.not_mem_nil, or_false] at hw
  rcases hw with e | e | e | e | e
  · rw [e]; exact h1
  · rw [e]; exact h2
  · rw [e]; exact h3
  · rw [e]; exact h4
  · rw [e]; exact h5
theorem lw_Ow {own : String} {idx : Nat} {C : String} {x y : MethodName} {b : ByteArray} {L : Nat} {r : Option FieldType} (h1 : Cond.methodLink own idx x ∈ lw_all) (h2 : Cond.sameMethod x.cls x.cls x.name x.desc ∈ lw_all) (h7 : Cond.instanceMethod x ∈ lw_all) (h3 : Cond.selects C x y ∈ lw_all) (h4 : Cond.instanceMethod y ∈ lw_all) (h5 : Cond.initialized y.cls ∈ lw_all) (h6 : Cond.code y b L r ∈ lw_all) : GoodIn lw_all (va_wsO own idx C x.cls x y (ws_ y b L r)) := by
  refine lw_app ?_ (lw_meth h6)
  intro w hw
  simp only [List.mem_cons, List.not_mem_nil, or_false] at hw
  rcases hw with e | e | e | e | e | e
  · rw [e]; exact h1
  · rw [e]; exact h2
  · rw [e]; exact h7
  · rw [e]; exact h3
  · rw [e]; exact h4
  · rw [e]; exact h5
theorem dci_spec {d : DS} {ci q : Nat} (h : dci d q = some ci) : ∃ fs, dl d q = some (.inr (ci, fs)) := by
  unfold dci at h
  split at h
  · rename_i c fs e; cases h; exact ⟨fs, e⟩
  · cases h
theorem jc_ORi (hk : jk p R s m args meth c NX cc nL own fr lo ret) (hH : cH G KK) (hK : KK s) {x y : MethodName} {bytes : ByteArray} {C : String} {b nLc frc loc idx n : Nat} {F : Option Int32} {K : Int32 → Option ρ} (As : List Value) {st0 : List Value} (hM : ∀ r, F = some r → jM l y (ws_ y bytes nLc (some .int)) frc loc (.ref b :: As) (cWo G d) (cnx d) KK σ (jR σ r) (hA G) d.2)
    (hl : GoodIn lw_all (va_wsO own idx C x.cls x y (ws_ y bytes nLc (some .int)))) {b0 : ByteArray} {m0 : Nat} {r0 : Option FieldType} (h0 : Cond.code x b0 m0 r0 ∈ lw_all) (hrv : cRv G d σ s b C) (hy : x.cls ≠ "java/lang/invoke/MethodHandle" ∧ x.cls ≠ "java/lang/invoke/VarHandle" ∧ (parseMethodDescriptor x.desc).map (fun d => d.parameters.length) = some n) (hlen : As.length = n) (hst : st0 = (As.reverse ++ .ref b :: st)) (hd : decode cc pc = .ok (.invokevirtual idx, 3)) (hr : frc + 1 ≤ fr ∧ 8 + (nLc + 11) + loc ≤ lo) (hw : (st.map fun v => v.category).sum ≤ 8)
    (kk : ∀ r, jj p l e R s m args below meth c (hA G) NX Q (cWo G d) (cnx d) nL σ (pc + 3) lv (.int r :: st) (K r = some res)) : jj p l e R s m args below meth c (hA G) NX Q (cWo G d) (cnx d) nL σ pc lv st0 (F.bind K = some res) := by
  subst hst
  cases hF : F with
  | none => exact fun hz => by cases hz
  | some r =>
    subst hF
    refine jj_run (σ1 := σ) (v := some (.int r)) (Ψ1 := jR σ r) (idx := idx) (a1 := (Value.ref b :: As).toArray) hk (Nat.le_refl _) (fun o σ' h => ⟨by have h1 := h.1; cases h1; rfl, h.2⟩) (fun H locs ls hW hn hS hlv hle => ?_) (kk r)
    exact va_runU (As := As) (rest := st) hk.1 (hM r rfl) (va_cwO n hk.1.2.2.2.2 hl rfl rfl rfl h0 hy (by rw [hk.2.1]; exact hr)) ⟨cblind hH.1, hrv H hW, fun U hU hWm => ⟨rfl, by rw [hU]; exact hW, by rw [hU]; exact hn, hH.1 _ _ hWm hK⟩⟩ rfl hlen hlv.1 rfl (lv_room hw) hd (by rw [hk.2.1]; have : d.2 ≤ NX := hle; constructor <;> (show _ ≤ _; dsimp only [cnx]; omega))
theorem jc_ARi (hk : jk p R s m args meth c NX cc nL own fr lo ret) (hH : cH G KK) (hK : KK s) {x y : MethodName} {bytes : ByteArray} {C : String} {b nLc frc loc idx n : Nat} {F : Option Int32} {K : Int32 → Option ρ} (As : List Value) {st0 : List Value} (hM : ∀ r, F = some r → jM l y (ws_ y bytes nLc (some .int)) frc loc (.ref b :: As) (cWo G d) (cnx d) KK σ (jR σ r) (hA G) d.2)
    (hl : GoodIn lw_all (va_wsU own idx C x.cls x y (ws_ y bytes nLc (some .int)))) (hdec : Cond.declares x ∈ cNw) (hrv : cRv G d σ s b C) (hy : x.cls ≠ "java/lang/invoke/MethodHandle" ∧ x.cls ≠ "java/lang/invoke/VarHandle" ∧ (parseMethodDescriptor x.desc).map (fun d => d.parameters.length) = some n) (hlen : As.length = n) (hst : st0 = (As.reverse ++ .ref b :: st)) (hd : decode cc pc = .ok (.invokevirtual idx, 3)) (hr : frc + 1 ≤ fr ∧ 8 + (nLc + 11) + loc ≤ lo) (hw : (st.map fun v => v.category).sum ≤ 8)
    (kk : ∀ r, jj p l e R s m args below meth c (hA G) NX Q (cWo G d) (cnx d) nL σ (pc + 3) lv (.int r :: st) (K r = some res)) : jj p l e R s m args below meth c (hA G) NX Q (cWo G d) (cnx d) nL σ pc lv st0 (F.bind K = some res) := by
  subst hst
  cases hF : F with
  | none => exact fun hz => by cases hz
  | some r =>
    subst hF
    refine jj_run (σ1 := σ) (v := some (.int r)) (Ψ1 := jR σ r) (idx := idx) (a1 := (Value.ref b :: As).toArray) hk (Nat.le_refl _) (fun o σ' h => ⟨by have h1 := h.1; cases h1; rfl, h.2⟩) (fun H locs ls hW hn hS hlv hle => ?_) (kk r)
    exact va_runU (As := As) (rest := st) hk.1 (hM r rfl) (va_cwA n hk.1.2.2.2.2 hl rfl rfl rfl ((hH.2.1 s hK).2.1 _ hdec) hy (by rw [hk.2.1]; exact hr)) ⟨cblind hH.1, hrv H hW, fun U hU hWm => ⟨rfl, by rw [hU]; exact hW, by rw [hU]; exact hn, hH.1 _ _ hWm hK⟩⟩ rfl hlen hlv.1 rfl (lv_room hw) hd (by rw [hk.2.1]; have : d.2 ≤ NX := hle; constructor <;> (show _ ≤ _; dsimp only [cnx]; omega))
theorem jc_SURi (hk : jk p R s m args meth c NX cc nL own fr lo ret) (hH : cH G KK) (hK : KK s) {y : MethodName} {bytes : ByteArray} {b nLc frc loc idx n : Nat} {F : Option Int32} {K : Int32 → Option ρ} (As : List Value) {st0 : List Value} (hM : ∀ r, F = some r → jM l y (ws_ y bytes nLc (some .int)) frc loc (.ref b :: As) (cWo G d) (cnx d) KK σ (jR σ r) (hA G) d.2)
    (hl : GoodIn lw_all (va_wsSU own idx y (ws_ y bytes nLc (some .int)))) (hy : y.name ≠ "<init>" ∧ (parseMethodDescriptor y.desc).map (fun d => d.parameters.length) = some n) (hlen : As.length = n) (hst : st0 = (As.reverse ++ .ref b :: st)) (hd : decode cc pc = .ok (.invokespecial idx, 3)) (hr : frc + 1 ≤ fr ∧ 8 + (nLc + 11) + loc ≤ lo) (hw : (st.map fun v => v.category).sum ≤ 8)
    (kk : ∀ r, jj p l e R s m args below meth c (hA G) NX Q (cWo G d) (cnx d) nL σ (pc + 3) lv (.int r :: st) (K r = some res)) : jj p l e R s m args below meth c (hA G) NX Q (cWo G d) (cnx d) nL σ pc lv st0 (((dci d b).bind fun _ => F).bind K = some res) := by
  subst hst
  intro hz
  cases hc : dci d b with
  | none => rw [hc] at hz; cases hz
  | some ci =>
    rw [hc] at hz
    obtain ⟨fs, he⟩ := dci_spec hc
    obtain ⟨i, hi⟩ := ccs_dl (G := G) (σ := σ) he
    revert hz
    show jj p l e R s m args below meth c (hA G) NX Q (cWo G d) (cnx d) nL σ pc lv (As.reverse ++ .ref b :: st) (F.bind K = some res)
    cases hF : F with
    | none => exact fun hz => by cases hz
    | some r =>
      subst hF
      refine jj_run (σ1 := σ) (v := some (.int r)) (Ψ1 := jR σ r) (idx := idx) (a1 := (Value.ref b :: As).toArray) hk (Nat.le_refl _) (fun o σ' h => ⟨by have h1 := h.1; cases h1; rfl, h.2⟩) (fun H locs ls hW hn hS hlv hle => ?_) (kk r)
      obtain ⟨q, hq, -⟩ := hW.1 (69 + i) _ hi
      exact va_runSU (As := As) (rest := st) (((hH.2.1 s hK).1.1 ci q hq).2) hk.1 (hM r rfl) (va_cwSU n hk.1.2.2.2.2 hl rfl rfl rfl hy (by rw [hk.2.1]; exact hr)) ⟨cblind hH.1, va_recv (hH.2.1 s hK).1 hW.1 hq hi, fun U hU hWm => ⟨rfl, by rw [hU]; exact hW, by rw [hU]; exact hn, hH.1 _ _ hWm hK⟩⟩ rfl hlen hlv.1 rfl (lv_room hw) hd (by rw [hk.2.1]; have : d.2 ≤ NX := hle; constructor <;> (show _ ≤ _; dsimp only [cnx]; omega))
theorem jc_ORz (hk : jk p R s m args meth c NX cc nL own fr lo ret) (hH : cH G KK) (hK : KK s) {x y : MethodName} {bytes : ByteArray} {C : String} {b nLc frc loc idx n : Nat} {F : Option Bool} {K : Bool → Option ρ} (As : List Value) {st0 : List Value} (hM : ∀ r, F = some r → jM l y (ws_ y bytes nLc (some .boolean)) frc loc (.ref b :: As) (cWo G d) (cnx d) KK σ (jRz σ r) (hA G) d.2)
    (hl : GoodIn lw_all (va_wsO own idx C x.cls x y (ws_ y bytes nLc (some .boolean)))) {b0 : ByteArray} {m0 : Nat} {r0 : Option FieldType} (h0 : Cond.code x b0 m0 r0 ∈ lw_all) (hrv : cRv G d σ s b C) (hy : x.cls ≠ "java/lang/invoke/MethodHandle" ∧ x.cls ≠ "java/lang/invoke/VarHandle" ∧ (parseMethodDescriptor x.desc).map (fun d => d.parameters.length) = some n) (hlen : As.length = n) (hst : st0 = (As.reverse ++ .ref b :: st)) (hd : decode cc pc = .ok (.invokevirtual idx, 3)) (hr : frc + 1 ≤ fr ∧ 8 + (nLc + 11) + loc ≤ lo) (hw : (st.map fun v => v.category).sum ≤ 8)
    (kk : ∀ r, jj p l e R s m args below meth c (hA G) NX Q (cWo G d) (cnx d) nL σ (pc + 3) lv (.int (bI r) :: st) (K r = some res)) : jj p l e R s m args below meth c (hA G) NX Q (cWo G d) (cnx d) nL σ pc lv st0 (F.bind K = some res) := by
  subst hst
  cases hF : F with
  | none => exact fun hz => by cases hz
  | some r =>
    subst hF
    refine jj_run (σ1 := σ) (v := some (.int (bI r))) (Ψ1 := jRz σ r) (idx := idx) (a1 := (Value.ref b :: As).toArray) hk (Nat.le_refl _) (fun o σ' h => ⟨by have h1 := h.1; cases h1; rfl, h.2⟩) (fun H locs ls hW hn hS hlv hle => ?_) (kk r)
    exact va_runU (As := As) (rest := st) hk.1 (hM r rfl) (va_cwO n hk.1.2.2.2.2 hl rfl rfl rfl h0 hy (by rw [hk.2.1]; exact hr)) ⟨cblind hH.1, hrv H hW, fun U hU hWm => ⟨rfl, by rw [hU]; exact hW, by rw [hU]; exact hn, hH.1 _ _ hWm hK⟩⟩ rfl hlen hlv.1 rfl (lv_room hw) hd (by rw [hk.2.1]; have : d.2 ≤ NX := hle; constructor <;> (show _ ≤ _; dsimp only [cnx]; omega))
theorem jc_ARz (hk : jk p R s m args meth c NX cc nL own fr lo ret) (hH : cH G KK) (hK : KK s) {x y : MethodName} {bytes : ByteArray} {C : String} {b nLc frc loc idx n : Nat} {F : Option Bool} {K : Bool → Option ρ} (As : List Value) {st0 : List Value} (hM : ∀ r, F = some r → jM l y (ws_ y bytes nLc (some .boolean)) frc loc (.ref b :: As) (cWo G d) (cnx d) KK σ (jRz σ r) (hA G) d.2)
    (hl : GoodIn lw_all (va_wsU own idx C x.cls x y (ws_ y bytes nLc (some .boolean)))) (hdec : Cond.declares x ∈ cNw) (hrv : cRv G d σ s b C) (hy : x.cls ≠ "java/lang/invoke/MethodHandle" ∧ x.cls ≠ "java/lang/invoke/VarHandle" ∧ (parseMethodDescriptor x.desc).map (fun d => d.parameters.length) = some n) (hlen : As.length = n) (hst : st0 = (As.reverse ++ .ref b :: st)) (hd : decode cc pc = .ok (.invokevirtual idx, 3)) (hr : frc + 1 ≤ fr ∧ 8 + (nLc + 11) + loc ≤ lo) (hw : (st.map fun v => v.category).sum ≤ 8)
    (kk : ∀ r, jj p l e R s m args below meth c (hA G) NX Q (cWo G d) (cnx d) nL σ (pc + 3) lv (.int (bI r) :: st) (K r = some res)) : jj p l e R s m args below meth c (hA G) NX Q (cWo G d) (cnx d) nL σ pc lv st0 (F.bind K = some res) := by
  subst hst
  cases hF : F with
  | none => exact fun hz => by cases hz
  | some r =>
    subst hF
    refine jj_run (σ1 := σ) (v := some (.int (bI r))) (Ψ1 := jRz σ r) (idx := idx) (a1 := (Value.ref b :: As).toArray) hk (Nat.le_refl _) (fun o σ' h => ⟨by have h1 := h.1; cases h1; rfl, h.2⟩) (fun H locs ls hW hn hS hlv hle => ?_) (kk r)
    exact va_runU (As := As) (rest := st) hk.1 (hM r rfl) (va_cwA n hk.1.2.2.2.2 hl rfl rfl rfl ((hH.2.1 s hK).2.1 _ hdec) hy (by rw [hk.2.1]; exact hr)) ⟨cblind hH.1, hrv H hW, fun U hU hWm => ⟨rfl, by rw [hU]; exact hW, by rw [hU]; exact hn, hH.1 _ _ hWm hK⟩⟩ rfl hlen hlv.1 rfl (lv_room hw) hd (by rw [hk.2.1]; have : d.2 ≤ NX := hle; constructor <;> (show _ ≤ _; dsimp only [cnx]; omega))
theorem jc_SURz (hk : jk p R s m args meth c NX cc nL own fr lo ret) (hH : cH G KK) (hK : KK s) {y : MethodName} {bytes : ByteArray} {b nLc frc loc idx n : Nat} {F : Option Bool} {K : Bool → Option ρ} (As : List Value) {st0 : List Value} (hM : ∀ r, F = some r → jM l y (ws_ y bytes nLc (some .boolean)) frc loc (.ref b :: As) (cWo G d) (cnx d) KK σ (jRz σ r) (hA G) d.2)
    (hl : GoodIn lw_all (va_wsSU own idx y (ws_ y bytes nLc (some .boolean)))) (hy : y.name ≠ "<init>" ∧ (parseMethodDescriptor y.desc).map (fun d => d.parameters.length) = some n) (hlen : As.length = n) (hst : st0 = (As.reverse ++ .ref b :: st)) (hd : decode cc pc = .ok (.invokespecial idx, 3)) (hr : frc + 1 ≤ fr ∧ 8 + (nLc + 11) + loc ≤ lo) (hw : (st.map fun v => v.category).sum ≤ 8)
    (kk : ∀ r, jj p l e R s m args below meth c (hA G) NX Q (cWo G d) (cnx d) nL σ (pc + 3) lv (.int (bI r) :: st) (K r = some res)) : jj p l e R s m args below meth c (hA G) NX Q (cWo G d) (cnx d) nL σ pc lv st0 (((dci d b).bind fun _ => F).bind K = some res) := by
  subst hst
  intro hz
  cases hc : dci d b with
  | none => rw [hc] at hz; cases hz
  | some ci =>
    rw [hc] at hz
    obtain ⟨fs, he⟩ := dci_spec hc
    obtain ⟨i, hi⟩ := ccs_dl (G := G) (σ := σ) he
    revert hz
    show jj p l e R s m args below meth c (hA G) NX Q (cWo G d) (cnx d) nL σ pc lv (As.reverse ++ .ref b :: st) (F.bind K = some res)
    cases hF : F with
    | none => exact fun hz => by cases hz
    | some r =>
      subst hF
      refine jj_run (σ1 := σ) (v := some (.int (bI r))) (Ψ1 := jRz σ r) (idx := idx) (a1 := (Value.ref b :: As).toArray) hk (Nat.le_refl _) (fun o σ' h => ⟨by have h1 := h.1; cases h1; rfl, h.2⟩) (fun H locs ls hW hn hS hlv hle => ?_) (kk r)
      obtain ⟨q, hq, -⟩ := hW.1 (69 + i) _ hi
      exact va_runSU (As := As) (rest := st) (((hH.2.1 s hK).1.1 ci q hq).2) hk.1 (hM r rfl) (va_cwSU n hk.1.2.2.2.2 hl rfl rfl rfl hy (by rw [hk.2.1]; exact hr)) ⟨cblind hH.1, va_recv (hH.2.1 s hK).1 hW.1 hq hi, fun U hU hWm => ⟨rfl, by rw [hU]; exact hW, by rw [hU]; exact hn, hH.1 _ _ hWm hK⟩⟩ rfl hlen hlv.1 rfl (lv_room hw) hd (by rw [hk.2.1]; have : d.2 ≤ NX := hle; constructor <;> (show _ ≤ _; dsimp only [cnx]; omega))
theorem jc_OUi (hk : jk p R s m args meth c NX cc nL own fr lo ret) (hH : cH G KK) (hK : KK s) {x y : MethodName} {bytes : ByteArray} {C : String} {b nLc frc loc idx n : Nat} {F : Option (Int32 × SS)} {K : (Int32 × SS) → Option ρ} (As : List Value) {st0 : List Value} (hM : ∀ r, F = some r → jM l y (ws_ y bytes nLc (some .int)) frc loc (.ref b :: As) (cWo G d) (cnx d) KK σ (jU r) (hA G) d.2)
    (hl : GoodIn lw_all (va_wsO own idx C x.cls x y (ws_ y bytes nLc (some .int)))) {b0 : ByteArray} {m0 : Nat} {r0 : Option FieldType} (h0 : Cond.code x b0 m0 r0 ∈ lw_all) (hrv : cRv G d σ s b C) (hy : x.cls ≠ "java/lang/invoke/MethodHandle" ∧ x.cls ≠ "java/lang/invoke/VarHandle" ∧ (parseMethodDescriptor x.desc).map (fun d => d.parameters.length) = some n) (hlen : As.length = n) (hst : st0 = (As.reverse ++ .ref b :: st)) (hd : decode cc pc = .ok (.invokevirtual idx, 3)) (hr : frc + 1 ≤ fr ∧ 8 + (nLc + 11) + loc ≤ lo) (hw : (st.map fun v => v.category).sum ≤ 8)
    (kk : ∀ r, jj p l e R s m args below meth c (hA G) NX Q (cWo G d) (cnx d) nL r.2 (pc + 3) lv (.int r.1 :: st) (K r = some res)) : jj p l e R s m args below meth c (hA G) NX Q (cWo G d) (cnx d) nL σ pc lv st0 (F.bind K = some res) := by
  subst hst
  cases hF : F with
  | none => exact fun hz => by cases hz
  | some r =>
    subst hF
    refine jj_run (σ1 := r.2) (v := some (.int r.1)) (Ψ1 := jU r) (idx := idx) (a1 := (Value.ref b :: As).toArray) hk (Nat.le_refl _) (fun o σ' h => ⟨by have h1 := h.1; cases h1; rfl, h.2⟩) (fun H locs ls hW hn hS hlv hle => ?_) (kk r)
    exact va_runU (As := As) (rest := st) hk.1 (hM r rfl) (va_cwO n hk.1.2.2.2.2 hl rfl rfl rfl h0 hy (by rw [hk.2.1]; exact hr)) ⟨cblind hH.1, hrv H hW, fun U hU hWm => ⟨rfl, by rw [hU]; exact hW, by rw [hU]; exact hn, hH.1 _ _ hWm hK⟩⟩ rfl hlen hlv.1 rfl (lv_room hw) hd (by rw [hk.2.1]; have : d.2 ≤ NX := hle; constructor <;> (show _ ≤ _; dsimp only [cnx]; omega))
theorem jc_AUi (hk : jk p R s m args meth c NX cc nL own fr lo ret) (hH : cH G KK) (hK : KK s) {x y : MethodName} {bytes : ByteArray} {C : String} {b nLc frc loc idx n : Nat} {F : Option (Int32 × SS)} {K : (Int32 × SS) → Option ρ} (As : List Value) {st0 : List Value} (hM : ∀ r, F = some r → jM l y (ws_ y bytes nLc (some .int)) frc loc (.ref b :: As) (cWo G d) (cnx d) KK σ (jU r) (hA G) d.2)
    (hl : GoodIn lw_all (va_wsU own idx C x.cls x y (ws_ y bytes nLc (some .int)))) (hdec : Cond.declares x ∈ cNw) (hrv : cRv G d σ s b C) (hy : x.cls ≠ "java/lang/invoke/MethodHandle" ∧ x.cls ≠ "java/lang/invoke/VarHandle" ∧ (parseMethodDescriptor x.desc).map (fun d => d.parameters.length) = some n) (hlen : As.length = n) (hst : st0 = (As.reverse ++ .ref b :: st)) (hd : decode cc pc = .ok (.invokevirtual idx, 3)) (hr : frc + 1 ≤ fr ∧ 8 + (nLc + 11) + loc ≤ lo) (hw : (st.map fun v => v.category).sum ≤ 8)
    (kk : ∀ r, jj p l e R s m args below meth c (hA G) NX Q (cWo G d) (cnx d) nL r.2 (pc + 3) lv (.int r.1 :: st) (K r = some res)) : jj p l e R s m args below meth c (hA G) NX Q (cWo G d) (cnx d) nL σ pc lv st0 (F.bind K = some res) := by
  subst hst
  cases hF : F with
  | none => exact fun hz => by cases hz
  | some r =>
    subst hF
    refine jj_run (σ1 := r.2) (v := some (.int r.1)) (Ψ1 := jU r) (idx := idx) (a1 := (Value.ref b :: As).toArray) hk (Nat.le_refl _) (fun o σ' h => ⟨by have h1 := h.1; cases h1; rfl, h.2⟩) (fun H locs ls hW hn hS hlv hle => ?_) (kk r)
    exact va_runU (As := As) (rest := st) hk.1 (hM r rfl) (va_cwA n hk.1.2.2.2.2 hl rfl rfl rfl ((hH.2.1 s hK).2.1 _ hdec) hy (by rw [hk.2.1]; exact hr)) ⟨cblind hH.1, hrv H hW, fun U hU hWm => ⟨rfl, by rw [hU]; exact hW, by rw [hU]; exact hn, hH.1 _ _ hWm hK⟩⟩ rfl hlen hlv.1 rfl (lv_room hw) hd (by rw [hk.2.1]; have : d.2 ≤ NX := hle; constructor <;> (show _ ≤ _; dsimp only [cnx]; omega))
theorem jc_SUUi (hk : jk p R s m args meth c NX cc nL own fr lo ret) (hH : cH G KK) (hK : KK s) {y : MethodName} {bytes : ByteArray} {b nLc frc loc idx n : Nat} {F : Option (Int32 × SS)} {K : (Int32 × SS) → Option ρ} (As : List Value) {st0 : List Value} (hM : ∀ r, F = some r → jM l y (ws_ y bytes nLc (some .int)) frc loc (.ref b :: As) (cWo G d) (cnx d) KK σ (jU r) (hA G) d.2)
    (hl : GoodIn lw_all (va_wsSU own idx y (ws_ y bytes nLc (some .int)))) (hy : y.name ≠ "<init>" ∧ (parseMethodDescriptor y.desc).map (fun d => d.parameters.length) = some n) (hlen : As.length = n) (hst : st0 = (As.reverse ++ .ref b :: st)) (hd : decode cc pc = .ok (.invokespecial idx, 3)) (hr : frc + 1 ≤ fr ∧ 8 + (nLc + 11) + loc ≤ lo) (hw : (st.map fun v => v.category).sum ≤ 8)
    (kk : ∀ r, jj p l e R s m args below meth c (hA G) NX Q (cWo G d) (cnx d) nL r.2 (pc + 3) lv (.int r.1 :: st) (K r = some res)) : jj p l e R s m args below meth c (hA G) NX Q (cWo G d) (cnx d) nL σ pc lv st0 (((dci d b).bind fun _ => F).bind K = some res) := by
  subst hst
  intro hz
  cases hc : dci d b with
  | none => rw [hc] at hz; cases hz
  | some ci =>
    rw [hc] at hz
    obtain ⟨fs, he⟩ := dci_spec hc
    obtain ⟨i, hi⟩ := ccs_dl (G := G) (σ := σ) he
    revert hz
    show jj p l e R s m args below meth c (hA G) NX Q (cWo G d) (cnx d) nL σ pc lv (As.reverse ++ .ref b :: st) (F.bind K = some res)
    cases hF : F with
    | none => exact fun hz => by cases hz
    | some r =>
      subst hF
      refine jj_run (σ1 := r.2) (v := some (.int r.1)) (Ψ1 := jU r) (idx := idx) (a1 := (Value.ref b :: As).toArray) hk (Nat.le_refl _) (fun o σ' h => ⟨by have h1 := h.1; cases h1; rfl, h.2⟩) (fun H locs ls hW hn hS hlv hle => ?_) (kk r)
      obtain ⟨q, hq, -⟩ := hW.1 (69 + i) _ hi
      exact va_runSU (As := As) (rest := st) (((hH.2.1 s hK).1.1 ci q hq).2) hk.1 (hM r rfl) (va_cwSU n hk.1.2.2.2.2 hl rfl rfl rfl hy (by rw [hk.2.1]; exact hr)) ⟨cblind hH.1, va_recv (hH.2.1 s hK).1 hW.1 hq hi, fun U hU hWm => ⟨rfl, by rw [hU]; exact hW, by rw [hU]; exact hn, hH.1 _ _ hWm hK⟩⟩ rfl hlen hlv.1 rfl (lv_room hw) hd (by rw [hk.2.1]; have : d.2 ≤ NX := hle; constructor <;> (show _ ≤ _; dsimp only [cnx]; omega))
theorem jc_SXRi (hk : jk p R s m args meth c NX cc nL own fr lo ret) (hH : cH G KK) (hK : KK s) {x y : MethodName} {bytes : ByteArray} {b nLc frc loc idx n : Nat} {F : Option Int32} {K : Int32 → Option ρ} (As : List Value) {st0 : List Value} (hM : ∀ r, F = some r → jM l y (ws_ y bytes nLc (some .int)) frc loc (.ref b :: As) (cWo G d) (cnx d) KK σ (jR σ r) (hA G) d.2)
    (hl1 : Cond.methodLink own idx x ∈ lw_all) (hl2 : Cond.sameMethod x.cls y.cls x.name x.desc ∈ lw_all) (hl3 : Cond.superclass own x.cls ∈ lw_all) (hl5 : Cond.superclass x.cls y.cls ∈ lw_all) (hl4 : Cond.instanceMethod y ∈ lw_all) (hini : Cond.initialized y.cls ∈ lw_all) (hcd : Cond.code y bytes nLc (some .int) ∈ lw_all) (hyx : y = ⟨y.cls, x.name, x.desc⟩) (hy : x.name ≠ "<init>" ∧ (parseMethodDescriptor y.desc).map (fun d => d.parameters.length) = some n) (hlen : As.length = n) (hst : st0 = (As.reverse ++ .ref b :: st)) (hd : decode cc pc = .ok (.invokespecial idx, 3)) (hr : frc + 1 ≤ fr ∧ 8 + (nLc + 11) + loc ≤ lo) (hw : (st.map fun v => v.category).sum ≤ 8)
    (kk : ∀ r, jj p l e R s m args below meth c (hA G) NX Q (cWo G d) (cnx d) nL σ (pc + 3) lv (.int r :: st) (K r = some res)) : jj p l e R s m args below meth c (hA G) NX Q (cWo G d) (cnx d) nL σ pc lv st0 (((dci d b).bind fun _ => F).bind K = some res) := by
  subst hst
  intro hz
  cases hc : dci d b with
  | none => rw [hc] at hz; cases hz
  | some ci =>
    rw [hc] at hz
    obtain ⟨fs, he⟩ := dci_spec hc
    obtain ⟨i, hi⟩ := ccs_dl (G := G) (σ := σ) he
    revert hz
    show jj p l e R s m args below meth c (hA G) NX Q (cWo G d) (cnx d) nL σ pc lv (As.reverse ++ .ref b :: st) (F.bind K = some res)
    cases hF : F with
    | none => exact fun hz => by cases hz
    | some r =>
      subst hF
      refine jj_run (σ1 := σ) (v := some (.int r)) (Ψ1 := jR σ r) (idx := idx) (a1 := (Value.ref b :: As).toArray) hk (Nat.le_refl _) (fun o σ' h => ⟨by have h1 := h.1; cases h1; rfl, h.2⟩) (fun H locs ls hW hn hS hlv hle => ?_) (kk r)
      obtain ⟨q, hq, -⟩ := hW.1 (69 + i) _ hi
      exact jw_runSX (As := As) (rest := st) (((hH.2.1 s hK).1.1 ci q hq).2) hk.1 (hM r rfl) rfl rfl (by rw [hk.2.1]; exact hr) (lw_meth hcd) List.mem_cons_self hl1 hl2 hl3 hl5 hl4 hini hyx hy.1 hy.2 ⟨cblind hH.1, va_recv (hH.2.1 s hK).1 hW.1 hq hi, fun U hU hWm => ⟨rfl, by rw [hU]; exact hW, by rw [hU]; exact hn, hH.1 _ _ hWm hK⟩⟩ rfl hlen hlv.1 rfl (lv_room hw) hd (by rw [hk.2.1]; have : d.2 ≤ NX := hle; constructor <;> (show _ ≤ _; dsimp only [cnx]; omega))
theorem jc_ifnull (hk : jk p R s m args meth c NX cc nL own fr lo ret) (hH : cH G KK) (hK : KK s) {o : Option Nat} {F1 F2 : Option ρ} {off : Int} (tgt : Nat) (hd : decode cc pc = .ok (.ifnull off, 3)) (ht : (pc : Int) + off = (tgt : Int)) (kt : jj p l e R s m args below meth c (hA G) NX Q (cWo G d) (cnx d) nL σ tgt lv st (F1 = some res)) (kf : jj p l e R s m args below meth c (hA G) NX Q (cWo G d) (cnx d) nL σ (pc + 3) lv st (F2 = some res)) : jj p l e R s m args below meth c (hA G) NX Q (cWo G d) (cnx d) nL σ pc lv (va_rf o :: st) ((if o.isNone = true then F1 else F2) = some res) := by
  intro hz
  cases o with
  | none => exact ⟨(kt hz).1, fun H locs ls hW hn hS hl => lv_ifnullN hk.1.1 hk.1.2.1 hd ht ((kt hz).2 H locs ls hW hn hS hl)⟩
  | some q => exact ⟨(kf hz).1, fun H locs ls hW hn hS hl => lv_ifnull hk.1.1 hk.1.2.1 hd ((kf hz).2 H locs ls hW hn hS hl)⟩
theorem jc_ifnonnull (hk : jk p R s m args meth c NX cc nL own fr lo ret) (hH : cH G KK) (hK : KK s) {o : Option Nat} {F1 F2 : Option ρ} {off : Int} (tgt : Nat) (hd : decode cc pc = .ok (.ifnonnull off, 3)) (ht : (pc : Int) + off = (tgt : Int)) (kt : jj p l e R s m args below meth c (hA G) NX Q (cWo G d) (cnx d) nL σ tgt lv st (F2 = some res)) (kf : jj p l e R s m args below meth c (hA G) NX Q (cWo G d) (cnx d) nL σ (pc + 3) lv st (F1 = some res)) : jj p l e R s m args below meth c (hA G) NX Q (cWo G d) (cnx d) nL σ pc lv (va_rf o :: st) ((if o.isNone = true then F1 else F2) = some res) := by
  intro hz
  cases o with
  | none => exact ⟨(kf hz).1, fun H locs ls hW hn hS hl => lv_ifnonnullN hk.1.1 hk.1.2.1 hd ((kf hz).2 H locs ls hW hn hS hl)⟩
  | some q => exact ⟨(kt hz).1, fun H locs ls hW hn hS hl => lv_ifnonnull hk.1.1 hk.1.2.1 hd ht ((kt hz).2 H locs ls hW hn hS hl)⟩
end CR
