/-! PLAIN LAW: rules read from the tape: the objects that are made -/
set_option maxRecDepth 100000
theorem exA_dl_none {δ : DS} (hf : fresh δ) : dl δ δ.2 = none := by
  cases h : dl δ δ.2 with
  | none => rfl
  | some e => have := dl_mem h hf; omega
/-- one cell is set, all else as it was -/
def bui (d : DS) (q : Nat) (e : dE) (d' : DS) : Prop := dl d' q = some e ∧ (∀ q', q' ≠ q → dl d' q' = dl d q') ∧ d'.2 = d.2 ∧ fresh d'
theorem bui.tr {a b c : DS} {q : Nat} {e e' : dE} (h : bui a q e b) (g : bui b q e' c) : bui a q e' c := ⟨g.1, fun q' hq => (g.2.1 q' hq).trans (h.2.1 q' hq), g.2.2.1.trans h.2.2.1, g.2.2.2⟩
theorem put_bui {d : DS} (hf : fresh d) {q ci k : Nat} {fs : List Value} (h : dl d q = some (.inr (ci, fs))) (hk : k < fs.length) (v : Value) : ∃ d', dPut d ci k q v = some d' ∧ bui d q (.inr (ci, fs.set k v)) d' := by
  refine ⟨dSet d q (.inr (ci, fs.set k v)), ?_, ?_, fun q' hq => ?_, rfl, fresh_dSet hf h⟩
  · unfold dPut
    rw [h]
    exact if_pos ⟨rfl, hk⟩
  · rw [dl_dSet h, if_pos rfl]
  · rw [dl_dSet h, if_neg hq]
theorem putA_eq {d : DS} {q ci k : Nat} {fs : List Value} (h : dl d q = some (.inr (ci, fs))) (hc : 14 ≤ ci ∧ ci ≤ 15) (v : Value) : dPutA d k q v = dPut d ci k q v := by
  unfold dPutA dci
  rw [h]
  show (if 14 ≤ ci ∧ ci ≤ 15 then _ else _) = _
  rw [if_pos hc]
theorem mon_bui {d d' : DS} {σ : SS} {F : Option (SS × DS)} {q : Nat} {e : dE} (h : F = some (σ, d')) (hb : bui d q e d') : dMonV d F = some (σ, d') := dMonV_eq h (by rw [hb.2.2.1]; exact Nat.le_refl _)
theorem i15 {d : DS} (hf : fresh d) {q : Nat} {a b : Value} (h : dl d q = some (.inr (16, [a, b]))) (σ : SS) (x y : Int32) : ∃ d', dMonV d (f15_init σ d q x y) = some (σ, d') ∧ bui d q (.inr (16, [.int x, .int y])) d' := by
  obtain ⟨d1, p1, b1⟩ := put_bui hf h (k := 0) (by simp) (.int x)
  obtain ⟨d2, p2, b2⟩ := put_bui b1.2.2.2 b1.1 (k := 1) (by simp) (.int y)
  have b := b1.tr b2
  refine ⟨d2, mon_bui (q := q) (e := .inr (16, [.int x, .int y])) ?_ b, b⟩
  unfold f15_init
  rw [p1, Option.bind_some, p2]
  rfl
theorem i14 {d : DS} (hf : fresh d) {q : Nat} {a : Value} (h : dl d q = some (.inr (12, [a]))) (σ : SS) (c : Nat) : ∃ d', dMonV d (f14_init σ d q c) = some (σ, d') ∧ bui d q (.inr (12, [.ref c])) d' := by
  obtain ⟨d1, p1, b1⟩ := put_bui hf h (k := 0) (by simp) (.ref c)
  refine ⟨d1, mon_bui (q := q) (e := .inr (12, [.ref c])) ?_ b1, b1⟩
  unfold f14_init f13_init
  rw [dMonV_eq rfl (Nat.le_refl _), Option.bind_some, p1]
  rfl
theorem i16 {d : DS} (hf : fresh d) {q : Nat} {a b c : Value} (h : dl d q = some (.inr (13, [a, b, c]))) (σ : SS) (x : Nat) (o : Int32) (y : Nat) : ∃ d', dMonV d (f16_init σ d q x o y) = some (σ, d') ∧ bui d q (.inr (13, [.ref x, .ref y, .int o])) d' := by
  obtain ⟨d1, p1, b1⟩ := put_bui hf h (k := 0) (by simp) (.ref x)
  obtain ⟨d2, p2, b2⟩ := put_bui b1.2.2.2 b1.1 (k := 2) (by simp) (.int o)
  obtain ⟨d3, p3, b3⟩ := put_bui b2.2.2.2 b2.1 (k := 1) (by simp) (.ref y)
  have b := (b1.tr b2).tr b3
  refine ⟨d3, mon_bui (q := q) (e := .inr (13, [.ref x, .ref y, .int o])) ?_ b, b⟩
  unfold f16_init f13_init
  rw [dMonV_eq rfl (Nat.le_refl _), Option.bind_some, p1, Option.bind_some, p2, Option.bind_some, p3]
  rfl
theorem i17a {d : DS} (hf : fresh d) {q ci : Nat} (hc : 14 ≤ ci ∧ ci ≤ 15) {a b : Value} (h : dl d q = some (.inr (ci, [a, b]))) (σ : SS) (x y : Nat) : ∃ d', f17_init σ d q x y = some (σ, d') ∧ bui d q (.inr (ci, [.ref x, .ref y])) d' := by
  obtain ⟨d1, p1, b1⟩ := put_bui hf h (k := 0) (by simp) (.ref x)
  obtain ⟨d2, p2, b2⟩ := put_bui b1.2.2.2 b1.1 (k := 1) (by simp) (.ref y)
  refine ⟨d2, ?_, b1.tr b2⟩
  unfold f17_init f13_init
  rw [dMonV_eq rfl (Nat.le_refl _), Option.bind_some, putA_eq h hc, p1, Option.bind_some, putA_eq b1.1 hc, p2]
  rfl
theorem i17 {d : DS} (hf : fresh d) {q : Nat} {a b : Value} (h : dl d q = some (.inr (14, [a, b]))) (σ : SS) (x y : Nat) : ∃ d', dMonV d (f17_init σ d q x y) = some (σ, d') ∧ bui d q (.inr (14, [.ref x, .ref y])) d' := by
  obtain ⟨d', h1, h2⟩ := i17a hf (by decide) h σ x y
  exact ⟨d', mon_bui h1 h2, h2⟩
theorem i18 {d : DS} (hf : fresh d) {q : Nat} {a b : Value} (h : dl d q = some (.inr (15, [a, b]))) (σ : SS) (x y : Nat) : ∃ d', dMonV d (f18_init σ d q x y) = some (σ, d') ∧ bui d q (.inr (15, [.ref x, .ref y])) d' := by
  obtain ⟨d', h1, h2⟩ := i17a hf (by decide) h σ x y
  refine ⟨d', mon_bui (q := q) (e := .inr (15, [.ref x, .ref y])) ?_ h2, h2⟩
  unfold f18_init
  rw [mon_bui h1 h2]
  rfl
theorem i19 {d : DS} (hf : fresh d) {q : Nat} {a b c e : Value} (h : dl d q = some (.inr (17, [a, b, c, e]))) (σ : SS) (k : Int32) (o : Option Nat) (x y : Int32) : ∃ d', dMonV d (f19_init σ d q k o x y) = some (σ, d') ∧ bui d q (.inr (17, [.int k, .int x, .int y, va_rf o])) d' := by
  obtain ⟨d1, p1, b1⟩ := put_bui hf h (k := 0) (by simp) (.int k)
  obtain ⟨d2, p2, b2⟩ := put_bui b1.2.2.2 b1.1 (k := 3) (by simp) (va_rf o)
  obtain ⟨d3, p3, b3⟩ := put_bui b2.2.2.2 b2.1 (k := 1) (by simp) (.int x)
  obtain ⟨d4, p4, b4⟩ := put_bui b3.2.2.2 b3.1 (k := 2) (by simp) (.int y)
  have b := ((b1.tr b2).tr b3).tr b4
  refine ⟨d4, mon_bui (q := q) (e := .inr (17, [.int k, .int x, .int y, va_rf o])) ?_ b, b⟩
  unfold f19_init
  rw [p1, Option.bind_some, p2, Option.bind_some, p3, Option.bind_some, p4]
  rfl
/-! the heap grows -/
/-- what was there stays, from an address on all may be new -/
def grw (d d' : DS) : Prop := exA d d' ∧ fresh d' ∧ d.2 ≤ d'.2
theorem grw.rf {d : DS} (hf : fresh d) : grw d d := ⟨exA.rf d, hf, Nat.le_refl _⟩
theorem grw.tr {a b c : DS} (h : grw a b) (g : grw b c) : grw a c := ⟨h.1.tr g.1, g.2.1, Nat.le_trans h.2.2 g.2.2⟩
theorem grw_new {d : DS} (hf : fresh d) (ci : Nat) (fs : List Value) : grw d (dNew d ci fs) ∧ dl (dNew d ci fs) d.2 = some (.inr (ci, fs)) ∧ (dNew d ci fs).2 = d.2 + 1 := ⟨⟨exA_add d ci fs, fresh_add hf ci fs, Nat.le_succ _⟩, dl_add hf ci fs, rfl⟩
/-- a new cell, much made behind it, then the cell filled -/
theorem grw_bui {d d2 d3 : DS} {e : dE} (hf : fresh d) (h1 : grw d d2) (h2 : bui d2 d.2 e d3) : grw d d3 := by
  refine ⟨fun q e' hq => ?_, h2.2.2.2, by rw [h2.2.2.1]; exact h1.2.2⟩
  have := dl_mem hq hf
  rw [h2.2.1 q (by omega)]
  exact h1.1 q e' hq
/-- objects from an address on as they were -/
def agL (lo : Nat) (δ δ' : DS) : Prop := ∀ q e, lo ≤ q → dl δ q = some (.inr e) → dl δ' q = some (.inr e)
theorem agL_grw {lo : Nat} {a b c : DS} (h : grw a b) (g : agL lo b c) : agL lo a c := fun q e hq he => g q e hq (h.1 q _ he)
theorem agL_bui {lo q : Nat} {a b c : DS} {e : dE} (h : bui a q e b) (g : agL lo b c) : agL (max lo (q + 1)) a c := fun q' e' hq he => g q' e' (by omega) (by rw [h.2.1 q' (by omega)]; exact he)
/-- a value's object means vf -/
def valL (lo : Nat) (δ : DS) (q : Nat) (vf : (Nat → Int32) → Int32) : Prop := ∀ δ', agL lo δ δ' → dcl δ' 16 q = some () ∧ ∀ σ : SS, f15_of δ' σ q = some (vf (σ.2.1 39))
theorem valL.mono {lo lo' : Nat} {a b : DS} {q : Nat} {vf : (Nat → Int32) → Int32} (h : valL lo a q vf) (hg : ∀ c, agL lo' b c → agL lo a c) : valL lo' b q vf := fun c hc => h c (hg c hc)
/-- a condition's object means ev, with so many steps at most -/
def cndL (lo : Nat) (δ : DS) (dep : Nat) (q : Nat) (ev : (Nat → Int32) → Bool) : Prop := ∀ δ', agL lo δ δ' → ∀ (σ : SS) (D : Nat), dep ≤ D → hHolds D δ' σ q = some (ev (σ.2.1 39))
theorem cndL.mono {lo lo' dep dep' : Nat} {a b : DS} {q : Nat} {ev : (Nat → Int32) → Bool} (h : cndL lo a dep q ev) (hg : ∀ c, agL lo' b c → agL lo a c) (hd : dep ≤ dep') : cndL lo' b dep' q ev := fun c hc σ D hD => h c (hg c hc) σ D (by omega)
theorem cndL_C {lo dep q : Nat} {δ : DS} {ev : (Nat → Int32) → Bool} (h : cndL lo δ dep q ev) (hd : dep ≤ 80) : cndC δ q ev := fun δ' he σ => h δ' (fun q' e _ hq => he q' _ hq (fun t n a z => by cases z)) σ 80 hd
/-- a fact -/
theorem val_fact {lo q i : Nat} {δ : DS} {y : Int32} (h : dl δ q = some (.inr (16, [.int (nI i), .int y]))) (hl : lo ≤ q) (hi : i < 5) : valL lo δ q (fun fv => fv i) := by
  intro δ' hg
  have h' := hg q _ hl h
  have e0 : dInt δ' 16 0 q = some (nI i) := by unfold dInt; rw [h']; rfl
  refine ⟨by unfold dcl; rw [h']; rfl, fun σ => ?_⟩
  unfold f15_of
  rw [e0, Option.bind_some, if_pos (by rw [← Int32.not_lt]; exact nN_neg (by omega)), Option.bind_some, ldC_n (by show i < 5; exact hi) (by omega)]
  rfl
theorem val_num {lo q : Nat} {δ : DS} {y : Int32} (h : dl δ q = some (.inr (16, [.int (-1), .int y]))) (hl : lo ≤ q) : valL lo δ q (fun _ => y) := by
  intro δ' hg
  have h' := hg q _ hl h
  have e0 : dInt δ' 16 0 q = some (-1) := by unfold dInt; rw [h']; rfl
  have e1 : dInt δ' 16 1 q = some y := by unfold dInt; rw [h']; rfl
  refine ⟨by unfold dcl; rw [h']; rfl, fun σ => ?_⟩
  unfold f15_of
  rw [e0, Option.bind_some, if_neg (by decide), e1]
  rfl
def cmpB (o x y : Int32) : Bool := if o = 60 then decide (x < y) else if o = 61 then decide (x = y) else decide (y < x)
theorem cnd_cmp {lo q a b : Nat} {δ : DS} {o : Int32} {va vb : (Nat → Int32) → Int32} (h : dl δ q = some (.inr (13, [.ref a, .ref b, .int o]))) (hl : lo ≤ q) (ha : valL lo δ a va) (hb : valL lo δ b vb) : cndL lo δ 1 q (fun fv => cmpB o (va fv) (vb fv)) := by
  intro δ' hg σ D hD
  obtain ⟨D, rfl⟩ : ∃ n, D = n + 1 := ⟨D - 1, by omega⟩
  have h' := hg q _ hl h
  have ec : dci δ' q = some 13 := by unfold dci; rw [h']
  have e0 : dRfn δ' 13 0 q = some a := by unfold dRfn dRef; rw [h']; rfl
  have e1 : dRfn δ' 13 1 q = some b := by unfold dRfn dRef; rw [h']; rfl
  have e2 : dInt δ' 13 2 q = some o := by unfold dInt; rw [h']; rfl
  obtain ⟨a1, a2⟩ := ha δ' hg
  obtain ⟨b1, b2⟩ := hb δ' hg
  show (dci δ' q).bind _ = _
  rw [ec, Option.bind_some, if_neg (by decide), if_pos rfl]
  unfold f16_holds
  rw [e0, Option.bind_some, a1, Option.bind_some, a2, Option.bind_some, e1, Option.bind_some, b1, Option.bind_some, b2, Option.bind_some, e2, Option.bind_some, Option.bind_some]
  show _ = some (cmpB o (va (σ.2.1 39)) (vb (σ.2.1 39)))
  unfold cmpB
  by_cases o1 : o = 60
  · rw [if_pos o1, if_pos o1]
    by_cases c : vb (σ.2.1 39) ≤ va (σ.2.1 39)
    · rw [if_pos c, decide_eq_false (by rw [Int32.not_lt]; exact c)]
    · rw [if_neg c, decide_eq_true (by rw [← Int32.not_le]; exact c)]
  · rw [if_neg o1, if_neg o1]
    by_cases o2 : o = 61
    · rw [if_pos o2, if_pos o2]
      by_cases c : va (σ.2.1 39) = vb (σ.2.1 39)
      · rw [if_pos c, decide_eq_true c]
      · rw [if_neg c, decide_eq_false c]
    · rw [if_neg o2, if_neg o2]
      by_cases c : va (σ.2.1 39) ≤ vb (σ.2.1 39)
      · rw [if_pos c, decide_eq_false (by rw [Int32.not_lt]; exact c)]
      · rw [if_neg c, decide_eq_true (by rw [← Int32.not_le]; exact c)]
theorem cnd_not {lo q a dep : Nat} {δ : DS} {ev : (Nat → Int32) → Bool} (h : dl δ q = some (.inr (12, [.ref a]))) (hl : lo ≤ q) (ha : cndL lo δ dep a ev) : cndL lo δ (dep + 1) q (fun fv => !ev fv) := by
  intro δ' hg σ D hD
  obtain ⟨D, rfl⟩ : ∃ n, D = n + 1 := ⟨D - 1, by omega⟩
  have h' := hg q _ hl h
  have ec : dci δ' q = some 12 := by unfold dci; rw [h']
  have e0 : dRfn δ' 12 0 q = some a := by unfold dRfn dRef; rw [h']; rfl
  show (dci δ' q).bind _ = _
  rw [ec, Option.bind_some, if_pos rfl]
  unfold f14_holds
  rw [e0, Option.bind_some, ha δ' hg σ D (by omega), Option.bind_some]
  show _ = some (!ev (σ.2.1 39))
  cases ev (σ.2.1 39) <;> rfl
theorem cnd_and {lo q a b d1 d2 : Nat} {δ : DS} {ea eb : (Nat → Int32) → Bool} (h : dl δ q = some (.inr (14, [.ref a, .ref b]))) (hl : lo ≤ q) (ha : cndL lo δ d1 a ea) (hb : cndL lo δ d2 b eb) : cndL lo δ (max d1 d2 + 1) q (fun fv => ea fv && eb fv) := by
  intro δ' hg σ D hD
  obtain ⟨D, rfl⟩ : ∃ n, D = n + 1 := ⟨D - 1, by omega⟩
  have h' := hg q _ hl h
  have ec : dci δ' q = some 14 := by unfold dci; rw [h']
  have e0 : dRfn δ' 14 0 q = some a := by unfold dRfn dRef; rw [h']; rfl
  have e1 : dRfn δ' 14 1 q = some b := by unfold dRfn dRef; rw [h']; rfl
  show (dci δ' q).bind _ = _
  rw [ec, Option.bind_some, if_neg (by decide), if_neg (by decide), if_pos rfl]
  unfold f17_holds
  rw [e0, Option.bind_some, ha δ' hg σ D (by omega), Option.bind_some, e1, Option.bind_some, hb δ' hg σ D (by omega), Option.bind_some]
  show _ = some (ea (σ.2.1 39) && eb (σ.2.1 39))
  cases ea (σ.2.1 39) <;> cases eb (σ.2.1 39) <;> rfl
theorem cnd_or {lo q a b d1 d2 : Nat} {δ : DS} {ea eb : (Nat → Int32) → Bool} (h : dl δ q = some (.inr (15, [.ref a, .ref b]))) (hl : lo ≤ q) (ha : cndL lo δ d1 a ea) (hb : cndL lo δ d2 b eb) : cndL lo δ (max d1 d2 + 1) q (fun fv => ea fv || eb fv) := by
  intro δ' hg σ D hD
  obtain ⟨D, rfl⟩ : ∃ n, D = n + 1 := ⟨D - 1, by omega⟩
  have h' := hg q _ hl h
  have ec : dci δ' q = some 15 := by unfold dci; rw [h']
  have e0 : dRfn δ' 15 0 q = some a := by unfold dRfn dRef; rw [h']; rfl
  have e1 : dRfn δ' 15 1 q = some b := by unfold dRfn dRef; rw [h']; rfl
  show (dci δ' q).bind _ = _
  rw [ec, Option.bind_some, if_neg (by decide), if_neg (by decide), if_neg (by decide), if_pos rfl]
  unfold f18_holds
  rw [e0, Option.bind_some, ha δ' hg σ D (by omega), Option.bind_some, e1, Option.bind_some, hb δ' hg σ D (by omega), Option.bind_some]
  show _ = some (ea (σ.2.1 39) || eb (σ.2.1 39))
  cases ea (σ.2.1 39) <;> cases eb (σ.2.1 39) <;> rfl
