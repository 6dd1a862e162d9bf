-- ===== PART A: goes FIRST, ahead of the names: the tables' words, and 'selects' of the private methods out of them =====
/-- a private method of a class that the tables say can be made, by its rows of tables_1 -/
def lw_okq (q : MethodName × Nat) : Prop := (q.1.cls ≠ "java/lang/invoke/MethodHandle" ∧ q.1.cls ≠ "java/lang/invoke/VarHandle") ∧ Cond.instantiable q.1.cls q.2 ∈ tables_1 ∧ Cond.privateMethod q.1 ∈ tables_1 ∧ Cond.instanceMethod q.1 ∈ tables_1
set_option maxRecDepth 100000
theorem lw_t1 {w : Cond} (h : w ∈ tables_1_1) : w ∈ tables_1 := List.mem_append_left _ h
theorem lw_t2 {w : Cond} (h : w ∈ tables_1_2) : w ∈ tables_1 := List.mem_append_right _ (List.mem_append_left _ h)
theorem lw_t3 {w : Cond} (h : w ∈ tables_1_3) : w ∈ tables_1 := List.mem_append_right _ (List.mem_append_right _ (List.mem_append_left _ h))
theorem lw_t4 {w : Cond} (h : w ∈ tables_1_4) : w ∈ tables_1 := List.mem_append_right _ (List.mem_append_right _ (List.mem_append_right _ (List.mem_append_left _ h)))
theorem lw_t5 {w : Cond} (h : w ∈ tables_1_5) : w ∈ tables_1 := List.mem_append_right _ (List.mem_append_right _ (List.mem_append_right _ (List.mem_append_right _ (List.mem_append_left _ h))))
theorem lw_t6 {w : Cond} (h : w ∈ tables_1_6) : w ∈ tables_1 := List.mem_append_right _ (List.mem_append_right _ (List.mem_append_right _ (List.mem_append_right _ (List.mem_append_right _ (List.mem_append_left _ h)))))
theorem lw_t7 {w : Cond} (h : w ∈ tables_1_7) : w ∈ tables_1 := List.mem_append_right _ (List.mem_append_right _ (List.mem_append_right _ (List.mem_append_right _ (List.mem_append_right _ (List.mem_append_right _ (List.mem_append_left _ h))))))
theorem lw_t8 {w : Cond} (h : w ∈ tables_1_8) : w ∈ tables_1 := List.mem_append_right _ (List.mem_append_right _ (List.mem_append_right _ (List.mem_append_right _ (List.mem_append_right _ (List.mem_append_right _ (List.mem_append_right _ (List.mem_append_left _ h)))))))
theorem lw_t9 {w : Cond} (h : w ∈ tables_1_9) : w ∈ tables_1 := List.mem_append_right _ (List.mem_append_right _ (List.mem_append_right _ (List.mem_append_right _ (List.mem_append_right _ (List.mem_append_right _ (List.mem_append_right _ (List.mem_append_right _ h)))))))
theorem lw_p0 : lw_okq (⟨"java/lang/NullPointerException", "getExtendedNPEMessage", "()Ljava/lang/String;"⟩, 8) := ⟨⟨by decide +kernel, by decide +kernel⟩, lw_t1 (List.mem_of_getElem? (i := 87) rfl), lw_t1 (List.mem_of_getElem? (i := 85) rfl), lw_t1 (List.mem_of_getElem? (i := 86) rfl)⟩
theorem lw_p1 : lw_okq (⟨"java/lang/Throwable", "fillInStackTrace", "(I)Ljava/lang/Throwable;"⟩, 6) := ⟨⟨by decide +kernel, by decide +kernel⟩, lw_t1 (List.mem_of_getElem? (i := 99) rfl), lw_t1 (List.mem_of_getElem? (i := 97) rfl), lw_t1 (List.mem_of_getElem? (i := 98) rfl)⟩
theorem lw_p2 : lw_okq (⟨"LeftUndoes", "renew", "(I)V"⟩, 32) := ⟨⟨by decide +kernel, by decide +kernel⟩, lw_t1 (List.mem_of_getElem? (i := 37) rfl), lw_t2 (List.mem_of_getElem? (i := 159) rfl), lw_t2 (List.mem_of_getElem? (i := 160) rfl)⟩
theorem lw_p3 : lw_okq (⟨"LeftUndoes", "isPerson", "(I)Z"⟩, 32) := ⟨⟨by decide +kernel, by decide +kernel⟩, lw_t1 (List.mem_of_getElem? (i := 37) rfl), lw_t2 (List.mem_of_getElem? (i := 222) rfl), lw_t2 (List.mem_of_getElem? (i := 223) rfl)⟩
theorem lw_p4 : lw_okq (⟨"LeftUndoes", "standsOf", "(I)I"⟩, 32) := ⟨⟨by decide +kernel, by decide +kernel⟩, lw_t1 (List.mem_of_getElem? (i := 37) rfl), lw_t2 (List.mem_of_getElem? (i := 226) rfl), lw_t2 (List.mem_of_getElem? (i := 227) rfl)⟩
theorem lw_p5 : lw_okq (⟨"LeftUndoes", "choiceOf", "(I)I"⟩, 32) := ⟨⟨by decide +kernel, by decide +kernel⟩, lw_t1 (List.mem_of_getElem? (i := 37) rfl), lw_t3 (List.mem_of_getElem? (i := 13) rfl), lw_t3 (List.mem_of_getElem? (i := 14) rfl)⟩
theorem lw_p6 : lw_okq (⟨"LeftUndoes", "reachOf", "(I)I"⟩, 32) := ⟨⟨by decide +kernel, by decide +kernel⟩, lw_t1 (List.mem_of_getElem? (i := 37) rfl), lw_t3 (List.mem_of_getElem? (i := 17) rfl), lw_t3 (List.mem_of_getElem? (i := 18) rfl)⟩
theorem lw_p7 : lw_okq (⟨"LeftUndoes", "dueOf", "(I)I"⟩, 32) := ⟨⟨by decide +kernel, by decide +kernel⟩, lw_t1 (List.mem_of_getElem? (i := 37) rfl), lw_t3 (List.mem_of_getElem? (i := 54) rfl), lw_t3 (List.mem_of_getElem? (i := 55) rfl)⟩
theorem lw_p8 : lw_okq (⟨"LeftUndoes", "isDeed", "(I)Z"⟩, 32) := ⟨⟨by decide +kernel, by decide +kernel⟩, lw_t1 (List.mem_of_getElem? (i := 37) rfl), lw_t3 (List.mem_of_getElem? (i := 91) rfl), lw_t3 (List.mem_of_getElem? (i := 92) rfl)⟩
theorem lw_p9 : lw_okq (⟨"LeftUndoes", "allRules", "()[LLeftUndoes$Rule;"⟩, 32) := ⟨⟨by decide +kernel, by decide +kernel⟩, lw_t1 (List.mem_of_getElem? (i := 37) rfl), lw_t3 (List.mem_of_getElem? (i := 123) rfl), lw_t3 (List.mem_of_getElem? (i := 124) rfl)⟩
theorem lw_p10 : lw_okq (⟨"LeftUndoes", "next", "()V"⟩, 32) := ⟨⟨by decide +kernel, by decide +kernel⟩, lw_t1 (List.mem_of_getElem? (i := 37) rfl), lw_t3 (List.mem_of_getElem? (i := 128) rfl), lw_t3 (List.mem_of_getElem? (i := 129) rfl)⟩
theorem lw_p11 : lw_okq (⟨"LeftUndoes", "faultHere", "()LLeftUndoes$Refusal;"⟩, 32) := ⟨⟨by decide +kernel, by decide +kernel⟩, lw_t1 (List.mem_of_getElem? (i := 37) rfl), lw_t3 (List.mem_of_getElem? (i := 138) rfl), lw_t3 (List.mem_of_getElem? (i := 139) rfl)⟩
theorem lw_p12 : lw_okq (⟨"LeftUndoes", "rule", "()LLeftUndoes$Rule;"⟩, 32) := ⟨⟨by decide +kernel, by decide +kernel⟩, lw_t1 (List.mem_of_getElem? (i := 37) rfl), lw_t3 (List.mem_of_getElem? (i := 148) rfl), lw_t3 (List.mem_of_getElem? (i := 149) rfl)⟩
theorem lw_p13 : lw_okq (⟨"LeftUndoes", "nameOf", "([Ljava/lang/String;)I"⟩, 32) := ⟨⟨by decide +kernel, by decide +kernel⟩, lw_t1 (List.mem_of_getElem? (i := 37) rfl), lw_t3 (List.mem_of_getElem? (i := 152) rfl), lw_t3 (List.mem_of_getElem? (i := 153) rfl)⟩
theorem lw_p14 : lw_okq (⟨"LeftUndoes", "isName", "(Ljava/lang/String;)Z"⟩, 32) := ⟨⟨by decide +kernel, by decide +kernel⟩, lw_t1 (List.mem_of_getElem? (i := 37) rfl), lw_t3 (List.mem_of_getElem? (i := 156) rfl), lw_t3 (List.mem_of_getElem? (i := 157) rfl)⟩
theorem lw_p15 : lw_okq (⟨"LeftUndoes", "goesOn", "(Ljava/lang/String;)Z"⟩, 32) := ⟨⟨by decide +kernel, by decide +kernel⟩, lw_t1 (List.mem_of_getElem? (i := 37) rfl), lw_t3 (List.mem_of_getElem? (i := 209) rfl), lw_t3 (List.mem_of_getElem? (i := 210) rfl)⟩
def lw_privs_1 : List (MethodName × Nat) := [(⟨"java/lang/NullPointerException", "getExtendedNPEMessage", "()Ljava/lang/String;"⟩, 8), (⟨"java/lang/Throwable", "fillInStackTrace", "(I)Ljava/lang/Throwable;"⟩, 6), (⟨"LeftUndoes", "renew", "(I)V"⟩, 32), (⟨"LeftUndoes", "isPerson", "(I)Z"⟩, 32), (⟨"LeftUndoes", "standsOf", "(I)I"⟩, 32), (⟨"LeftUndoes", "choiceOf", "(I)I"⟩, 32), (⟨"LeftUndoes", "reachOf", "(I)I"⟩, 32), (⟨"LeftUndoes", "dueOf", "(I)I"⟩, 32), (⟨"LeftUndoes", "isDeed", "(I)Z"⟩, 32), (⟨"LeftUndoes", "allRules", "()[LLeftUndoes$Rule;"⟩, 32), (⟨"LeftUndoes", "next", "()V"⟩, 32), (⟨"LeftUndoes", "faultHere", "()LLeftUndoes$Refusal;"⟩, 32), (⟨"LeftUndoes", "rule", "()LLeftUndoes$Rule;"⟩, 32), (⟨"LeftUndoes", "nameOf", "([Ljava/lang/String;)I"⟩, 32), (⟨"LeftUndoes", "isName", "(Ljava/lang/String;)Z"⟩, 32), (⟨"LeftUndoes", "goesOn", "(Ljava/lang/String;)Z"⟩, 32)]
theorem lw_r1 : ∀ q ∈ lw_privs_1, lw_okq q := List.forall_mem_cons.mpr ⟨lw_p0, List.forall_mem_cons.mpr ⟨lw_p1, List.forall_mem_cons.mpr ⟨lw_p2, List.forall_mem_cons.mpr ⟨lw_p3, List.forall_mem_cons.mpr ⟨lw_p4, List.forall_mem_cons.mpr ⟨lw_p5, List.forall_mem_cons.mpr ⟨lw_p6, List.forall_mem_cons.mpr ⟨lw_p7, List.forall_mem_cons.mpr ⟨lw_p8, List.forall_mem_cons.mpr ⟨lw_p9, List.forall_mem_cons.mpr ⟨lw_p10, List.forall_mem_cons.mpr ⟨lw_p11, List.forall_mem_cons.mpr ⟨lw_p12, List.forall_mem_cons.mpr ⟨lw_p13, List.forall_mem_cons.mpr ⟨lw_p14, List.forall_mem_cons.mpr ⟨lw_p15, fun _ h => absurd h List.not_mem_nil⟩⟩⟩⟩⟩⟩⟩⟩⟩⟩⟩⟩⟩⟩⟩⟩
theorem lw_p16 : lw_okq (⟨"LeftUndoes", "cond", "(I)LLeftUndoes$Cond;"⟩, 32) := ⟨⟨by decide +kernel, by decide +kernel⟩, lw_t1 (List.mem_of_getElem? (i := 37) rfl), lw_t3 (List.mem_of_getElem? (i := 213) rfl), lw_t3 (List.mem_of_getElem? (i := 214) rfl)⟩
theorem lw_p17 : lw_okq (⟨"LeftUndoes", "all", "(I)LLeftUndoes$Cond;"⟩, 32) := ⟨⟨by decide +kernel, by decide +kernel⟩, lw_t1 (List.mem_of_getElem? (i := 37) rfl), lw_t3 (List.mem_of_getElem? (i := 217) rfl), lw_t3 (List.mem_of_getElem? (i := 218) rfl)⟩
theorem lw_p18 : lw_okq (⟨"LeftUndoes", "oneOf", "(I)LLeftUndoes$Cond;"⟩, 32) := ⟨⟨by decide +kernel, by decide +kernel⟩, lw_t1 (List.mem_of_getElem? (i := 37) rfl), lw_t3 (List.mem_of_getElem? (i := 221) rfl), lw_t3 (List.mem_of_getElem? (i := 222) rfl)⟩
theorem lw_p19 : lw_okq (⟨"LeftUndoes", "want", "(Ljava/lang/String;)V"⟩, 32) := ⟨⟨by decide +kernel, by decide +kernel⟩, lw_t1 (List.mem_of_getElem? (i := 37) rfl), lw_t4 (List.mem_of_getElem? (i := 1) rfl), lw_t4 (List.mem_of_getElem? (i := 2) rfl)⟩
theorem lw_p20 : lw_okq (⟨"LeftUndoes", "value", "()LLeftUndoes$Value;"⟩, 32) := ⟨⟨by decide +kernel, by decide +kernel⟩, lw_t1 (List.mem_of_getElem? (i := 37) rfl), lw_t4 (List.mem_of_getElem? (i := 5) rfl), lw_t4 (List.mem_of_getElem? (i := 6) rfl)⟩
theorem lw_p21 : lw_okq (⟨"LeftUndoes", "figure", "()I"⟩, 32) := ⟨⟨by decide +kernel, by decide +kernel⟩, lw_t1 (List.mem_of_getElem? (i := 37) rfl), lw_t4 (List.mem_of_getElem? (i := 22) rfl), lw_t4 (List.mem_of_getElem? (i := 23) rfl)⟩
theorem lw_p22 : lw_okq (⟨"LeftUndoes", "upTo", "(I)I"⟩, 32) := ⟨⟨by decide +kernel, by decide +kernel⟩, lw_t1 (List.mem_of_getElem? (i := 37) rfl), lw_t4 (List.mem_of_getElem? (i := 70) rfl), lw_t4 (List.mem_of_getElem? (i := 71) rfl)⟩
theorem lw_p23 : lw_okq (⟨"LeftUndoes", "goes", "(I)I"⟩, 32) := ⟨⟨by decide +kernel, by decide +kernel⟩, lw_t1 (List.mem_of_getElem? (i := 37) rfl), lw_t4 (List.mem_of_getElem? (i := 101) rfl), lw_t4 (List.mem_of_getElem? (i := 102) rfl)⟩
theorem lw_p24 : lw_okq (⟨"LeftUndoes", "passes", "(I)I"⟩, 32) := ⟨⟨by decide +kernel, by decide +kernel⟩, lw_t1 (List.mem_of_getElem? (i := 37) rfl), lw_t4 (List.mem_of_getElem? (i := 105) rfl), lw_t4 (List.mem_of_getElem? (i := 106) rfl)⟩
theorem lw_p25 : lw_okq (⟨"LeftUndoes", "rightHands", "()V"⟩, 32) := ⟨⟨by decide +kernel, by decide +kernel⟩, lw_t1 (List.mem_of_getElem? (i := 37) rfl), lw_t4 (List.mem_of_getElem? (i := 109) rfl), lw_t4 (List.mem_of_getElem? (i := 110) rfl)⟩
theorem lw_p26 : lw_okq (⟨"LeftUndoes", "undo", "(I)V"⟩, 32) := ⟨⟨by decide +kernel, by decide +kernel⟩, lw_t1 (List.mem_of_getElem? (i := 37) rfl), lw_t4 (List.mem_of_getElem? (i := 113) rfl), lw_t4 (List.mem_of_getElem? (i := 114) rfl)⟩
theorem lw_p27 : lw_okq (⟨"LeftUndoes", "isOverdue", "(II)Z"⟩, 32) := ⟨⟨by decide +kernel, by decide +kernel⟩, lw_t1 (List.mem_of_getElem? (i := 37) rfl), lw_t4 (List.mem_of_getElem? (i := 117) rfl), lw_t4 (List.mem_of_getElem? (i := 118) rfl)⟩
theorem lw_p28 : lw_okq (⟨"LeftUndoes", "setOf", "(I)I"⟩, 32) := ⟨⟨by decide +kernel, by decide +kernel⟩, lw_t1 (List.mem_of_getElem? (i := 37) rfl), lw_t4 (List.mem_of_getElem? (i := 125) rfl), lw_t4 (List.mem_of_getElem? (i := 126) rfl)⟩
theorem lw_p29 : lw_okq (⟨"LeftUndoes", "runs", "(I)I"⟩, 32) := ⟨⟨by decide +kernel, by decide +kernel⟩, lw_t1 (List.mem_of_getElem? (i := 37) rfl), lw_t4 (List.mem_of_getElem? (i := 138) rfl), lw_t4 (List.mem_of_getElem? (i := 139) rfl)⟩
theorem lw_p30 : lw_okq (⟨"LeftUndoes", "lateSet", "()I"⟩, 32) := ⟨⟨by decide +kernel, by decide +kernel⟩, lw_t1 (List.mem_of_getElem? (i := 37) rfl), lw_t4 (List.mem_of_getElem? (i := 154) rfl), lw_t4 (List.mem_of_getElem? (i := 155) rfl)⟩
theorem lw_p31 : lw_okq (⟨"LeftUndoes", "saves", "(I)V"⟩, 32) := ⟨⟨by decide +kernel, by decide +kernel⟩, lw_t1 (List.mem_of_getElem? (i := 37) rfl), lw_t4 (List.mem_of_getElem? (i := 162) rfl), lw_t4 (List.mem_of_getElem? (i := 163) rfl)⟩
def lw_privs_2 : List (MethodName × Nat) := [(⟨"LeftUndoes", "cond", "(I)LLeftUndoes$Cond;"⟩, 32), (⟨"LeftUndoes", "all", "(I)LLeftUndoes$Cond;"⟩, 32), (⟨"LeftUndoes", "oneOf", "(I)LLeftUndoes$Cond;"⟩, 32), (⟨"LeftUndoes", "want", "(Ljava/lang/String;)V"⟩, 32), (⟨"LeftUndoes", "value", "()LLeftUndoes$Value;"⟩, 32), (⟨"LeftUndoes", "figure", "()I"⟩, 32), (⟨"LeftUndoes", "upTo", "(I)I"⟩, 32), (⟨"LeftUndoes", "goes", "(I)I"⟩, 32), (⟨"LeftUndoes", "passes", "(I)I"⟩, 32), (⟨"LeftUndoes", "rightHands", "()V"⟩, 32), (⟨"LeftUndoes", "undo", "(I)V"⟩, 32), (⟨"LeftUndoes", "isOverdue", "(II)Z"⟩, 32), (⟨"LeftUndoes", "setOf", "(I)I"⟩, 32), (⟨"LeftUndoes", "runs", "(I)I"⟩, 32), (⟨"LeftUndoes", "lateSet", "()I"⟩, 32), (⟨"LeftUndoes", "saves", "(I)V"⟩, 32)]
theorem lw_r2 : ∀ q ∈ lw_privs_2, lw_okq q := List.forall_mem_cons.mpr ⟨lw_p16, List.forall_mem_cons.mpr ⟨lw_p17, List.forall_mem_cons.mpr ⟨lw_p18, List.forall_mem_cons.mpr ⟨lw_p19, List.forall_mem_cons.mpr ⟨lw_p20, List.forall_mem_cons.mpr ⟨lw_p21, List.forall_mem_cons.mpr ⟨lw_p22, List.forall_mem_cons.mpr ⟨lw_p23, List.forall_mem_cons.mpr ⟨lw_p24, List.forall_mem_cons.mpr ⟨lw_p25, List.forall_mem_cons.mpr ⟨lw_p26, List.forall_mem_cons.mpr ⟨lw_p27, List.forall_mem_cons.mpr ⟨lw_p28, List.forall_mem_cons.mpr ⟨lw_p29, List.forall_mem_cons.mpr ⟨lw_p30, List.forall_mem_cons.mpr ⟨lw_p31, fun _ h => absurd h List.not_mem_nil⟩⟩⟩⟩⟩⟩⟩⟩⟩⟩⟩⟩⟩⟩⟩⟩
theorem lw_p32 : lw_okq (⟨"LeftUndoes", "restWorth", "()I"⟩, 32) := ⟨⟨by decide +kernel, by decide +kernel⟩, lw_t1 (List.mem_of_getElem? (i := 37) rfl), lw_t4 (List.mem_of_getElem? (i := 170) rfl), lw_t4 (List.mem_of_getElem? (i := 171) rfl)⟩
theorem lw_p33 : lw_okq (⟨"LeftUndoes", "areTwo", "(II)Z"⟩, 32) := ⟨⟨by decide +kernel, by decide +kernel⟩, lw_t1 (List.mem_of_getElem? (i := 37) rfl), lw_t4 (List.mem_of_getElem? (i := 185) rfl), lw_t4 (List.mem_of_getElem? (i := 186) rfl)⟩
theorem lw_p34 : lw_okq (⟨"LeftUndoes", "netOf", "(I)I"⟩, 32) := ⟨⟨by decide +kernel, by decide +kernel⟩, lw_t1 (List.mem_of_getElem? (i := 37) rfl), lw_t4 (List.mem_of_getElem? (i := 197) rfl), lw_t4 (List.mem_of_getElem? (i := 198) rfl)⟩
theorem lw_p35 : lw_okq (⟨"LeftUndoes", "reached", "(I)I"⟩, 32) := ⟨⟨by decide +kernel, by decide +kernel⟩, lw_t1 (List.mem_of_getElem? (i := 37) rfl), lw_t4 (List.mem_of_getElem? (i := 205) rfl), lw_t4 (List.mem_of_getElem? (i := 206) rfl)⟩
theorem lw_p36 : lw_okq (⟨"LeftUndoes", "findPlans", "(I)V"⟩, 32) := ⟨⟨by decide +kernel, by decide +kernel⟩, lw_t1 (List.mem_of_getElem? (i := 37) rfl), lw_t4 (List.mem_of_getElem? (i := 223) rfl), lw_t4 (List.mem_of_getElem? (i := 224) rfl)⟩
theorem lw_p37 : lw_okq (⟨"LeftUndoes", "plansFrom", "(III)V"⟩, 32) := ⟨⟨by decide +kernel, by decide +kernel⟩, lw_t1 (List.mem_of_getElem? (i := 37) rfl), lw_t4 (List.mem_of_getElem? (i := 227) rfl), lw_t4 (List.mem_of_getElem? (i := 228) rfl)⟩
theorem lw_p38 : lw_okq (⟨"LeftUndoes", "goesBack", "(I)V"⟩, 32) := ⟨⟨by decide +kernel, by decide +kernel⟩, lw_t1 (List.mem_of_getElem? (i := 37) rfl), lw_t4 (List.mem_of_getElem? (i := 231) rfl), lw_t4 (List.mem_of_getElem? (i := 232) rfl)⟩
theorem lw_p39 : lw_okq (⟨"LeftUndoes", "isAsked", "(II)Z"⟩, 32) := ⟨⟨by decide +kernel, by decide +kernel⟩, lw_t1 (List.mem_of_getElem? (i := 37) rfl), lw_t5 (List.mem_of_getElem? (i := 7) rfl), lw_t5 (List.mem_of_getElem? (i := 8) rfl)⟩
theorem lw_p40 : lw_okq (⟨"LeftUndoes", "findLives", "(II)V"⟩, 32) := ⟨⟨by decide +kernel, by decide +kernel⟩, lw_t1 (List.mem_of_getElem? (i := 37) rfl), lw_t5 (List.mem_of_getElem? (i := 11) rfl), lw_t5 (List.mem_of_getElem? (i := 12) rfl)⟩
theorem lw_p41 : lw_okq (⟨"LeftUndoes", "livesFrom", "(III)V"⟩, 32) := ⟨⟨by decide +kernel, by decide +kernel⟩, lw_t1 (List.mem_of_getElem? (i := 37) rfl), lw_t5 (List.mem_of_getElem? (i := 15) rfl), lw_t5 (List.mem_of_getElem? (i := 16) rfl)⟩
theorem lw_p42 : lw_okq (⟨"LeftUndoes", "valueFrom", "(III)I"⟩, 32) := ⟨⟨by decide +kernel, by decide +kernel⟩, lw_t1 (List.mem_of_getElem? (i := 37) rfl), lw_t5 (List.mem_of_getElem? (i := 34) rfl), lw_t5 (List.mem_of_getElem? (i := 35) rfl)⟩
theorem lw_p43 : lw_okq (⟨"LeftUndoes", "fitsBut", "(I)I"⟩, 32) := ⟨⟨by decide +kernel, by decide +kernel⟩, lw_t1 (List.mem_of_getElem? (i := 37) rfl), lw_t5 (List.mem_of_getElem? (i := 54) rfl), lw_t5 (List.mem_of_getElem? (i := 55) rfl)⟩
theorem lw_p44 : lw_okq (⟨"LeftUndoes", "isSo", "(II)Z"⟩, 32) := ⟨⟨by decide +kernel, by decide +kernel⟩, lw_t1 (List.mem_of_getElem? (i := 37) rfl), lw_t5 (List.mem_of_getElem? (i := 58) rfl), lw_t5 (List.mem_of_getElem? (i := 59) rfl)⟩
theorem lw_p45 : lw_okq (⟨"LeftUndoes", "strange", "(I)LLeftUndoes$Hand;"⟩, 32) := ⟨⟨by decide +kernel, by decide +kernel⟩, lw_t1 (List.mem_of_getElem? (i := 37) rfl), lw_t5 (List.mem_of_getElem? (i := 62) rfl), lw_t5 (List.mem_of_getElem? (i := 63) rfl)⟩
theorem lw_p46 : lw_okq (⟨"LeftUndoes", "drawn", "()I"⟩, 32) := ⟨⟨by decide +kernel, by decide +kernel⟩, lw_t1 (List.mem_of_getElem? (i := 37) rfl), lw_t5 (List.mem_of_getElem? (i := 78) rfl), lw_t5 (List.mem_of_getElem? (i := 79) rfl)⟩
theorem lw_p47 : lw_okq (⟨"LeftUndoes", "drawnAll", "()I"⟩, 32) := ⟨⟨by decide +kernel, by decide +kernel⟩, lw_t1 (List.mem_of_getElem? (i := 37) rfl), lw_t5 (List.mem_of_getElem? (i := 87) rfl), lw_t5 (List.mem_of_getElem? (i := 88) rfl)⟩
def lw_privs_3 : List (MethodName × Nat) := [(⟨"LeftUndoes", "restWorth", "()I"⟩, 32), (⟨"LeftUndoes", "areTwo", "(II)Z"⟩, 32), (⟨"LeftUndoes", "netOf", "(I)I"⟩, 32), (⟨"LeftUndoes", "reached", "(I)I"⟩, 32), (⟨"LeftUndoes", "findPlans", "(I)V"⟩, 32), (⟨"LeftUndoes", "plansFrom", "(III)V"⟩, 32), (⟨"LeftUndoes", "goesBack", "(I)V"⟩, 32), (⟨"LeftUndoes", "isAsked", "(II)Z"⟩, 32), (⟨"LeftUndoes", "findLives", "(II)V"⟩, 32), (⟨"LeftUndoes", "livesFrom", "(III)V"⟩, 32), (⟨"LeftUndoes", "valueFrom", "(III)I"⟩, 32), (⟨"LeftUndoes", "fitsBut", "(I)I"⟩, 32), (⟨"LeftUndoes", "isSo", "(II)Z"⟩, 32), (⟨"LeftUndoes", "strange", "(I)LLeftUndoes$Hand;"⟩, 32), (⟨"LeftUndoes", "drawn", "()I"⟩, 32), (⟨"LeftUndoes", "drawnAll", "()I"⟩, 32)]
theorem lw_r3 : ∀ q ∈ lw_privs_3, lw_okq q := List.forall_mem_cons.mpr ⟨lw_p32, List.forall_mem_cons.mpr ⟨lw_p33, List.forall_mem_cons.mpr ⟨lw_p34, List.forall_mem_cons.mpr ⟨lw_p35, List.forall_mem_cons.mpr ⟨lw_p36, List.forall_mem_cons.mpr ⟨lw_p37, List.forall_mem_cons.mpr ⟨lw_p38, List.forall_mem_cons.mpr ⟨lw_p39, List.forall_mem_cons.mpr ⟨lw_p40, List.forall_mem_cons.mpr ⟨lw_p41, List.forall_mem_cons.mpr ⟨lw_p42, List.forall_mem_cons.mpr ⟨lw_p43, List.forall_mem_cons.mpr ⟨lw_p44, List.forall_mem_cons.mpr ⟨lw_p45, List.forall_mem_cons.mpr ⟨lw_p46, List.forall_mem_cons.mpr ⟨lw_p47, fun _ h => absurd h List.not_mem_nil⟩⟩⟩⟩⟩⟩⟩⟩⟩⟩⟩⟩⟩⟩⟩⟩
theorem lw_p48 : lw_okq (⟨"LeftUndoes", "isRow", "(II)Z"⟩, 32) := ⟨⟨by decide +kernel, by decide +kernel⟩, lw_t1 (List.mem_of_getElem? (i := 37) rfl), lw_t5 (List.mem_of_getElem? (i := 99) rfl), lw_t5 (List.mem_of_getElem? (i := 100) rfl)⟩
theorem lw_p49 : lw_okq (⟨"LeftUndoes", "isAct", "(I)Z"⟩, 32) := ⟨⟨by decide +kernel, by decide +kernel⟩, lw_t1 (List.mem_of_getElem? (i := 37) rfl), lw_t5 (List.mem_of_getElem? (i := 111) rfl), lw_t5 (List.mem_of_getElem? (i := 112) rfl)⟩
theorem lw_p50 : lw_okq (⟨"LeftUndoes", "must", "(ZI)V"⟩, 32) := ⟨⟨by decide +kernel, by decide +kernel⟩, lw_t1 (List.mem_of_getElem? (i := 37) rfl), lw_t5 (List.mem_of_getElem? (i := 159) rfl), lw_t5 (List.mem_of_getElem? (i := 160) rfl)⟩
theorem lw_p51 : lw_okq (⟨"LeftUndoes", "itemOf", "(Ljava/lang/Object;II)I"⟩, 32) := ⟨⟨by decide +kernel, by decide +kernel⟩, lw_t1 (List.mem_of_getElem? (i := 37) rfl), lw_t5 (List.mem_of_getElem? (i := 218) rfl), lw_t5 (List.mem_of_getElem? (i := 219) rfl)⟩
theorem lw_p52 : lw_okq (⟨"LeftUndoes", "held", "(I)Ljava/lang/Object;"⟩, 32) := ⟨⟨by decide +kernel, by decide +kernel⟩, lw_t1 (List.mem_of_getElem? (i := 37) rfl), lw_t6 (List.mem_of_getElem? (i := 12) rfl), lw_t6 (List.mem_of_getElem? (i := 13) rfl)⟩
theorem lw_p53 : lw_okq (⟨"LeftUndoes", "loans", "()I"⟩, 32) := ⟨⟨by decide +kernel, by decide +kernel⟩, lw_t1 (List.mem_of_getElem? (i := 37) rfl), lw_t6 (List.mem_of_getElem? (i := 213) rfl), lw_t6 (List.mem_of_getElem? (i := 214) rfl)⟩
theorem lw_p54 : lw_okq (⟨"LeftUndoesModel", "isPerson", "(I)Z"⟩, 42) := ⟨⟨by decide +kernel, by decide +kernel⟩, lw_t6 (List.mem_of_getElem? (i := 225) rfl), lw_t7 (List.mem_of_getElem? (i := 137) rfl), lw_t7 (List.mem_of_getElem? (i := 138) rfl)⟩
theorem lw_p55 : lw_okq (⟨"LeftUndoesModel", "its", "(II)I"⟩, 42) := ⟨⟨by decide +kernel, by decide +kernel⟩, lw_t6 (List.mem_of_getElem? (i := 225) rfl), lw_t7 (List.mem_of_getElem? (i := 141) rfl), lw_t7 (List.mem_of_getElem? (i := 142) rfl)⟩
theorem lw_p56 : lw_okq (⟨"LeftUndoesModel", "standWeight", "(I)I"⟩, 42) := ⟨⟨by decide +kernel, by decide +kernel⟩, lw_t6 (List.mem_of_getElem? (i := 225) rfl), lw_t7 (List.mem_of_getElem? (i := 145) rfl), lw_t7 (List.mem_of_getElem? (i := 146) rfl)⟩
theorem lw_p57 : lw_okq (⟨"LeftUndoesModel", "deedIs", "(II)I"⟩, 42) := ⟨⟨by decide +kernel, by decide +kernel⟩, lw_t6 (List.mem_of_getElem? (i := 225) rfl), lw_t7 (List.mem_of_getElem? (i := 149) rfl), lw_t7 (List.mem_of_getElem? (i := 150) rfl)⟩
theorem lw_p58 : lw_okq (⟨"LeftUndoesModel", "pulls", "(I)I"⟩, 42) := ⟨⟨by decide +kernel, by decide +kernel⟩, lw_t6 (List.mem_of_getElem? (i := 225) rfl), lw_t7 (List.mem_of_getElem? (i := 156) rfl), lw_t7 (List.mem_of_getElem? (i := 157) rfl)⟩
theorem lw_p59 : lw_okq (⟨"LeftUndoesModel", "choice", "(I)I"⟩, 42) := ⟨⟨by decide +kernel, by decide +kernel⟩, lw_t6 (List.mem_of_getElem? (i := 225) rfl), lw_t7 (List.mem_of_getElem? (i := 163) rfl), lw_t7 (List.mem_of_getElem? (i := 164) rfl)⟩
theorem lw_p60 : lw_okq (⟨"LeftUndoesModel", "isSo", "(III)Z"⟩, 42) := ⟨⟨by decide +kernel, by decide +kernel⟩, lw_t6 (List.mem_of_getElem? (i := 225) rfl), lw_t7 (List.mem_of_getElem? (i := 170) rfl), lw_t7 (List.mem_of_getElem? (i := 171) rfl)⟩
theorem lw_p61 : lw_okq (⟨"LeftUndoesModel", "fact", "(II)I"⟩, 42) := ⟨⟨by decide +kernel, by decide +kernel⟩, lw_t6 (List.mem_of_getElem? (i := 225) rfl), lw_t7 (List.mem_of_getElem? (i := 174) rfl), lw_t7 (List.mem_of_getElem? (i := 175) rfl)⟩
theorem lw_p62 : lw_okq (⟨"LeftUndoesModel", "due", "(I)I"⟩, 42) := ⟨⟨by decide +kernel, by decide +kernel⟩, lw_t6 (List.mem_of_getElem? (i := 225) rfl), lw_t7 (List.mem_of_getElem? (i := 181) rfl), lw_t7 (List.mem_of_getElem? (i := 182) rfl)⟩
theorem lw_p63 : lw_okq (⟨"LeftUndoesModel", "becomes", "(II)I"⟩, 42) := ⟨⟨by decide +kernel, by decide +kernel⟩, lw_t6 (List.mem_of_getElem? (i := 225) rfl), lw_t7 (List.mem_of_getElem? (i := 193) rfl), lw_t7 (List.mem_of_getElem? (i := 194) rfl)⟩
def lw_privs_4 : List (MethodName × Nat) := [(⟨"LeftUndoes", "isRow", "(II)Z"⟩, 32), (⟨"LeftUndoes", "isAct", "(I)Z"⟩, 32), (⟨"LeftUndoes", "must", "(ZI)V"⟩, 32), (⟨"LeftUndoes", "itemOf", "(Ljava/lang/Object;II)I"⟩, 32), (⟨"LeftUndoes", "held", "(I)Ljava/lang/Object;"⟩, 32), (⟨"LeftUndoes", "loans", "()I"⟩, 32), (⟨"LeftUndoesModel", "isPerson", "(I)Z"⟩, 42), (⟨"LeftUndoesModel", "its", "(II)I"⟩, 42), (⟨"LeftUndoesModel", "standWeight", "(I)I"⟩, 42), (⟨"LeftUndoesModel", "deedIs", "(II)I"⟩, 42), (⟨"LeftUndoesModel", "pulls", "(I)I"⟩, 42), (⟨"LeftUndoesModel", "choice", "(I)I"⟩, 42), (⟨"LeftUndoesModel", "isSo", "(III)Z"⟩, 42), (⟨"LeftUndoesModel", "fact", "(II)I"⟩, 42), (⟨"LeftUndoesModel", "due", "(I)I"⟩, 42), (⟨"LeftUndoesModel", "becomes", "(II)I"⟩, 42)]
theorem lw_r4 : ∀ q ∈ lw_privs_4, lw_okq q := List.forall_mem_cons.mpr ⟨lw_p48, List.forall_mem_cons.mpr ⟨lw_p49, List.forall_mem_cons.mpr ⟨lw_p50, List.forall_mem_cons.mpr ⟨lw_p51, List.forall_mem_cons.mpr ⟨lw_p52, List.forall_mem_cons.mpr ⟨lw_p53, List.forall_mem_cons.mpr ⟨lw_p54, List.forall_mem_cons.mpr ⟨lw_p55, List.forall_mem_cons.mpr ⟨lw_p56, List.forall_mem_cons.mpr ⟨lw_p57, List.forall_mem_cons.mpr ⟨lw_p58, List.forall_mem_cons.mpr ⟨lw_p59, List.forall_mem_cons.mpr ⟨lw_p60, List.forall_mem_cons.mpr ⟨lw_p61, List.forall_mem_cons.mpr ⟨lw_p62, List.forall_mem_cons.mpr ⟨lw_p63, fun _ h => absurd h List.not_mem_nil⟩⟩⟩⟩⟩⟩⟩⟩⟩⟩⟩⟩⟩⟩⟩⟩
theorem lw_p64 : lw_okq (⟨"LeftUndoesModel", "isDeed", "(I)Z"⟩, 42) := ⟨⟨by decide +kernel, by decide +kernel⟩, lw_t6 (List.mem_of_getElem? (i := 225) rfl), lw_t7 (List.mem_of_getElem? (i := 206) rfl), lw_t7 (List.mem_of_getElem? (i := 207) rfl)⟩
theorem lw_p65 : lw_okq (⟨"LeftUndoesModel", "isOver", "()Z"⟩, 42) := ⟨⟨by decide +kernel, by decide +kernel⟩, lw_t6 (List.mem_of_getElem? (i := 225) rfl), lw_t7 (List.mem_of_getElem? (i := 227) rfl), lw_t7 (List.mem_of_getElem? (i := 228) rfl)⟩
theorem lw_p66 : lw_okq (⟨"LeftUndoesModel", "goes", "(I)I"⟩, 42) := ⟨⟨by decide +kernel, by decide +kernel⟩, lw_t6 (List.mem_of_getElem? (i := 225) rfl), lw_t7 (List.mem_of_getElem? (i := 235) rfl), lw_t7 (List.mem_of_getElem? (i := 236) rfl)⟩
theorem lw_p67 : lw_okq (⟨"LeftUndoesModel", "undo", "(I)V"⟩, 42) := ⟨⟨by decide +kernel, by decide +kernel⟩, lw_t6 (List.mem_of_getElem? (i := 225) rfl), lw_t7 (List.mem_of_getElem? (i := 239) rfl), lw_t8 (List.mem_of_getElem? (i := 0) rfl)⟩
theorem lw_p68 : lw_okq (⟨"LeftUndoesModel", "those", "(I)I"⟩, 42) := ⟨⟨by decide +kernel, by decide +kernel⟩, lw_t6 (List.mem_of_getElem? (i := 225) rfl), lw_t8 (List.mem_of_getElem? (i := 8) rfl), lw_t8 (List.mem_of_getElem? (i := 9) rfl)⟩
theorem lw_p69 : lw_okq (⟨"LeftUndoesModel", "puts", "()V"⟩, 42) := ⟨⟨by decide +kernel, by decide +kernel⟩, lw_t6 (List.mem_of_getElem? (i := 225) rfl), lw_t8 (List.mem_of_getElem? (i := 16) rfl), lw_t8 (List.mem_of_getElem? (i := 17) rfl)⟩
theorem lw_p70 : lw_okq (⟨"LeftUndoesModel", "rest", "(I)I"⟩, 42) := ⟨⟨by decide +kernel, by decide +kernel⟩, lw_t6 (List.mem_of_getElem? (i := 225) rfl), lw_t8 (List.mem_of_getElem? (i := 20) rfl), lw_t8 (List.mem_of_getElem? (i := 21) rfl)⟩
theorem lw_p71 : lw_okq (⟨"LeftUndoesModel", "putsBack", "()V"⟩, 42) := ⟨⟨by decide +kernel, by decide +kernel⟩, lw_t6 (List.mem_of_getElem? (i := 225) rfl), lw_t8 (List.mem_of_getElem? (i := 24) rfl), lw_t8 (List.mem_of_getElem? (i := 25) rfl)⟩
theorem lw_p72 : lw_okq (⟨"LeftUndoesModel", "isGone", "(I)Z"⟩, 42) := ⟨⟨by decide +kernel, by decide +kernel⟩, lw_t6 (List.mem_of_getElem? (i := 225) rfl), lw_t8 (List.mem_of_getElem? (i := 36) rfl), lw_t8 (List.mem_of_getElem? (i := 37) rfl)⟩
theorem lw_p73 : lw_okq (⟨"LeftUndoesModel", "late", "()I"⟩, 42) := ⟨⟨by decide +kernel, by decide +kernel⟩, lw_t6 (List.mem_of_getElem? (i := 225) rfl), lw_t8 (List.mem_of_getElem? (i := 44) rfl), lw_t8 (List.mem_of_getElem? (i := 45) rfl)⟩
theorem lw_p74 : lw_okq (⟨"LeftUndoesModel", "areTwo", "(II)Z"⟩, 42) := ⟨⟨by decide +kernel, by decide +kernel⟩, lw_t6 (List.mem_of_getElem? (i := 225) rfl), lw_t8 (List.mem_of_getElem? (i := 64) rfl), lw_t8 (List.mem_of_getElem? (i := 65) rfl)⟩
theorem lw_p75 : lw_okq (⟨"LeftUndoesModel", "netOf", "(I)I"⟩, 42) := ⟨⟨by decide +kernel, by decide +kernel⟩, lw_t6 (List.mem_of_getElem? (i := 225) rfl), lw_t8 (List.mem_of_getElem? (i := 77) rfl), lw_t8 (List.mem_of_getElem? (i := 78) rfl)⟩
theorem lw_p76 : lw_okq (⟨"LeftUndoesModel", "owedBy", "(I)I"⟩, 42) := ⟨⟨by decide +kernel, by decide +kernel⟩, lw_t6 (List.mem_of_getElem? (i := 225) rfl), lw_t8 (List.mem_of_getElem? (i := 85) rfl), lw_t8 (List.mem_of_getElem? (i := 86) rfl)⟩
theorem lw_p77 : lw_okq (⟨"LeftUndoesModel", "plansOf", "(II)I"⟩, 42) := ⟨⟨by decide +kernel, by decide +kernel⟩, lw_t6 (List.mem_of_getElem? (i := 225) rfl), lw_t8 (List.mem_of_getElem? (i := 100) rfl), lw_t8 (List.mem_of_getElem? (i := 101) rfl)⟩
theorem lw_p78 : lw_okq (⟨"LeftUndoesModel", "yearsOf", "(I)I"⟩, 42) := ⟨⟨by decide +kernel, by decide +kernel⟩, lw_t6 (List.mem_of_getElem? (i := 225) rfl), lw_t8 (List.mem_of_getElem? (i := 104) rfl), lw_t8 (List.mem_of_getElem? (i := 105) rfl)⟩
theorem lw_p79 : lw_okq (⟨"LeftUndoesModel", "plans", "(III)V"⟩, 42) := ⟨⟨by decide +kernel, by decide +kernel⟩, lw_t6 (List.mem_of_getElem? (i := 225) rfl), lw_t8 (List.mem_of_getElem? (i := 108) rfl), lw_t8 (List.mem_of_getElem? (i := 109) rfl)⟩
def lw_privs_5 : List (MethodName × Nat) := [(⟨"LeftUndoesModel", "isDeed", "(I)Z"⟩, 42), (⟨"LeftUndoesModel", "isOver", "()Z"⟩, 42), (⟨"LeftUndoesModel", "goes", "(I)I"⟩, 42), (⟨"LeftUndoesModel", "undo", "(I)V"⟩, 42), (⟨"LeftUndoesModel", "those", "(I)I"⟩, 42), (⟨"LeftUndoesModel", "puts", "()V"⟩, 42), (⟨"LeftUndoesModel", "rest", "(I)I"⟩, 42), (⟨"LeftUndoesModel", "putsBack", "()V"⟩, 42), (⟨"LeftUndoesModel", "isGone", "(I)Z"⟩, 42), (⟨"LeftUndoesModel", "late", "()I"⟩, 42), (⟨"LeftUndoesModel", "areTwo", "(II)Z"⟩, 42), (⟨"LeftUndoesModel", "netOf", "(I)I"⟩, 42), (⟨"LeftUndoesModel", "owedBy", "(I)I"⟩, 42), (⟨"LeftUndoesModel", "plansOf", "(II)I"⟩, 42), (⟨"LeftUndoesModel", "yearsOf", "(I)I"⟩, 42), (⟨"LeftUndoesModel", "plans", "(III)V"⟩, 42)]
theorem lw_r5 : ∀ q ∈ lw_privs_5, lw_okq q := List.forall_mem_cons.mpr ⟨lw_p64, List.forall_mem_cons.mpr ⟨lw_p65, List.forall_mem_cons.mpr ⟨lw_p66, List.forall_mem_cons.mpr ⟨lw_p67, List.forall_mem_cons.mpr ⟨lw_p68, List.forall_mem_cons.mpr ⟨lw_p69, List.forall_mem_cons.mpr ⟨lw_p70, List.forall_mem_cons.mpr ⟨lw_p71, List.forall_mem_cons.mpr ⟨lw_p72, List.forall_mem_cons.mpr ⟨lw_p73, List.forall_mem_cons.mpr ⟨lw_p74, List.forall_mem_cons.mpr ⟨lw_p75, List.forall_mem_cons.mpr ⟨lw_p76, List.forall_mem_cons.mpr ⟨lw_p77, List.forall_mem_cons.mpr ⟨lw_p78, List.forall_mem_cons.mpr ⟨lw_p79, fun _ h => absurd h List.not_mem_nil⟩⟩⟩⟩⟩⟩⟩⟩⟩⟩⟩⟩⟩⟩⟩⟩
theorem lw_p80 : lw_okq (⟨"LeftUndoesModel", "ended", "(II)V"⟩, 42) := ⟨⟨by decide +kernel, by decide +kernel⟩, lw_t6 (List.mem_of_getElem? (i := 225) rfl), lw_t8 (List.mem_of_getElem? (i := 112) rfl), lw_t8 (List.mem_of_getElem? (i := 113) rfl)⟩
theorem lw_p81 : lw_okq (⟨"LeftUndoesModel", "saves", "(I)V"⟩, 42) := ⟨⟨by decide +kernel, by decide +kernel⟩, lw_t6 (List.mem_of_getElem? (i := 225) rfl), lw_t8 (List.mem_of_getElem? (i := 116) rfl), lw_t8 (List.mem_of_getElem? (i := 117) rfl)⟩
theorem lw_p82 : lw_okq (⟨"LeftUndoesModel", "takesBack", "(I)V"⟩, 42) := ⟨⟨by decide +kernel, by decide +kernel⟩, lw_t6 (List.mem_of_getElem? (i := 225) rfl), lw_t8 (List.mem_of_getElem? (i := 120) rfl), lw_t8 (List.mem_of_getElem? (i := 121) rfl)⟩
theorem lw_p83 : lw_okq (⟨"LeftUndoesModel", "areDeeds", "(I)Z"⟩, 42) := ⟨⟨by decide +kernel, by decide +kernel⟩, lw_t6 (List.mem_of_getElem? (i := 225) rfl), lw_t8 (List.mem_of_getElem? (i := 137) rfl), lw_t8 (List.mem_of_getElem? (i := 138) rfl)⟩
theorem lw_p84 : lw_okq (⟨"LeftUndoesModel", "played", "(IIZ)I"⟩, 42) := ⟨⟨by decide +kernel, by decide +kernel⟩, lw_t6 (List.mem_of_getElem? (i := 225) rfl), lw_t8 (List.mem_of_getElem? (i := 149) rfl), lw_t8 (List.mem_of_getElem? (i := 150) rfl)⟩
theorem lw_p85 : lw_okq (⟨"LeftUndoesModel", "findFits", "(I)V"⟩, 42) := ⟨⟨by decide +kernel, by decide +kernel⟩, lw_t6 (List.mem_of_getElem? (i := 225) rfl), lw_t8 (List.mem_of_getElem? (i := 170) rfl), lw_t8 (List.mem_of_getElem? (i := 171) rfl)⟩
theorem lw_p86 : lw_okq (⟨"LeftUndoesModel", "isFit", "(IIII)Z"⟩, 42) := ⟨⟨by decide +kernel, by decide +kernel⟩, lw_t6 (List.mem_of_getElem? (i := 225) rfl), lw_t8 (List.mem_of_getElem? (i := 174) rfl), lw_t8 (List.mem_of_getElem? (i := 175) rfl)⟩
theorem lw_p87 : lw_okq (⟨"LeftUndoesModel", "isSoBy", "(IIII)Z"⟩, 42) := ⟨⟨by decide +kernel, by decide +kernel⟩, lw_t6 (List.mem_of_getElem? (i := 225) rfl), lw_t8 (List.mem_of_getElem? (i := 178) rfl), lw_t8 (List.mem_of_getElem? (i := 179) rfl)⟩
theorem lw_p88 : lw_okq (⟨"LeftUndoesModel", "byLot", "()I"⟩, 42) := ⟨⟨by decide +kernel, by decide +kernel⟩, lw_t6 (List.mem_of_getElem? (i := 225) rfl), lw_t8 (List.mem_of_getElem? (i := 194) rfl), lw_t8 (List.mem_of_getElem? (i := 195) rfl)⟩
theorem lw_p89 : lw_okq (⟨"LeftUndoesModel", "isRow", "(II)Z"⟩, 42) := ⟨⟨by decide +kernel, by decide +kernel⟩, lw_t6 (List.mem_of_getElem? (i := 225) rfl), lw_t8 (List.mem_of_getElem? (i := 213) rfl), lw_t8 (List.mem_of_getElem? (i := 214) rfl)⟩
theorem lw_p90 : lw_okq (⟨"LeftUndoesModel", "isAct", "(I)Z"⟩, 42) := ⟨⟨by decide +kernel, by decide +kernel⟩, lw_t6 (List.mem_of_getElem? (i := 225) rfl), lw_t8 (List.mem_of_getElem? (i := 225) rfl), lw_t8 (List.mem_of_getElem? (i := 226) rfl)⟩
theorem lw_p91 : lw_okq (⟨"LeftUndoesModel", "token", "()V"⟩, 42) := ⟨⟨by decide +kernel, by decide +kernel⟩, lw_t6 (List.mem_of_getElem? (i := 225) rfl), lw_t8 (List.mem_of_getElem? (i := 239) rfl), lw_t9 (List.mem_of_getElem? (i := 0) rfl)⟩
theorem lw_p92 : lw_okq (⟨"LeftUndoesModel", "byteAt", "(I)I"⟩, 42) := ⟨⟨by decide +kernel, by decide +kernel⟩, lw_t6 (List.mem_of_getElem? (i := 225) rfl), lw_t9 (List.mem_of_getElem? (i := 3) rfl), lw_t9 (List.mem_of_getElem? (i := 4) rfl)⟩
theorem lw_p93 : lw_okq (⟨"LeftUndoesModel", "rule", "()V"⟩, 42) := ⟨⟨by decide +kernel, by decide +kernel⟩, lw_t6 (List.mem_of_getElem? (i := 225) rfl), lw_t9 (List.mem_of_getElem? (i := 17) rfl), lw_t9 (List.mem_of_getElem? (i := 18) rfl)⟩
theorem lw_p94 : lw_okq (⟨"LeftUndoesModel", "kindHere", "()I"⟩, 42) := ⟨⟨by decide +kernel, by decide +kernel⟩, lw_t6 (List.mem_of_getElem? (i := 225) rfl), lw_t9 (List.mem_of_getElem? (i := 21) rfl), lw_t9 (List.mem_of_getElem? (i := 22) rfl)⟩
theorem lw_p95 : lw_okq (⟨"LeftUndoesModel", "word", "()J"⟩, 42) := ⟨⟨by decide +kernel, by decide +kernel⟩, lw_t6 (List.mem_of_getElem? (i := 225) rfl), lw_t9 (List.mem_of_getElem? (i := 25) rfl), lw_t9 (List.mem_of_getElem? (i := 26) rfl)⟩
def lw_privs_6 : List (MethodName × Nat) := [(⟨"LeftUndoesModel", "ended", "(II)V"⟩, 42), (⟨"LeftUndoesModel", "saves", "(I)V"⟩, 42), (⟨"LeftUndoesModel", "takesBack", "(I)V"⟩, 42), (⟨"LeftUndoesModel", "areDeeds", "(I)Z"⟩, 42), (⟨"LeftUndoesModel", "played", "(IIZ)I"⟩, 42), (⟨"LeftUndoesModel", "findFits", "(I)V"⟩, 42), (⟨"LeftUndoesModel", "isFit", "(IIII)Z"⟩, 42), (⟨"LeftUndoesModel", "isSoBy", "(IIII)Z"⟩, 42), (⟨"LeftUndoesModel", "byLot", "()I"⟩, 42), (⟨"LeftUndoesModel", "isRow", "(II)Z"⟩, 42), (⟨"LeftUndoesModel", "isAct", "(I)Z"⟩, 42), (⟨"LeftUndoesModel", "token", "()V"⟩, 42), (⟨"LeftUndoesModel", "byteAt", "(I)I"⟩, 42), (⟨"LeftUndoesModel", "rule", "()V"⟩, 42), (⟨"LeftUndoesModel", "kindHere", "()I"⟩, 42), (⟨"LeftUndoesModel", "word", "()J"⟩, 42)]
theorem lw_r6 : ∀ q ∈ lw_privs_6, lw_okq q := List.forall_mem_cons.mpr ⟨lw_p80, List.forall_mem_cons.mpr ⟨lw_p81, List.forall_mem_cons.mpr ⟨lw_p82, List.forall_mem_cons.mpr ⟨lw_p83, List.forall_mem_cons.mpr ⟨lw_p84, List.forall_mem_cons.mpr ⟨lw_p85, List.forall_mem_cons.mpr ⟨lw_p86, List.forall_mem_cons.mpr ⟨lw_p87, List.forall_mem_cons.mpr ⟨lw_p88, List.forall_mem_cons.mpr ⟨lw_p89, List.forall_mem_cons.mpr ⟨lw_p90, List.forall_mem_cons.mpr ⟨lw_p91, List.forall_mem_cons.mpr ⟨lw_p92, List.forall_mem_cons.mpr ⟨lw_p93, List.forall_mem_cons.mpr ⟨lw_p94, List.forall_mem_cons.mpr ⟨lw_p95, fun _ h => absurd h List.not_mem_nil⟩⟩⟩⟩⟩⟩⟩⟩⟩⟩⟩⟩⟩⟩⟩⟩
theorem lw_p96 : lw_okq (⟨"LeftUndoesModel", "wants", "(Z)V"⟩, 42) := ⟨⟨by decide +kernel, by decide +kernel⟩, lw_t6 (List.mem_of_getElem? (i := 225) rfl), lw_t9 (List.mem_of_getElem? (i := 37) rfl), lw_t9 (List.mem_of_getElem? (i := 38) rfl)⟩
theorem lw_p97 : lw_okq (⟨"LeftUndoesModel", "condition", "()V"⟩, 42) := ⟨⟨by decide +kernel, by decide +kernel⟩, lw_t6 (List.mem_of_getElem? (i := 225) rfl), lw_t9 (List.mem_of_getElem? (i := 42) rfl), lw_t9 (List.mem_of_getElem? (i := 43) rfl)⟩
theorem lw_p98 : lw_okq (⟨"LeftUndoesModel", "all", "()V"⟩, 42) := ⟨⟨by decide +kernel, by decide +kernel⟩, lw_t6 (List.mem_of_getElem? (i := 225) rfl), lw_t9 (List.mem_of_getElem? (i := 46) rfl), lw_t9 (List.mem_of_getElem? (i := 47) rfl)⟩
theorem lw_p99 : lw_okq (⟨"LeftUndoesModel", "one", "()V"⟩, 42) := ⟨⟨by decide +kernel, by decide +kernel⟩, lw_t6 (List.mem_of_getElem? (i := 225) rfl), lw_t9 (List.mem_of_getElem? (i := 50) rfl), lw_t9 (List.mem_of_getElem? (i := 51) rfl)⟩
theorem lw_p100 : lw_okq (⟨"LeftUndoesModel", "comparison", "()V"⟩, 42) := ⟨⟨by decide +kernel, by decide +kernel⟩, lw_t6 (List.mem_of_getElem? (i := 225) rfl), lw_t9 (List.mem_of_getElem? (i := 55) rfl), lw_t9 (List.mem_of_getElem? (i := 56) rfl)⟩
theorem lw_p101 : lw_okq (⟨"LeftUndoesModel", "valueHere", "()V"⟩, 42) := ⟨⟨by decide +kernel, by decide +kernel⟩, lw_t6 (List.mem_of_getElem? (i := 225) rfl), lw_t9 (List.mem_of_getElem? (i := 59) rfl), lw_t9 (List.mem_of_getElem? (i := 60) rfl)⟩
theorem lw_p102 : lw_okq (⟨"LeftUndoesModel", "factHere", "()I"⟩, 42) := ⟨⟨by decide +kernel, by decide +kernel⟩, lw_t6 (List.mem_of_getElem? (i := 225) rfl), lw_t9 (List.mem_of_getElem? (i := 63) rfl), lw_t9 (List.mem_of_getElem? (i := 64) rfl)⟩
theorem lw_p103 : lw_okq (⟨"LeftUndoesModel", "writes", "(I)V"⟩, 42) := ⟨⟨by decide +kernel, by decide +kernel⟩, lw_t6 (List.mem_of_getElem? (i := 225) rfl), lw_t9 (List.mem_of_getElem? (i := 72) rfl), lw_t9 (List.mem_of_getElem? (i := 73) rfl)⟩
theorem lw_p104 : lw_okq (⟨"LeftUndoesModel", "number", "(I)V"⟩, 42) := ⟨⟨by decide +kernel, by decide +kernel⟩, lw_t6 (List.mem_of_getElem? (i := 225) rfl), lw_t9 (List.mem_of_getElem? (i := 76) rfl), lw_t9 (List.mem_of_getElem? (i := 77) rfl)⟩
theorem lw_p105 : lw_okq (⟨"LeftUndoesModel", "whyNot", "(II)I"⟩, 42) := ⟨⟨by decide +kernel, by decide +kernel⟩, lw_t6 (List.mem_of_getElem? (i := 225) rfl), lw_t9 (List.mem_of_getElem? (i := 104) rfl), lw_t9 (List.mem_of_getElem? (i := 105) rfl)⟩
theorem lw_p106 : lw_okq (⟨"LeftUndoesModel", "isSpan", "(II)Z"⟩, 42) := ⟨⟨by decide +kernel, by decide +kernel⟩, lw_t6 (List.mem_of_getElem? (i := 225) rfl), lw_t9 (List.mem_of_getElem? (i := 112) rfl), lw_t9 (List.mem_of_getElem? (i := 113) rfl)⟩
theorem lw_p107 : lw_okq (⟨"LeftUndoesModel", "isItem", "(IJ)Z"⟩, 42) := ⟨⟨by decide +kernel, by decide +kernel⟩, lw_t6 (List.mem_of_getElem? (i := 225) rfl), lw_t9 (List.mem_of_getElem? (i := 117) rfl), lw_t9 (List.mem_of_getElem? (i := 118) rfl)⟩
theorem lw_p108 : lw_okq (⟨"LeftUndoesModel", "onShelf", "(I)I"⟩, 42) := ⟨⟨by decide +kernel, by decide +kernel⟩, lw_t6 (List.mem_of_getElem? (i := 225) rfl), lw_t9 (List.mem_of_getElem? (i := 135) rfl), lw_t9 (List.mem_of_getElem? (i := 136) rfl)⟩
theorem lw_p109 : lw_okq (⟨"LeftUndoesModel", "gives", "(I)I"⟩, 42) := ⟨⟨by decide +kernel, by decide +kernel⟩, lw_t6 (List.mem_of_getElem? (i := 225) rfl), lw_t9 (List.mem_of_getElem? (i := 143) rfl), lw_t9 (List.mem_of_getElem? (i := 144) rfl)⟩
theorem lw_p110 : lw_okq (⟨"LeftUndoesModel", "runs", "(I)V"⟩, 42) := ⟨⟨by decide +kernel, by decide +kernel⟩, lw_t6 (List.mem_of_getElem? (i := 225) rfl), lw_t9 (List.mem_of_getElem? (i := 147) rfl), lw_t9 (List.mem_of_getElem? (i := 148) rfl)⟩
theorem lw_p111 : lw_okq (⟨"LeftUndoesModel", "takes", "(I)I"⟩, 42) := ⟨⟨by decide +kernel, by decide +kernel⟩, lw_t6 (List.mem_of_getElem? (i := 225) rfl), lw_t9 (List.mem_of_getElem? (i := 151) rfl), lw_t9 (List.mem_of_getElem? (i := 152) rfl)⟩
def lw_privs_7 : List (MethodName × Nat) := [(⟨"LeftUndoesModel", "wants", "(Z)V"⟩, 42), (⟨"LeftUndoesModel", "condition", "()V"⟩, 42), (⟨"LeftUndoesModel", "all", "()V"⟩, 42), (⟨"LeftUndoesModel", "one", "()V"⟩, 42), (⟨"LeftUndoesModel", "comparison", "()V"⟩, 42), (⟨"LeftUndoesModel", "valueHere", "()V"⟩, 42), (⟨"LeftUndoesModel", "factHere", "()I"⟩, 42), (⟨"LeftUndoesModel", "writes", "(I)V"⟩, 42), (⟨"LeftUndoesModel", "number", "(I)V"⟩, 42), (⟨"LeftUndoesModel", "whyNot", "(II)I"⟩, 42), (⟨"LeftUndoesModel", "isSpan", "(II)Z"⟩, 42), (⟨"LeftUndoesModel", "isItem", "(IJ)Z"⟩, 42), (⟨"LeftUndoesModel", "onShelf", "(I)I"⟩, 42), (⟨"LeftUndoesModel", "gives", "(I)I"⟩, 42), (⟨"LeftUndoesModel", "runs", "(I)V"⟩, 42), (⟨"LeftUndoesModel", "takes", "(I)I"⟩, 42)]
theorem lw_r7 : ∀ q ∈ lw_privs_7, lw_okq q := List.forall_mem_cons.mpr ⟨lw_p96, List.forall_mem_cons.mpr ⟨lw_p97, List.forall_mem_cons.mpr ⟨lw_p98, List.forall_mem_cons.mpr ⟨lw_p99, List.forall_mem_cons.mpr ⟨lw_p100, List.forall_mem_cons.mpr ⟨lw_p101, List.forall_mem_cons.mpr ⟨lw_p102, List.forall_mem_cons.mpr ⟨lw_p103, List.forall_mem_cons.mpr ⟨lw_p104, List.forall_mem_cons.mpr ⟨lw_p105, List.forall_mem_cons.mpr ⟨lw_p106, List.forall_mem_cons.mpr ⟨lw_p107, List.forall_mem_cons.mpr ⟨lw_p108, List.forall_mem_cons.mpr ⟨lw_p109, List.forall_mem_cons.mpr ⟨lw_p110, List.forall_mem_cons.mpr ⟨lw_p111, fun _ h => absurd h List.not_mem_nil⟩⟩⟩⟩⟩⟩⟩⟩⟩⟩⟩⟩⟩⟩⟩⟩
theorem lw_p112 : lw_okq (⟨"LeftUndoesModel", "splits", "(I)I"⟩, 42) := ⟨⟨by decide +kernel, by decide +kernel⟩, lw_t6 (List.mem_of_getElem? (i := 225) rfl), lw_t9 (List.mem_of_getElem? (i := 155) rfl), lw_t9 (List.mem_of_getElem? (i := 156) rfl)⟩
theorem lw_p113 : lw_okq (⟨"LeftUndoesModel", "plainSplits", "(I)I"⟩, 42) := ⟨⟨by decide +kernel, by decide +kernel⟩, lw_t6 (List.mem_of_getElem? (i := 225) rfl), lw_t9 (List.mem_of_getElem? (i := 159) rfl), lw_t9 (List.mem_of_getElem? (i := 160) rfl)⟩
theorem lw_p114 : lw_okq (⟨"LeftUndoesModel", "swears", "(I)I"⟩, 42) := ⟨⟨by decide +kernel, by decide +kernel⟩, lw_t6 (List.mem_of_getElem? (i := 225) rfl), lw_t9 (List.mem_of_getElem? (i := 163) rfl), lw_t9 (List.mem_of_getElem? (i := 164) rfl)⟩
theorem lw_p115 : lw_okq (⟨"LeftUndoesModel", "traced", "()I"⟩, 42) := ⟨⟨by decide +kernel, by decide +kernel⟩, lw_t6 (List.mem_of_getElem? (i := 225) rfl), lw_t9 (List.mem_of_getElem? (i := 171) rfl), lw_t9 (List.mem_of_getElem? (i := 172) rfl)⟩
theorem lw_p116 : lw_okq (⟨"LeftUndoesModel", "loans", "()I"⟩, 42) := ⟨⟨by decide +kernel, by decide +kernel⟩, lw_t6 (List.mem_of_getElem? (i := 225) rfl), lw_t9 (List.mem_of_getElem? (i := 179) rfl), lw_t9 (List.mem_of_getElem? (i := 180) rfl)⟩
def lw_privs_8 : List (MethodName × Nat) := [(⟨"LeftUndoesModel", "splits", "(I)I"⟩, 42), (⟨"LeftUndoesModel", "plainSplits", "(I)I"⟩, 42), (⟨"LeftUndoesModel", "swears", "(I)I"⟩, 42), (⟨"LeftUndoesModel", "traced", "()I"⟩, 42), (⟨"LeftUndoesModel", "loans", "()I"⟩, 42)]
theorem lw_r8 : ∀ q ∈ lw_privs_8, lw_okq q := List.forall_mem_cons.mpr ⟨lw_p112, List.forall_mem_cons.mpr ⟨lw_p113, List.forall_mem_cons.mpr ⟨lw_p114, List.forall_mem_cons.mpr ⟨lw_p115, List.forall_mem_cons.mpr ⟨lw_p116, fun _ h => absurd h List.not_mem_nil⟩⟩⟩⟩⟩
def lw_privs : List (MethodName × Nat) := lw_privs_1 ++ (lw_privs_2 ++ (lw_privs_3 ++ (lw_privs_4 ++ (lw_privs_5 ++ (lw_privs_6 ++ (lw_privs_7 ++ (lw_privs_8)))))))
def lw_tbl : List Cond := k2_sels lw_privs ++ tables_1
theorem lw_privs_ok : ∀ q ∈ lw_privs, lw_okq q := by
  show ∀ q ∈ lw_privs_1 ++ (lw_privs_2 ++ (lw_privs_3 ++ (lw_privs_4 ++ (lw_privs_5 ++ (lw_privs_6 ++ (lw_privs_7 ++ (lw_privs_8))))))), lw_okq q
  exact List.forall_mem_append.mpr ⟨lw_r1, List.forall_mem_append.mpr ⟨lw_r2, List.forall_mem_append.mpr ⟨lw_r3, List.forall_mem_append.mpr ⟨lw_r4, List.forall_mem_append.mpr ⟨lw_r5, List.forall_mem_append.mpr ⟨lw_r6, List.forall_mem_append.mpr ⟨lw_r7, lw_r8⟩⟩⟩⟩⟩⟩⟩
-- ===== ONE list of words for every method: the tables' words that hold all through a run =====
def lw_all : List Cond := lw_tbl.filter goodWord
/-- a word of the tables by its place: claim/WORDS.tsv -/
theorem lw_w {w : Cond} (i : Nat) (h : lw_tbl[i]? = some w) (g : goodWord w = true) : w ∈ lw_all := List.mem_filter.mpr ⟨List.mem_of_getElem? h, g⟩
theorem lw_all_tbl {w : Cond} (h : w ∈ lw_all) : w ∈ lw_tbl := (List.mem_filter.mp h).1
theorem lw_self : GoodIn lw_all lw_all := fun w h => ⟨h, good_of_word (List.mem_filter.mp h).2⟩
/-- a class's field words, by their places -/
theorem lw_in (ws : List Cond) (ps : List Nat) (hp : ws = ps.filterMap (fun i => lw_tbl[i]?)) (hg : ws.all goodWord = true) : ∀ w ∈ ws, w ∈ lw_all := by
  intro w h
  have h1 := List.all_eq_true.mp hg w h
  rw [hp] at h
  obtain ⟨i, -, hi⟩ := List.mem_filterMap.mp h
  exact lw_w i hi h1
/-- the words of a contract for the method y with code b, L locals, answer r -/
abbrev ws_ (y : MethodName) (b : ByteArray) (L : Nat) (r : Option FieldType) : List Cond := Cond.code y b L r :: lw_all
theorem lw_meth {y : MethodName} {b : ByteArray} {L : Nat} {r : Option FieldType} (h : Cond.code y b L r ∈ lw_all) : GoodIn lw_all (ws_ y b L r) := by
  intro w hw
  rcases List.mem_cons.mp hw with e | e
  · rw [e]
    exact lw_self _ h
  · exact lw_self _ e
theorem lw_app {a c : List Cond} (ha : ∀ w ∈ a, w ∈ lw_all) (hc : GoodIn lw_all c) : GoodIn lw_all (a ++ c) := by
  intro w hw
  rcases List.mem_append.mp hw with e | e
  · exact lw_self w (ha w e)
  · exact hc w e
/-- what a call through an object asks: cwV n hts (lw_V ..) -/
theorem lw_V {own : String} {idx : Nat} {C : String} {y : MethodName} {b : ByteArray} {L : Nat} {r : Option FieldType} (h1 : Cond.methodLink own idx y ∈ lw_all) (h2 : Cond.instanceMethod y ∈ lw_all) (h3 : Cond.selects C y y ∈ lw_all) (h4 : Cond.initialized C ∈ lw_all) (h5 : Cond.code y b L r ∈ lw_all) : GoodIn lw_all (wsV own idx C y (ws_ y b L r)) := by
  refine lw_app ?_ (lw_meth h5)
  intro w hw
  simp only [List.mem_cons, List.not_mem_nil, or_false] at hw
  rcases hw with e | e | e | e
  · rw [e]; exact h1
  · rw [e]; exact h2
  · rw [e]; exact h3
  · rw [e]; exact h4
/-- what a static call asks: va_cwS n hts (lw_S ..) -/
theorem lw_S {own : String} {idx : Nat} {y : MethodName} {b : ByteArray} {L : Nat} {r : Option FieldType} (h1 : Cond.methodLink own idx y ∈ lw_all) (h2 : Cond.static y ∈ lw_all) (h3 : Cond.initialized y.cls ∈ lw_all) (h4 : Cond.code y b L r ∈ lw_all) : GoodIn lw_all (va_wsS own idx y (ws_ y b L r)) := by
  refine lw_app ?_ (lw_meth h4)
  intro w hw
  simp only [List.mem_cons, List.not_mem_nil, or_false] at hw
  rcases hw with e | e | e
  · rw [e]; exact h1
  · rw [e]; exact h2
  · rw [e]; exact h3
/-- the words of a contract for a method WITH HANDLERS (hh: its table) -/
abbrev wsW_ (y : MethodName) (b : ByteArray) (L : Nat) (r : Option FieldType) (hh : List (Nat × Nat × Nat × Nat)) : List Cond := Cond.codeWith y b L r hh :: lw_all
theorem lw_methW {y : MethodName} {b : ByteArray} {L : Nat} {r : Option FieldType} {hh : List (Nat × Nat × Nat × Nat)} (h : Cond.codeWith y b L r hh ∈ lw_all) : GoodIn lw_all (wsW_ y b L r hh) := by
  intro w hw
  rcases List.mem_cons.mp hw with e | e
  · rw [e]
    exact lw_self _ h
  · exact lw_self _ e
/-- any list of words by their places (lw_in), good -/
theorem lw_good {ws : List Cond} (h : ∀ w ∈ ws, w ∈ lw_all) : GoodIn lw_all ws := fun w hw => lw_self w (h w hw)
/-- what a call of a method with handlers asks: vx_cwVW n hts (lw_VW ..), vx_cwSW n hts (lw_SW ..) -/
theorem lw_VW {own : String} {idx : Nat} {C : String} {y : MethodName} {b : ByteArray} {L : Nat} {r : Option FieldType} {hh : List (Nat × Nat × Nat × Nat)} (h1 : Cond.methodLink own idx y ∈ lw_all) (h2 : Cond.instanceMethod y ∈ lw_all) (h3 : Cond.selects C y y ∈ lw_all) (h4 : Cond.initialized C ∈ lw_all) (h5 : Cond.codeWith y b L r hh ∈ lw_all) : GoodIn lw_all (wsV own idx C y (wsW_ y b L r hh)) := by
  refine lw_app ?_ (lw_methW h5)
  intro w hw
  simp only [List.mem_cons, List.not_mem_nil, or_false] at hw
  rcases hw with e | e | e | e
  · rw [e]; exact h1
  · rw [e]; exact h2
  · rw [e]; exact h3
  · rw [e]; exact h4
theorem lw_SW {own : String} {idx : Nat} {y : MethodName} {b : ByteArray} {L : Nat} {r : Option FieldType} {hh : List (Nat × Nat × Nat × Nat)} (h1 : Cond.methodLink own idx y ∈ lw_all) (h2 : Cond.static y ∈ lw_all) (h3 : Cond.initialized y.cls ∈ lw_all) (h4 : Cond.codeWith y b L r hh ∈ lw_all) : GoodIn lw_all (va_wsS own idx y (wsW_ y b L r hh)) := by
  refine lw_app ?_ (lw_methW h4)
  intro w hw
  simp only [List.mem_cons, List.not_mem_nil, or_false] at hw
  rcases hw with e | e | e
  · rw [e]; exact h1
  · rw [e]; exact h2
  · rw [e]; exact h3
/-- a word by its place in its run of the tables -/
theorem lw_at {r : List Cond} (hr : ∀ w ∈ r, w ∈ lw_tbl) {w : Cond} (i : Nat) (h : r[i]? = some w) : w ∈ lw_tbl := hr w (List.mem_of_getElem? h)
theorem lw_g {w : Cond} (h : w ∈ lw_tbl) (g : goodWord w = true) : w ∈ lw_all := List.mem_filter.mpr ⟨h, g⟩
theorem lw_ms : ∀ w ∈ k2_sels lw_privs, w ∈ lw_tbl := fun w h => show w ∈ k2_sels lw_privs ++ tables_1 from List.mem_append_left _ h
theorem lw_m1 : ∀ w ∈ tables_1_1, w ∈ lw_tbl := fun w h => show w ∈ k2_sels lw_privs ++ tables_1 from List.mem_append_right (k2_sels lw_privs) (show w ∈ tables_1 from List.mem_append_left _ h)
theorem lw_m2 : ∀ w ∈ tables_1_2, w ∈ lw_tbl := fun w h => show w ∈ k2_sels lw_privs ++ tables_1 from List.mem_append_right (k2_sels lw_privs) (show w ∈ tables_1 from List.mem_append_right _ (List.mem_append_left _ h))
theorem lw_m3 : ∀ w ∈ tables_1_3, w ∈ lw_tbl := fun w h => show w ∈ k2_sels lw_privs ++ tables_1 from List.mem_append_right (k2_sels lw_privs) (show w ∈ tables_1 from List.mem_append_right _ (List.mem_append_right _ (List.mem_append_left _ h)))
theorem lw_m4 : ∀ w ∈ tables_1_4, w ∈ lw_tbl := fun w h => show w ∈ k2_sels lw_privs ++ tables_1 from List.mem_append_right (k2_sels lw_privs) (show w ∈ tables_1 from List.mem_append_right _ (List.mem_append_right _ (List.mem_append_right _ (List.mem_append_left _ h))))
theorem lw_m5 : ∀ w ∈ tables_1_5, w ∈ lw_tbl := fun w h => show w ∈ k2_sels lw_privs ++ tables_1 from List.mem_append_right (k2_sels lw_privs) (show w ∈ tables_1 from List.mem_append_right _ (List.mem_append_right _ (List.mem_append_right _ (List.mem_append_right _ (List.mem_append_left _ h)))))
theorem lw_m6 : ∀ w ∈ tables_1_6, w ∈ lw_tbl := fun w h => show w ∈ k2_sels lw_privs ++ tables_1 from List.mem_append_right (k2_sels lw_privs) (show w ∈ tables_1 from List.mem_append_right _ (List.mem_append_right _ (List.mem_append_right _ (List.mem_append_right _ (List.mem_append_right _ (List.mem_append_left _ h))))))
theorem lw_m7 : ∀ w ∈ tables_1_7, w ∈ lw_tbl := fun w h => show w ∈ k2_sels lw_privs ++ tables_1 from List.mem_append_right (k2_sels lw_privs) (show w ∈ tables_1 from List.mem_append_right _ (List.mem_append_right _ (List.mem_append_right _ (List.mem_append_right _ (List.mem_append_right _ (List.mem_append_right _ (List.mem_append_left _ h)))))))
theorem lw_m8 : ∀ w ∈ tables_1_8, w ∈ lw_tbl := fun w h => show w ∈ k2_sels lw_privs ++ tables_1 from List.mem_append_right (k2_sels lw_privs) (show w ∈ tables_1 from List.mem_append_right _ (List.mem_append_right _ (List.mem_append_right _ (List.mem_append_right _ (List.mem_append_right _ (List.mem_append_right _ (List.mem_append_right _ (List.mem_append_left _ h))))))))
theorem lw_m9 : ∀ w ∈ tables_1_9, w ∈ lw_tbl := fun w h => show w ∈ k2_sels lw_privs ++ tables_1 from List.mem_append_right (k2_sels lw_privs) (show w ∈ tables_1 from List.mem_append_right _ (List.mem_append_right _ (List.mem_append_right _ (List.mem_append_right _ (List.mem_append_right _ (List.mem_append_right _ (List.mem_append_right _ (List.mem_append_right _ h))))))))
theorem qs0 : (Cond.selects "java/lang/NullPointerException" ⟨"java/lang/NullPointerException", "getExtendedNPEMessage", "()Ljava/lang/String;"⟩ ⟨"java/lang/NullPointerException", "getExtendedNPEMessage", "()Ljava/lang/String;"⟩) ∈ lw_all := lw_g (lw_at lw_ms 0 rfl) rfl
theorem qs1 : (Cond.selects "java/lang/Throwable" ⟨"java/lang/Throwable", "fillInStackTrace", "(I)Ljava/lang/Throwable;"⟩ ⟨"java/lang/Throwable", "fillInStackTrace", "(I)Ljava/lang/Throwable;"⟩) ∈ lw_all := lw_g (lw_at lw_ms 1 rfl) rfl
theorem qs2 : (Cond.selects "LeftUndoes" ⟨"LeftUndoes", "renew", "(I)V"⟩ ⟨"LeftUndoes", "renew", "(I)V"⟩) ∈ lw_all := lw_g (lw_at lw_ms 2 rfl) rfl
theorem qs3 : (Cond.selects "LeftUndoes" ⟨"LeftUndoes", "isPerson", "(I)Z"⟩ ⟨"LeftUndoes", "isPerson", "(I)Z"⟩) ∈ lw_all := lw_g (lw_at lw_ms 3 rfl) rfl
theorem qs4 : (Cond.selects "LeftUndoes" ⟨"LeftUndoes", "standsOf", "(I)I"⟩ ⟨"LeftUndoes", "standsOf", "(I)I"⟩) ∈ lw_all := lw_g (lw_at lw_ms 4 rfl) rfl
theorem qs5 : (Cond.selects "LeftUndoes" ⟨"LeftUndoes", "choiceOf", "(I)I"⟩ ⟨"LeftUndoes", "choiceOf", "(I)I"⟩) ∈ lw_all := lw_g (lw_at lw_ms 5 rfl) rfl
theorem qs6 : (Cond.selects "LeftUndoes" ⟨"LeftUndoes", "reachOf", "(I)I"⟩ ⟨"LeftUndoes", "reachOf", "(I)I"⟩) ∈ lw_all := lw_g (lw_at lw_ms 6 rfl) rfl
theorem qs7 : (Cond.selects "LeftUndoes" ⟨"LeftUndoes", "dueOf", "(I)I"⟩ ⟨"LeftUndoes", "dueOf", "(I)I"⟩) ∈ lw_all := lw_g (lw_at lw_ms 7 rfl) rfl
theorem qs8 : (Cond.selects "LeftUndoes" ⟨"LeftUndoes", "isDeed", "(I)Z"⟩ ⟨"LeftUndoes", "isDeed", "(I)Z"⟩) ∈ lw_all := lw_g (lw_at lw_ms 8 rfl) rfl
theorem qs9 : (Cond.selects "LeftUndoes" ⟨"LeftUndoes", "allRules", "()[LLeftUndoes$Rule;"⟩ ⟨"LeftUndoes", "allRules", "()[LLeftUndoes$Rule;"⟩) ∈ lw_all := lw_g (lw_at lw_ms 9 rfl) rfl
theorem qs10 : (Cond.selects "LeftUndoes" ⟨"LeftUndoes", "next", "()V"⟩ ⟨"LeftUndoes", "next", "()V"⟩) ∈ lw_all := lw_g (lw_at lw_ms 10 rfl) rfl
theorem qs11 : (Cond.selects "LeftUndoes" ⟨"LeftUndoes", "faultHere", "()LLeftUndoes$Refusal;"⟩ ⟨"LeftUndoes", "faultHere", "()LLeftUndoes$Refusal;"⟩) ∈ lw_all := lw_g (lw_at lw_ms 11 rfl) rfl
theorem qs12 : (Cond.selects "LeftUndoes" ⟨"LeftUndoes", "rule", "()LLeftUndoes$Rule;"⟩ ⟨"LeftUndoes", "rule", "()LLeftUndoes$Rule;"⟩) ∈ lw_all := lw_g (lw_at lw_ms 12 rfl) rfl
theorem qs13 : (Cond.selects "LeftUndoes" ⟨"LeftUndoes", "nameOf", "([Ljava/lang/String;)I"⟩ ⟨"LeftUndoes", "nameOf", "([Ljava/lang/String;)I"⟩) ∈ lw_all := lw_g (lw_at lw_ms 13 rfl) rfl
theorem qs14 : (Cond.selects "LeftUndoes" ⟨"LeftUndoes", "isName", "(Ljava/lang/String;)Z"⟩ ⟨"LeftUndoes", "isName", "(Ljava/lang/String;)Z"⟩) ∈ lw_all := lw_g (lw_at lw_ms 14 rfl) rfl
theorem qs15 : (Cond.selects "LeftUndoes" ⟨"LeftUndoes", "goesOn", "(Ljava/lang/String;)Z"⟩ ⟨"LeftUndoes", "goesOn", "(Ljava/lang/String;)Z"⟩) ∈ lw_all := lw_g (lw_at lw_ms 15 rfl) rfl
theorem qs16 : (Cond.selects "LeftUndoes" ⟨"LeftUndoes", "cond", "(I)LLeftUndoes$Cond;"⟩ ⟨"LeftUndoes", "cond", "(I)LLeftUndoes$Cond;"⟩) ∈ lw_all := lw_g (lw_at lw_ms 16 rfl) rfl
theorem qs17 : (Cond.selects "LeftUndoes" ⟨"LeftUndoes", "all", "(I)LLeftUndoes$Cond;"⟩ ⟨"LeftUndoes", "all", "(I)LLeftUndoes$Cond;"⟩) ∈ lw_all := lw_g (lw_at lw_ms 17 rfl) rfl
theorem qs18 : (Cond.selects "LeftUndoes" ⟨"LeftUndoes", "oneOf", "(I)LLeftUndoes$Cond;"⟩ ⟨"LeftUndoes", "oneOf", "(I)LLeftUndoes$Cond;"⟩) ∈ lw_all := lw_g (lw_at lw_ms 18 rfl) rfl
theorem qs19 : (Cond.selects "LeftUndoes" ⟨"LeftUndoes", "want", "(Ljava/lang/String;)V"⟩ ⟨"LeftUndoes", "want", "(Ljava/lang/String;)V"⟩) ∈ lw_all := lw_g (lw_at lw_ms 19 rfl) rfl
theorem qs20 : (Cond.selects "LeftUndoes" ⟨"LeftUndoes", "value", "()LLeftUndoes$Value;"⟩ ⟨"LeftUndoes", "value", "()LLeftUndoes$Value;"⟩) ∈ lw_all := lw_g (lw_at lw_ms 20 rfl) rfl
theorem qs21 : (Cond.selects "LeftUndoes" ⟨"LeftUndoes", "figure", "()I"⟩ ⟨"LeftUndoes", "figure", "()I"⟩) ∈ lw_all := lw_g (lw_at lw_ms 21 rfl) rfl
theorem qs22 : (Cond.selects "LeftUndoes" ⟨"LeftUndoes", "upTo", "(I)I"⟩ ⟨"LeftUndoes", "upTo", "(I)I"⟩) ∈ lw_all := lw_g (lw_at lw_ms 22 rfl) rfl
theorem qs23 : (Cond.selects "LeftUndoes" ⟨"LeftUndoes", "goes", "(I)I"⟩ ⟨"LeftUndoes", "goes", "(I)I"⟩) ∈ lw_all := lw_g (lw_at lw_ms 23 rfl) rfl
theorem qs24 : (Cond.selects "LeftUndoes" ⟨"LeftUndoes", "passes", "(I)I"⟩ ⟨"LeftUndoes", "passes", "(I)I"⟩) ∈ lw_all := lw_g (lw_at lw_ms 24 rfl) rfl
theorem qs25 : (Cond.selects "LeftUndoes" ⟨"LeftUndoes", "rightHands", "()V"⟩ ⟨"LeftUndoes", "rightHands", "()V"⟩) ∈ lw_all := lw_g (lw_at lw_ms 25 rfl) rfl
theorem qs26 : (Cond.selects "LeftUndoes" ⟨"LeftUndoes", "undo", "(I)V"⟩ ⟨"LeftUndoes", "undo", "(I)V"⟩) ∈ lw_all := lw_g (lw_at lw_ms 26 rfl) rfl
theorem qs27 : (Cond.selects "LeftUndoes" ⟨"LeftUndoes", "isOverdue", "(II)Z"⟩ ⟨"LeftUndoes", "isOverdue", "(II)Z"⟩) ∈ lw_all := lw_g (lw_at lw_ms 27 rfl) rfl
theorem qs28 : (Cond.selects "LeftUndoes" ⟨"LeftUndoes", "setOf", "(I)I"⟩ ⟨"LeftUndoes", "setOf", "(I)I"⟩) ∈ lw_all := lw_g (lw_at lw_ms 28 rfl) rfl
theorem qs29 : (Cond.selects "LeftUndoes" ⟨"LeftUndoes", "runs", "(I)I"⟩ ⟨"LeftUndoes", "runs", "(I)I"⟩) ∈ lw_all := lw_g (lw_at lw_ms 29 rfl) rfl
theorem qs30 : (Cond.selects "LeftUndoes" ⟨"LeftUndoes", "lateSet", "()I"⟩ ⟨"LeftUndoes", "lateSet", "()I"⟩) ∈ lw_all := lw_g (lw_at lw_ms 30 rfl) rfl
theorem qs31 : (Cond.selects "LeftUndoes" ⟨"LeftUndoes", "saves", "(I)V"⟩ ⟨"LeftUndoes", "saves", "(I)V"⟩) ∈ lw_all := lw_g (lw_at lw_ms 31 rfl) rfl
theorem qs32 : (Cond.selects "LeftUndoes" ⟨"LeftUndoes", "restWorth", "()I"⟩ ⟨"LeftUndoes", "restWorth", "()I"⟩) ∈ lw_all := lw_g (lw_at lw_ms 32 rfl) rfl
theorem qs33 : (Cond.selects "LeftUndoes" ⟨"LeftUndoes", "areTwo", "(II)Z"⟩ ⟨"LeftUndoes", "areTwo", "(II)Z"⟩) ∈ lw_all := lw_g (lw_at lw_ms 33 rfl) rfl
theorem qs34 : (Cond.selects "LeftUndoes" ⟨"LeftUndoes", "netOf", "(I)I"⟩ ⟨"LeftUndoes", "netOf", "(I)I"⟩) ∈ lw_all := lw_g (lw_at lw_ms 34 rfl) rfl
theorem qs35 : (Cond.selects "LeftUndoes" ⟨"LeftUndoes", "reached", "(I)I"⟩ ⟨"LeftUndoes", "reached", "(I)I"⟩) ∈ lw_all := lw_g (lw_at lw_ms 35 rfl) rfl
theorem qs36 : (Cond.selects "LeftUndoes" ⟨"LeftUndoes", "findPlans", "(I)V"⟩ ⟨"LeftUndoes", "findPlans", "(I)V"⟩) ∈ lw_all := lw_g (lw_at lw_ms 36 rfl) rfl
theorem qs37 : (Cond.selects "LeftUndoes" ⟨"LeftUndoes", "plansFrom", "(III)V"⟩ ⟨"LeftUndoes", "plansFrom", "(III)V"⟩) ∈ lw_all := lw_g (lw_at lw_ms 37 rfl) rfl
theorem qs38 : (Cond.selects "LeftUndoes" ⟨"LeftUndoes", "goesBack", "(I)V"⟩ ⟨"LeftUndoes", "goesBack", "(I)V"⟩) ∈ lw_all := lw_g (lw_at lw_ms 38 rfl) rfl
theorem qs39 : (Cond.selects "LeftUndoes" ⟨"LeftUndoes", "isAsked", "(II)Z"⟩ ⟨"LeftUndoes", "isAsked", "(II)Z"⟩) ∈ lw_all := lw_g (lw_at lw_ms 39 rfl) rfl
theorem qs40 : (Cond.selects "LeftUndoes" ⟨"LeftUndoes", "findLives", "(II)V"⟩ ⟨"LeftUndoes", "findLives", "(II)V"⟩) ∈ lw_all := lw_g (lw_at lw_ms 40 rfl) rfl
theorem qs41 : (Cond.selects "LeftUndoes" ⟨"LeftUndoes", "livesFrom", "(III)V"⟩ ⟨"LeftUndoes", "livesFrom", "(III)V"⟩) ∈ lw_all := lw_g (lw_at lw_ms 41 rfl) rfl
theorem qs42 : (Cond.selects "LeftUndoes" ⟨"LeftUndoes", "valueFrom", "(III)I"⟩ ⟨"LeftUndoes", "valueFrom", "(III)I"⟩) ∈ lw_all := lw_g (lw_at lw_ms 42 rfl) rfl
theorem qs43 : (Cond.selects "LeftUndoes" ⟨"LeftUndoes", "fitsBut", "(I)I"⟩ ⟨"LeftUndoes", "fitsBut", "(I)I"⟩) ∈ lw_all := lw_g (lw_at lw_ms 43 rfl) rfl
theorem qs44 : (Cond.selects "LeftUndoes" ⟨"LeftUndoes", "isSo", "(II)Z"⟩ ⟨"LeftUndoes", "isSo", "(II)Z"⟩) ∈ lw_all := lw_g (lw_at lw_ms 44 rfl) rfl
theorem qs45 : (Cond.selects "LeftUndoes" ⟨"LeftUndoes", "strange", "(I)LLeftUndoes$Hand;"⟩ ⟨"LeftUndoes", "strange", "(I)LLeftUndoes$Hand;"⟩) ∈ lw_all := lw_g (lw_at lw_ms 45 rfl) rfl
theorem qs46 : (Cond.selects "LeftUndoes" ⟨"LeftUndoes", "drawn", "()I"⟩ ⟨"LeftUndoes", "drawn", "()I"⟩) ∈ lw_all := lw_g (lw_at lw_ms 46 rfl) rfl
theorem qs47 : (Cond.selects "LeftUndoes" ⟨"LeftUndoes", "drawnAll", "()I"⟩ ⟨"LeftUndoes", "drawnAll", "()I"⟩) ∈ lw_all := lw_g (lw_at lw_ms 47 rfl) rfl
theorem qs48 : (Cond.selects "LeftUndoes" ⟨"LeftUndoes", "isRow", "(II)Z"⟩ ⟨"LeftUndoes", "isRow", "(II)Z"⟩) ∈ lw_all := lw_g (lw_at lw_ms 48 rfl) rfl
theorem qs49 : (Cond.selects "LeftUndoes" ⟨"LeftUndoes", "isAct", "(I)Z"⟩ ⟨"LeftUndoes", "isAct", "(I)Z"⟩) ∈ lw_all := lw_g (lw_at lw_ms 49 rfl) rfl
theorem qs50 : (Cond.selects "LeftUndoes" ⟨"LeftUndoes", "must", "(ZI)V"⟩ ⟨"LeftUndoes", "must", "(ZI)V"⟩) ∈ lw_all := lw_g (lw_at lw_ms 50 rfl) rfl
theorem qs51 : (Cond.selects "LeftUndoes" ⟨"LeftUndoes", "itemOf", "(Ljava/lang/Object;II)I"⟩ ⟨"LeftUndoes", "itemOf", "(Ljava/lang/Object;II)I"⟩) ∈ lw_all := lw_g (lw_at lw_ms 51 rfl) rfl
theorem qs52 : (Cond.selects "LeftUndoes" ⟨"LeftUndoes", "held", "(I)Ljava/lang/Object;"⟩ ⟨"LeftUndoes", "held", "(I)Ljava/lang/Object;"⟩) ∈ lw_all := lw_g (lw_at lw_ms 52 rfl) rfl
theorem qs53 : (Cond.selects "LeftUndoes" ⟨"LeftUndoes", "loans", "()I"⟩ ⟨"LeftUndoes", "loans", "()I"⟩) ∈ lw_all := lw_g (lw_at lw_ms 53 rfl) rfl
theorem qs54 : (Cond.selects "LeftUndoesModel" ⟨"LeftUndoesModel", "isPerson", "(I)Z"⟩ ⟨"LeftUndoesModel", "isPerson", "(I)Z"⟩) ∈ lw_all := lw_g (lw_at lw_ms 54 rfl) rfl
theorem qs55 : (Cond.selects "LeftUndoesModel" ⟨"LeftUndoesModel", "its", "(II)I"⟩ ⟨"LeftUndoesModel", "its", "(II)I"⟩) ∈ lw_all := lw_g (lw_at lw_ms 55 rfl) rfl
theorem qs56 : (Cond.selects "LeftUndoesModel" ⟨"LeftUndoesModel", "standWeight", "(I)I"⟩ ⟨"LeftUndoesModel", "standWeight", "(I)I"⟩) ∈ lw_all := lw_g (lw_at lw_ms 56 rfl) rfl
theorem qs57 : (Cond.selects "LeftUndoesModel" ⟨"LeftUndoesModel", "deedIs", "(II)I"⟩ ⟨"LeftUndoesModel", "deedIs", "(II)I"⟩) ∈ lw_all := lw_g (lw_at lw_ms 57 rfl) rfl
theorem qs58 : (Cond.selects "LeftUndoesModel" ⟨"LeftUndoesModel", "pulls", "(I)I"⟩ ⟨"LeftUndoesModel", "pulls", "(I)I"⟩) ∈ lw_all := lw_g (lw_at lw_ms 58 rfl) rfl
theorem qs59 : (Cond.selects "LeftUndoesModel" ⟨"LeftUndoesModel", "choice", "(I)I"⟩ ⟨"LeftUndoesModel", "choice", "(I)I"⟩) ∈ lw_all := lw_g (lw_at lw_ms 59 rfl) rfl
theorem qs60 : (Cond.selects "LeftUndoesModel" ⟨"LeftUndoesModel", "isSo", "(III)Z"⟩ ⟨"LeftUndoesModel", "isSo", "(III)Z"⟩) ∈ lw_all := lw_g (lw_at lw_ms 60 rfl) rfl
theorem qs61 : (Cond.selects "LeftUndoesModel" ⟨"LeftUndoesModel", "fact", "(II)I"⟩ ⟨"LeftUndoesModel", "fact", "(II)I"⟩) ∈ lw_all := lw_g (lw_at lw_ms 61 rfl) rfl
theorem qs62 : (Cond.selects "LeftUndoesModel" ⟨"LeftUndoesModel", "due", "(I)I"⟩ ⟨"LeftUndoesModel", "due", "(I)I"⟩) ∈ lw_all := lw_g (lw_at lw_ms 62 rfl) rfl
theorem qs63 : (Cond.selects "LeftUndoesModel" ⟨"LeftUndoesModel", "becomes", "(II)I"⟩ ⟨"LeftUndoesModel", "becomes", "(II)I"⟩) ∈ lw_all := lw_g (lw_at lw_ms 63 rfl) rfl
theorem qs64 : (Cond.selects "LeftUndoesModel" ⟨"LeftUndoesModel", "isDeed", "(I)Z"⟩ ⟨"LeftUndoesModel", "isDeed", "(I)Z"⟩) ∈ lw_all := lw_g (lw_at lw_ms 64 rfl) rfl
theorem qs65 : (Cond.selects "LeftUndoesModel" ⟨"LeftUndoesModel", "isOver", "()Z"⟩ ⟨"LeftUndoesModel", "isOver", "()Z"⟩) ∈ lw_all := lw_g (lw_at lw_ms 65 rfl) rfl
theorem qs66 : (Cond.selects "LeftUndoesModel" ⟨"LeftUndoesModel", "goes", "(I)I"⟩ ⟨"LeftUndoesModel", "goes", "(I)I"⟩) ∈ lw_all := lw_g (lw_at lw_ms 66 rfl) rfl
theorem qs67 : (Cond.selects "LeftUndoesModel" ⟨"LeftUndoesModel", "undo", "(I)V"⟩ ⟨"LeftUndoesModel", "undo", "(I)V"⟩) ∈ lw_all := lw_g (lw_at lw_ms 67 rfl) rfl
theorem qs68 : (Cond.selects "LeftUndoesModel" ⟨"LeftUndoesModel", "those", "(I)I"⟩ ⟨"LeftUndoesModel", "those", "(I)I"⟩) ∈ lw_all := lw_g (lw_at lw_ms 68 rfl) rfl
theorem qs69 : (Cond.selects "LeftUndoesModel" ⟨"LeftUndoesModel", "puts", "()V"⟩ ⟨"LeftUndoesModel", "puts", "()V"⟩) ∈ lw_all := lw_g (lw_at lw_ms 69 rfl) rfl
theorem qs70 : (Cond.selects "LeftUndoesModel" ⟨"LeftUndoesModel", "rest", "(I)I"⟩ ⟨"LeftUndoesModel", "rest", "(I)I"⟩) ∈ lw_all := lw_g (lw_at lw_ms 70 rfl) rfl
theorem qs71 : (Cond.selects "LeftUndoesModel" ⟨"LeftUndoesModel", "putsBack", "()V"⟩ ⟨"LeftUndoesModel", "putsBack", "()V"⟩) ∈ lw_all := lw_g (lw_at lw_ms 71 rfl) rfl
theorem qs72 : (Cond.selects "LeftUndoesModel" ⟨"LeftUndoesModel", "isGone", "(I)Z"⟩ ⟨"LeftUndoesModel", "isGone", "(I)Z"⟩) ∈ lw_all := lw_g (lw_at lw_ms 72 rfl) rfl
theorem qs73 : (Cond.selects "LeftUndoesModel" ⟨"LeftUndoesModel", "late", "()I"⟩ ⟨"LeftUndoesModel", "late", "()I"⟩) ∈ lw_all := lw_g (lw_at lw_ms 73 rfl) rfl
theorem qs74 : (Cond.selects "LeftUndoesModel" ⟨"LeftUndoesModel", "areTwo", "(II)Z"⟩ ⟨"LeftUndoesModel", "areTwo", "(II)Z"⟩) ∈ lw_all := lw_g (lw_at lw_ms 74 rfl) rfl
theorem qs75 : (Cond.selects "LeftUndoesModel" ⟨"LeftUndoesModel", "netOf", "(I)I"⟩ ⟨"LeftUndoesModel", "netOf", "(I)I"⟩) ∈ lw_all := lw_g (lw_at lw_ms 75 rfl) rfl
theorem qs76 : (Cond.selects "LeftUndoesModel" ⟨"LeftUndoesModel", "owedBy", "(I)I"⟩ ⟨"LeftUndoesModel", "owedBy", "(I)I"⟩) ∈ lw_all := lw_g (lw_at lw_ms 76 rfl) rfl
theorem qs77 : (Cond.selects "LeftUndoesModel" ⟨"LeftUndoesModel", "plansOf", "(II)I"⟩ ⟨"LeftUndoesModel", "plansOf", "(II)I"⟩) ∈ lw_all := lw_g (lw_at lw_ms 77 rfl) rfl
theorem qs78 : (Cond.selects "LeftUndoesModel" ⟨"LeftUndoesModel", "yearsOf", "(I)I"⟩ ⟨"LeftUndoesModel", "yearsOf", "(I)I"⟩) ∈ lw_all := lw_g (lw_at lw_ms 78 rfl) rfl
theorem qs79 : (Cond.selects "LeftUndoesModel" ⟨"LeftUndoesModel", "plans", "(III)V"⟩ ⟨"LeftUndoesModel", "plans", "(III)V"⟩) ∈ lw_all := lw_g (lw_at lw_ms 79 rfl) rfl
theorem qs80 : (Cond.selects "LeftUndoesModel" ⟨"LeftUndoesModel", "ended", "(II)V"⟩ ⟨"LeftUndoesModel", "ended", "(II)V"⟩) ∈ lw_all := lw_g (lw_at lw_ms 80 rfl) rfl
theorem qs81 : (Cond.selects "LeftUndoesModel" ⟨"LeftUndoesModel", "saves", "(I)V"⟩ ⟨"LeftUndoesModel", "saves", "(I)V"⟩) ∈ lw_all := lw_g (lw_at lw_ms 81 rfl) rfl
theorem qs82 : (Cond.selects "LeftUndoesModel" ⟨"LeftUndoesModel", "takesBack", "(I)V"⟩ ⟨"LeftUndoesModel", "takesBack", "(I)V"⟩) ∈ lw_all := lw_g (lw_at lw_ms 82 rfl) rfl
theorem qs83 : (Cond.selects "LeftUndoesModel" ⟨"LeftUndoesModel", "areDeeds", "(I)Z"⟩ ⟨"LeftUndoesModel", "areDeeds", "(I)Z"⟩) ∈ lw_all := lw_g (lw_at lw_ms 83 rfl) rfl
theorem qs84 : (Cond.selects "LeftUndoesModel" ⟨"LeftUndoesModel", "played", "(IIZ)I"⟩ ⟨"LeftUndoesModel", "played", "(IIZ)I"⟩) ∈ lw_all := lw_g (lw_at lw_ms 84 rfl) rfl
theorem qs85 : (Cond.selects "LeftUndoesModel" ⟨"LeftUndoesModel", "findFits", "(I)V"⟩ ⟨"LeftUndoesModel", "findFits", "(I)V"⟩) ∈ lw_all := lw_g (lw_at lw_ms 85 rfl) rfl
theorem qs86 : (Cond.selects "LeftUndoesModel" ⟨"LeftUndoesModel", "isFit", "(IIII)Z"⟩ ⟨"LeftUndoesModel", "isFit", "(IIII)Z"⟩) ∈ lw_all := lw_g (lw_at lw_ms 86 rfl) rfl
theorem qs87 : (Cond.selects "LeftUndoesModel" ⟨"LeftUndoesModel", "isSoBy", "(IIII)Z"⟩ ⟨"LeftUndoesModel", "isSoBy", "(IIII)Z"⟩) ∈ lw_all := lw_g (lw_at lw_ms 87 rfl) rfl
theorem qs88 : (Cond.selects "LeftUndoesModel" ⟨"LeftUndoesModel", "byLot", "()I"⟩ ⟨"LeftUndoesModel", "byLot", "()I"⟩) ∈ lw_all := lw_g (lw_at lw_ms 88 rfl) rfl
theorem qs89 : (Cond.selects "LeftUndoesModel" ⟨"LeftUndoesModel", "isRow", "(II)Z"⟩ ⟨"LeftUndoesModel", "isRow", "(II)Z"⟩) ∈ lw_all := lw_g (lw_at lw_ms 89 rfl) rfl
theorem qs90 : (Cond.selects "LeftUndoesModel" ⟨"LeftUndoesModel", "isAct", "(I)Z"⟩ ⟨"LeftUndoesModel", "isAct", "(I)Z"⟩) ∈ lw_all := lw_g (lw_at lw_ms 90 rfl) rfl
theorem qs91 : (Cond.selects "LeftUndoesModel" ⟨"LeftUndoesModel", "token", "()V"⟩ ⟨"LeftUndoesModel", "token", "()V"⟩) ∈ lw_all := lw_g (lw_at lw_ms 91 rfl) rfl
theorem qs92 : (Cond.selects "LeftUndoesModel" ⟨"LeftUndoesModel", "byteAt", "(I)I"⟩ ⟨"LeftUndoesModel", "byteAt", "(I)I"⟩) ∈ lw_all := lw_g (lw_at lw_ms 92 rfl) rfl
theorem qs93 : (Cond.selects "LeftUndoesModel" ⟨"LeftUndoesModel", "rule", "()V"⟩ ⟨"LeftUndoesModel", "rule", "()V"⟩) ∈ lw_all := lw_g (lw_at lw_ms 93 rfl) rfl
theorem qs94 : (Cond.selects "LeftUndoesModel" ⟨"LeftUndoesModel", "kindHere", "()I"⟩ ⟨"LeftUndoesModel", "kindHere", "()I"⟩) ∈ lw_all := lw_g (lw_at lw_ms 94 rfl) rfl
theorem qs95 : (Cond.selects "LeftUndoesModel" ⟨"LeftUndoesModel", "word", "()J"⟩ ⟨"LeftUndoesModel", "word", "()J"⟩) ∈ lw_all := lw_g (lw_at lw_ms 95 rfl) rfl
theorem qs96 : (Cond.selects "LeftUndoesModel" ⟨"LeftUndoesModel", "wants", "(Z)V"⟩ ⟨"LeftUndoesModel", "wants", "(Z)V"⟩) ∈ lw_all := lw_g (lw_at lw_ms 96 rfl) rfl
theorem qs97 : (Cond.selects "LeftUndoesModel" ⟨"LeftUndoesModel", "condition", "()V"⟩ ⟨"LeftUndoesModel", "condition", "()V"⟩) ∈ lw_all := lw_g (lw_at lw_ms 97 rfl) rfl
theorem qs98 : (Cond.selects "LeftUndoesModel" ⟨"LeftUndoesModel", "all", "()V"⟩ ⟨"LeftUndoesModel", "all", "()V"⟩) ∈ lw_all := lw_g (lw_at lw_ms 98 rfl) rfl
theorem qs99 : (Cond.selects "LeftUndoesModel" ⟨"LeftUndoesModel", "one", "()V"⟩ ⟨"LeftUndoesModel", "one", "()V"⟩) ∈ lw_all := lw_g (lw_at lw_ms 99 rfl) rfl
theorem qs100 : (Cond.selects "LeftUndoesModel" ⟨"LeftUndoesModel", "comparison", "()V"⟩ ⟨"LeftUndoesModel", "comparison", "()V"⟩) ∈ lw_all := lw_g (lw_at lw_ms 100 rfl) rfl
theorem qs101 : (Cond.selects "LeftUndoesModel" ⟨"LeftUndoesModel", "valueHere", "()V"⟩ ⟨"LeftUndoesModel", "valueHere", "()V"⟩) ∈ lw_all := lw_g (lw_at lw_ms 101 rfl) rfl
theorem qs102 : (Cond.selects "LeftUndoesModel" ⟨"LeftUndoesModel", "factHere", "()I"⟩ ⟨"LeftUndoesModel", "factHere", "()I"⟩) ∈ lw_all := lw_g (lw_at lw_ms 102 rfl) rfl
theorem qs103 : (Cond.selects "LeftUndoesModel" ⟨"LeftUndoesModel", "writes", "(I)V"⟩ ⟨"LeftUndoesModel", "writes", "(I)V"⟩) ∈ lw_all := lw_g (lw_at lw_ms 103 rfl) rfl
theorem qs104 : (Cond.selects "LeftUndoesModel" ⟨"LeftUndoesModel", "number", "(I)V"⟩ ⟨"LeftUndoesModel", "number", "(I)V"⟩) ∈ lw_all := lw_g (lw_at lw_ms 104 rfl) rfl
theorem qs105 : (Cond.selects "LeftUndoesModel" ⟨"LeftUndoesModel", "whyNot", "(II)I"⟩ ⟨"LeftUndoesModel", "whyNot", "(II)I"⟩) ∈ lw_all := lw_g (lw_at lw_ms 105 rfl) rfl
theorem qs106 : (Cond.selects "LeftUndoesModel" ⟨"LeftUndoesModel", "isSpan", "(II)Z"⟩ ⟨"LeftUndoesModel", "isSpan", "(II)Z"⟩) ∈ lw_all := lw_g (lw_at lw_ms 106 rfl) rfl
theorem qs107 : (Cond.selects "LeftUndoesModel" ⟨"LeftUndoesModel", "isItem", "(IJ)Z"⟩ ⟨"LeftUndoesModel", "isItem", "(IJ)Z"⟩) ∈ lw_all := lw_g (lw_at lw_ms 107 rfl) rfl
theorem qs108 : (Cond.selects "LeftUndoesModel" ⟨"LeftUndoesModel", "onShelf", "(I)I"⟩ ⟨"LeftUndoesModel", "onShelf", "(I)I"⟩) ∈ lw_all := lw_g (lw_at lw_ms 108 rfl) rfl
theorem qs109 : (Cond.selects "LeftUndoesModel" ⟨"LeftUndoesModel", "gives", "(I)I"⟩ ⟨"LeftUndoesModel", "gives", "(I)I"⟩) ∈ lw_all := lw_g (lw_at lw_ms 109 rfl) rfl
theorem qs110 : (Cond.selects "LeftUndoesModel" ⟨"LeftUndoesModel", "runs", "(I)V"⟩ ⟨"LeftUndoesModel", "runs", "(I)V"⟩) ∈ lw_all := lw_g (lw_at lw_ms 110 rfl) rfl
theorem qs111 : (Cond.selects "LeftUndoesModel" ⟨"LeftUndoesModel", "takes", "(I)I"⟩ ⟨"LeftUndoesModel", "takes", "(I)I"⟩) ∈ lw_all := lw_g (lw_at lw_ms 111 rfl) rfl
theorem qs112 : (Cond.selects "LeftUndoesModel" ⟨"LeftUndoesModel", "splits", "(I)I"⟩ ⟨"LeftUndoesModel", "splits", "(I)I"⟩) ∈ lw_all := lw_g (lw_at lw_ms 112 rfl) rfl
theorem qs113 : (Cond.selects "LeftUndoesModel" ⟨"LeftUndoesModel", "plainSplits", "(I)I"⟩ ⟨"LeftUndoesModel", "plainSplits", "(I)I"⟩) ∈ lw_all := lw_g (lw_at lw_ms 113 rfl) rfl
theorem qs114 : (Cond.selects "LeftUndoesModel" ⟨"LeftUndoesModel", "swears", "(I)I"⟩ ⟨"LeftUndoesModel", "swears", "(I)I"⟩) ∈ lw_all := lw_g (lw_at lw_ms 114 rfl) rfl
theorem qs115 : (Cond.selects "LeftUndoesModel" ⟨"LeftUndoesModel", "traced", "()I"⟩ ⟨"LeftUndoesModel", "traced", "()I"⟩) ∈ lw_all := lw_g (lw_at lw_ms 115 rfl) rfl
theorem qs116 : (Cond.selects "LeftUndoesModel" ⟨"LeftUndoesModel", "loans", "()I"⟩ ⟨"LeftUndoesModel", "loans", "()I"⟩) ∈ lw_all := lw_g (lw_at lw_ms 116 rfl) rfl
