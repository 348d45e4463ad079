-- ===== PART A: goes FIRST, ahead of the names: the tables' words, and 'selects' of the private methods out of them =====
/-- a private method of a class that the tables say can be made, by its rows of tables_1 -/
def lw_okq (q : MethodName × Nat) : Prop := (q.1.cls ≠ "java/lang/invoke/MethodHandle" ∧ q.1.cls ≠ "java/lang/invoke/VarHandle") ∧ Cond.instantiable q.1.cls q.2 ∈ tables_1 ∧ Cond.privateMethod q.1 ∈ tables_1 ∧ Cond.instanceMethod q.1 ∈ tables_1
set_option maxRecDepth 100000
theorem lw_t1 {w : Cond} (h : w ∈ tables_1_1) : w ∈ tables_1 := List.mem_append_left _ h
theorem lw_t2 {w : Cond} (h : w ∈ tables_1_2) : w ∈ tables_1 := List.mem_append_right _ (List.mem_append_left _ h)
theorem lw_t3 {w : Cond} (h : w ∈ tables_1_3) : w ∈ tables_1 := List.mem_append_right _ (List.mem_append_right _ (List.mem_append_left _ h))
theorem lw_t4 {w : Cond} (h : w ∈ tables_1_4) : w ∈ tables_1 := List.mem_append_right _ (List.mem_append_right _ (List.mem_append_right _ (List.mem_append_left _ h)))
theorem lw_t5 {w : Cond} (h : w ∈ tables_1_5) : w ∈ tables_1 := List.mem_append_right _ (List.mem_append_right _ (List.mem_append_right _ (List.mem_append_right _ (List.mem_append_left _ h))))
theorem lw_t6 {w : Cond} (h : w ∈ tables_1_6) : w ∈ tables_1 := List.mem_append_right _ (List.mem_append_right _ (List.mem_append_right _ (List.mem_append_right _ (List.mem_append_right _ (List.mem_append_left _ h)))))
theorem lw_t7 {w : Cond} (h : w ∈ tables_1_7) : w ∈ tables_1 := List.mem_append_right _ (List.mem_append_right _ (List.mem_append_right _ (List.mem_append_right _ (List.mem_append_right _ (List.mem_append_right _ (List.mem_append_left _ h))))))
theorem lw_t8 {w : Cond} (h : w ∈ tables_1_8) : w ∈ tables_1 := List.mem_append_right _ (List.mem_append_right _ (List.mem_append_right _ (List.mem_append_right _ (List.mem_append_right _ (List.mem_append_right _ (List.mem_append_right _ (List.mem_append_left _ h)))))))
theorem lw_t9 {w : Cond} (h : w ∈ tables_1_9) : w ∈ tables_1 := List.mem_append_right _ (List.mem_append_right _ (List.mem_append_right _ (List.mem_append_right _ (List.mem_append_right _ (List.mem_append_right _ (List.mem_append_right _ (List.mem_append_right _ (List.mem_append_left _ h))))))))
theorem lw_t10 {w : Cond} (h : w ∈ tables_1_10) : w ∈ tables_1 := List.mem_append_right _ (List.mem_append_right _ (List.mem_append_right _ (List.mem_append_right _ (List.mem_append_right _ (List.mem_append_right _ (List.mem_append_right _ (List.mem_append_right _ (List.mem_append_right _ h))))))))
theorem lw_p0 : lw_okq (⟨"java/lang/Throwable", "fillInStackTrace", "(I)Ljava/lang/Throwable;"⟩, 6) := ⟨⟨by decide +kernel, by decide +kernel⟩, lw_t1 (List.mem_of_getElem? (i := 117) rfl), lw_t1 (List.mem_of_getElem? (i := 115) rfl), lw_t1 (List.mem_of_getElem? (i := 116) rfl)⟩
theorem lw_p1 : lw_okq (⟨"BlackoutStart$State", "first", "(I)I"⟩, 26) := ⟨⟨by decide +kernel, by decide +kernel⟩, lw_t1 (List.mem_of_getElem? (i := 50) rfl), lw_t4 (List.mem_of_getElem? (i := 20) rfl), lw_t4 (List.mem_of_getElem? (i := 21) rfl)⟩
theorem lw_p2 : lw_okq (⟨"BlackoutStart$State", "isAhead", "(II)Z"⟩, 26) := ⟨⟨by decide +kernel, by decide +kernel⟩, lw_t1 (List.mem_of_getElem? (i := 50) rfl), lw_t4 (List.mem_of_getElem? (i := 24) rfl), lw_t4 (List.mem_of_getElem? (i := 25) rfl)⟩
theorem lw_p3 : lw_okq (⟨"BlackoutStart", "change", "()LBlackoutStart$State;"⟩, 7) := ⟨⟨by decide +kernel, by decide +kernel⟩, lw_t1 (List.mem_of_getElem? (i := 42) rfl), lw_t4 (List.mem_of_getElem? (i := 41) rfl), lw_t4 (List.mem_of_getElem? (i := 42) rfl)⟩
theorem lw_p4 : lw_okq (⟨"java/util/ArrayDeque", "grow", "(I)V"⟩, 3) := ⟨⟨by decide +kernel, by decide +kernel⟩, lw_t3 (List.mem_of_getElem? (i := 170) rfl), lw_t4 (List.mem_of_getElem? (i := 91) rfl), lw_t4 (List.mem_of_getElem? (i := 92) rfl)⟩
theorem lw_p5 : lw_okq (⟨"java/util/ArrayDeque", "newCapacity", "(II)I"⟩, 3) := ⟨⟨by decide +kernel, by decide +kernel⟩, lw_t3 (List.mem_of_getElem? (i := 170) rfl), lw_t4 (List.mem_of_getElem? (i := 96) rfl), lw_t4 (List.mem_of_getElem? (i := 97) rfl)⟩
theorem lw_p6 : lw_okq (⟨"BlackoutStart", "put", "(I)V"⟩, 7) := ⟨⟨by decide +kernel, by decide +kernel⟩, lw_t1 (List.mem_of_getElem? (i := 42) rfl), lw_t4 (List.mem_of_getElem? (i := 199) rfl), lw_t4 (List.mem_of_getElem? (i := 200) rfl)⟩
theorem lw_p7 : lw_okq (⟨"BlackoutStart$Parser", "all", "()V"⟩, 7) := ⟨⟨by decide +kernel, by decide +kernel⟩, lw_t5 (List.mem_of_getElem? (i := 19) rfl), lw_t5 (List.mem_of_getElem? (i := 55) rfl), lw_t5 (List.mem_of_getElem? (i := 56) rfl)⟩
theorem lw_p8 : lw_okq (⟨"BlackoutStart$Parser", "takes", "(Ljava/lang/String;)Z"⟩, 7) := ⟨⟨by decide +kernel, by decide +kernel⟩, lw_t5 (List.mem_of_getElem? (i := 19) rfl), lw_t5 (List.mem_of_getElem? (i := 60) rfl), lw_t5 (List.mem_of_getElem? (i := 61) rfl)⟩
theorem lw_p9 : lw_okq (⟨"BlackoutStart$Parser", "word", "()Ljava/lang/String;"⟩, 7) := ⟨⟨by decide +kernel, by decide +kernel⟩, lw_t5 (List.mem_of_getElem? (i := 19) rfl), lw_t5 (List.mem_of_getElem? (i := 64) rfl), lw_t5 (List.mem_of_getElem? (i := 65) rfl)⟩
theorem lw_p10 : lw_okq (⟨"BlackoutStart$Parser", "peek", "()I"⟩, 7) := ⟨⟨by decide +kernel, by decide +kernel⟩, lw_t5 (List.mem_of_getElem? (i := 19) rfl), lw_t5 (List.mem_of_getElem? (i := 68) rfl), lw_t5 (List.mem_of_getElem? (i := 69) rfl)⟩
theorem lw_p11 : lw_okq (⟨"BlackoutStart$Parser", "expect", "(Z)V"⟩, 7) := ⟨⟨by decide +kernel, by decide +kernel⟩, lw_t5 (List.mem_of_getElem? (i := 19) rfl), lw_t5 (List.mem_of_getElem? (i := 109) rfl), lw_t5 (List.mem_of_getElem? (i := 110) rfl)⟩
theorem lw_p12 : lw_okq (⟨"BlackoutStart$Parser", "number", "(II)I"⟩, 7) := ⟨⟨by decide +kernel, by decide +kernel⟩, lw_t5 (List.mem_of_getElem? (i := 19) rfl), lw_t5 (List.mem_of_getElem? (i := 141) rfl), lw_t5 (List.mem_of_getElem? (i := 142) rfl)⟩
theorem lw_p13 : lw_okq (⟨"BlackoutStart$Parser", "require", "(ZI)V"⟩, 7) := ⟨⟨by decide +kernel, by decide +kernel⟩, lw_t5 (List.mem_of_getElem? (i := 19) rfl), lw_t5 (List.mem_of_getElem? (i := 147) rfl), lw_t5 (List.mem_of_getElem? (i := 148) rfl)⟩
theorem lw_p14 : lw_okq (⟨"BlackoutStart$Parser", "end", "()V"⟩, 7) := ⟨⟨by decide +kernel, by decide +kernel⟩, lw_t5 (List.mem_of_getElem? (i := 19) rfl), lw_t5 (List.mem_of_getElem? (i := 167) rfl), lw_t5 (List.mem_of_getElem? (i := 168) rfl)⟩
theorem lw_p15 : lw_okq (⟨"BlackoutStart$Parser", "outlet", "(Ljava/lang/String;)V"⟩, 7) := ⟨⟨by decide +kernel, by decide +kernel⟩, lw_t5 (List.mem_of_getElem? (i := 19) rfl), lw_t5 (List.mem_of_getElem? (i := 172) rfl), lw_t5 (List.mem_of_getElem? (i := 173) rfl)⟩
def lw_privs_1 : List (MethodName × Nat) := [(⟨"java/lang/Throwable", "fillInStackTrace", "(I)Ljava/lang/Throwable;"⟩, 6), (⟨"BlackoutStart$State", "first", "(I)I"⟩, 26), (⟨"BlackoutStart$State", "isAhead", "(II)Z"⟩, 26), (⟨"BlackoutStart", "change", "()LBlackoutStart$State;"⟩, 7), (⟨"java/util/ArrayDeque", "grow", "(I)V"⟩, 3), (⟨"java/util/ArrayDeque", "newCapacity", "(II)I"⟩, 3), (⟨"BlackoutStart", "put", "(I)V"⟩, 7), (⟨"BlackoutStart$Parser", "all", "()V"⟩, 7), (⟨"BlackoutStart$Parser", "takes", "(Ljava/lang/String;)Z"⟩, 7), (⟨"BlackoutStart$Parser", "word", "()Ljava/lang/String;"⟩, 7), (⟨"BlackoutStart$Parser", "peek", "()I"⟩, 7), (⟨"BlackoutStart$Parser", "expect", "(Z)V"⟩, 7), (⟨"BlackoutStart$Parser", "number", "(II)I"⟩, 7), (⟨"BlackoutStart$Parser", "require", "(ZI)V"⟩, 7), (⟨"BlackoutStart$Parser", "end", "()V"⟩, 7), (⟨"BlackoutStart$Parser", "outlet", "(Ljava/lang/String;)V"⟩, 7)]
theorem lw_r1 : ∀ q ∈ lw_privs_1, lw_okq q := List.forall_mem_cons.mpr ⟨lw_p0, List.forall_mem_cons.mpr ⟨lw_p1, List.forall_mem_cons.mpr ⟨lw_p2, List.forall_mem_cons.mpr ⟨lw_p3, List.forall_mem_cons.mpr ⟨lw_p4, List.forall_mem_cons.mpr ⟨lw_p5, List.forall_mem_cons.mpr ⟨lw_p6, List.forall_mem_cons.mpr ⟨lw_p7, List.forall_mem_cons.mpr ⟨lw_p8, List.forall_mem_cons.mpr ⟨lw_p9, List.forall_mem_cons.mpr ⟨lw_p10, List.forall_mem_cons.mpr ⟨lw_p11, List.forall_mem_cons.mpr ⟨lw_p12, List.forall_mem_cons.mpr ⟨lw_p13, List.forall_mem_cons.mpr ⟨lw_p14, List.forall_mem_cons.mpr ⟨lw_p15, fun _ h => absurd h List.not_mem_nil⟩⟩⟩⟩⟩⟩⟩⟩⟩⟩⟩⟩⟩⟩⟩⟩
theorem lw_p16 : lw_okq (⟨"BlackoutStart$Parser", "name", "()Ljava/lang/String;"⟩, 7) := ⟨⟨by decide +kernel, by decide +kernel⟩, lw_t5 (List.mem_of_getElem? (i := 19) rfl), lw_t5 (List.mem_of_getElem? (i := 177) rfl), lw_t5 (List.mem_of_getElem? (i := 178) rfl)⟩
theorem lw_p17 : lw_okq (⟨"java/util/ArrayList", "add", "(Ljava/lang/Object;[Ljava/lang/Object;I)V"⟩, 3) := ⟨⟨by decide +kernel, by decide +kernel⟩, lw_t1 (List.mem_of_getElem? (i := 58) rfl), lw_t5 (List.mem_of_getElem? (i := 236) rfl), lw_t5 (List.mem_of_getElem? (i := 237) rfl)⟩
theorem lw_p18 : lw_okq (⟨"java/util/ArrayList", "grow", "()[Ljava/lang/Object;"⟩, 3) := ⟨⟨by decide +kernel, by decide +kernel⟩, lw_t1 (List.mem_of_getElem? (i := 58) rfl), lw_t6 (List.mem_of_getElem? (i := 0) rfl), lw_t6 (List.mem_of_getElem? (i := 1) rfl)⟩
theorem lw_p19 : lw_okq (⟨"java/util/ArrayList", "grow", "(I)[Ljava/lang/Object;"⟩, 3) := ⟨⟨by decide +kernel, by decide +kernel⟩, lw_t1 (List.mem_of_getElem? (i := 58) rfl), lw_t6 (List.mem_of_getElem? (i := 4) rfl), lw_t6 (List.mem_of_getElem? (i := 5) rfl)⟩
theorem lw_p20 : lw_okq (⟨"BlackoutStart$Parser", "need", "(Ljava/lang/String;)V"⟩, 7) := ⟨⟨by decide +kernel, by decide +kernel⟩, lw_t5 (List.mem_of_getElem? (i := 19) rfl), lw_t6 (List.mem_of_getElem? (i := 14) rfl), lw_t6 (List.mem_of_getElem? (i := 15) rfl)⟩
theorem lw_p21 : lw_okq (⟨"BlackoutStart$Parser", "known", "()I"⟩, 7) := ⟨⟨by decide +kernel, by decide +kernel⟩, lw_t5 (List.mem_of_getElem? (i := 19) rfl), lw_t6 (List.mem_of_getElem? (i := 18) rfl), lw_t6 (List.mem_of_getElem? (i := 19) rfl)⟩
theorem lw_p22 : lw_okq (⟨"BlackoutStart$Parser", "passed", "(I)I"⟩, 7) := ⟨⟨by decide +kernel, by decide +kernel⟩, lw_t5 (List.mem_of_getElem? (i := 19) rfl), lw_t6 (List.mem_of_getElem? (i := 22) rfl), lw_t6 (List.mem_of_getElem? (i := 23) rfl)⟩
theorem lw_p23 : lw_okq (⟨"BlackoutStart$Parser", "rule", "(Ljava/lang/String;)Z"⟩, 7) := ⟨⟨by decide +kernel, by decide +kernel⟩, lw_t5 (List.mem_of_getElem? (i := 19) rfl), lw_t6 (List.mem_of_getElem? (i := 29) rfl), lw_t6 (List.mem_of_getElem? (i := 30) rfl)⟩
theorem lw_p24 : lw_okq (⟨"BlackoutStart$Parser", "once", "(Z)V"⟩, 7) := ⟨⟨by decide +kernel, by decide +kernel⟩, lw_t5 (List.mem_of_getElem? (i := 19) rfl), lw_t6 (List.mem_of_getElem? (i := 100) rfl), lw_t6 (List.mem_of_getElem? (i := 101) rfl)⟩
theorem lw_p25 : lw_okq (⟨"BlackoutStart$Parser", "script", "()[I"⟩, 7) := ⟨⟨by decide +kernel, by decide +kernel⟩, lw_t5 (List.mem_of_getElem? (i := 19) rfl), lw_t6 (List.mem_of_getElem? (i := 104) rfl), lw_t6 (List.mem_of_getElem? (i := 105) rfl)⟩
theorem lw_p26 : lw_okq (⟨"BlackoutStart", "outletAt", "(I)LBlackoutStart$Outlet;"⟩, 7) := ⟨⟨by decide +kernel, by decide +kernel⟩, lw_t1 (List.mem_of_getElem? (i := 42) rfl), lw_t6 (List.mem_of_getElem? (i := 220) rfl), lw_t6 (List.mem_of_getElem? (i := 221) rfl)⟩
theorem lw_p27 : lw_okq (⟨"BlackoutStart$State", "waits", "(I)V"⟩, 26) := ⟨⟨by decide +kernel, by decide +kernel⟩, lw_t1 (List.mem_of_getElem? (i := 50) rfl), lw_t7 (List.mem_of_getElem? (i := 143) rfl), lw_t7 (List.mem_of_getElem? (i := 144) rfl)⟩
theorem lw_p28 : lw_okq (⟨"BlackoutStart$State", "receives", "()V"⟩, 26) := ⟨⟨by decide +kernel, by decide +kernel⟩, lw_t1 (List.mem_of_getElem? (i := 50) rfl), lw_t7 (List.mem_of_getElem? (i := 148) rfl), lw_t7 (List.mem_of_getElem? (i := 149) rfl)⟩
theorem lw_p29 : lw_okq (⟨"BlackoutStart$State", "comes", "(III)V"⟩, 26) := ⟨⟨by decide +kernel, by decide +kernel⟩, lw_t1 (List.mem_of_getElem? (i := 50) rfl), lw_t7 (List.mem_of_getElem? (i := 152) rfl), lw_t7 (List.mem_of_getElem? (i := 153) rfl)⟩
theorem lw_p30 : lw_okq (⟨"BlackoutStart$State", "marks", "(II)V"⟩, 26) := ⟨⟨by decide +kernel, by decide +kernel⟩, lw_t1 (List.mem_of_getElem? (i := 50) rfl), lw_t7 (List.mem_of_getElem? (i := 156) rfl), lw_t7 (List.mem_of_getElem? (i := 157) rfl)⟩
theorem lw_p31 : lw_okq (⟨"BlackoutStart$State", "answers", "(II)V"⟩, 26) := ⟨⟨by decide +kernel, by decide +kernel⟩, lw_t1 (List.mem_of_getElem? (i := 50) rfl), lw_t7 (List.mem_of_getElem? (i := 160) rfl), lw_t7 (List.mem_of_getElem? (i := 161) rfl)⟩
def lw_privs_2 : List (MethodName × Nat) := [(⟨"BlackoutStart$Parser", "name", "()Ljava/lang/String;"⟩, 7), (⟨"java/util/ArrayList", "add", "(Ljava/lang/Object;[Ljava/lang/Object;I)V"⟩, 3), (⟨"java/util/ArrayList", "grow", "()[Ljava/lang/Object;"⟩, 3), (⟨"java/util/ArrayList", "grow", "(I)[Ljava/lang/Object;"⟩, 3), (⟨"BlackoutStart$Parser", "need", "(Ljava/lang/String;)V"⟩, 7), (⟨"BlackoutStart$Parser", "known", "()I"⟩, 7), (⟨"BlackoutStart$Parser", "passed", "(I)I"⟩, 7), (⟨"BlackoutStart$Parser", "rule", "(Ljava/lang/String;)Z"⟩, 7), (⟨"BlackoutStart$Parser", "once", "(Z)V"⟩, 7), (⟨"BlackoutStart$Parser", "script", "()[I"⟩, 7), (⟨"BlackoutStart", "outletAt", "(I)LBlackoutStart$Outlet;"⟩, 7), (⟨"BlackoutStart$State", "waits", "(I)V"⟩, 26), (⟨"BlackoutStart$State", "receives", "()V"⟩, 26), (⟨"BlackoutStart$State", "comes", "(III)V"⟩, 26), (⟨"BlackoutStart$State", "marks", "(II)V"⟩, 26), (⟨"BlackoutStart$State", "answers", "(II)V"⟩, 26)]
theorem lw_r2 : ∀ q ∈ lw_privs_2, lw_okq q := List.forall_mem_cons.mpr ⟨lw_p16, List.forall_mem_cons.mpr ⟨lw_p17, List.forall_mem_cons.mpr ⟨lw_p18, List.forall_mem_cons.mpr ⟨lw_p19, List.forall_mem_cons.mpr ⟨lw_p20, List.forall_mem_cons.mpr ⟨lw_p21, List.forall_mem_cons.mpr ⟨lw_p22, List.forall_mem_cons.mpr ⟨lw_p23, List.forall_mem_cons.mpr ⟨lw_p24, List.forall_mem_cons.mpr ⟨lw_p25, List.forall_mem_cons.mpr ⟨lw_p26, List.forall_mem_cons.mpr ⟨lw_p27, List.forall_mem_cons.mpr ⟨lw_p28, List.forall_mem_cons.mpr ⟨lw_p29, List.forall_mem_cons.mpr ⟨lw_p30, List.forall_mem_cons.mpr ⟨lw_p31, fun _ h => absurd h List.not_mem_nil⟩⟩⟩⟩⟩⟩⟩⟩⟩⟩⟩⟩⟩⟩⟩⟩
theorem lw_p32 : lw_okq (⟨"BlackoutStart$State", "acts", "(I)V"⟩, 26) := ⟨⟨by decide +kernel, by decide +kernel⟩, lw_t1 (List.mem_of_getElem? (i := 50) rfl), lw_t7 (List.mem_of_getElem? (i := 165) rfl), lw_t7 (List.mem_of_getElem? (i := 166) rfl)⟩
theorem lw_p33 : lw_okq (⟨"BlackoutStart$State", "polls", "()V"⟩, 26) := ⟨⟨by decide +kernel, by decide +kernel⟩, lw_t1 (List.mem_of_getElem? (i := 50) rfl), lw_t7 (List.mem_of_getElem? (i := 174) rfl), lw_t7 (List.mem_of_getElem? (i := 175) rfl)⟩
theorem lw_p34 : lw_okq (⟨"BlackoutStart$State", "grants", "()V"⟩, 26) := ⟨⟨by decide +kernel, by decide +kernel⟩, lw_t1 (List.mem_of_getElem? (i := 50) rfl), lw_t7 (List.mem_of_getElem? (i := 178) rfl), lw_t7 (List.mem_of_getElem? (i := 179) rfl)⟩
theorem lw_p35 : lw_okq (⟨"BlackoutStart$State", "measures", "()V"⟩, 26) := ⟨⟨by decide +kernel, by decide +kernel⟩, lw_t1 (List.mem_of_getElem? (i := 50) rfl), lw_t7 (List.mem_of_getElem? (i := 183) rfl), lw_t7 (List.mem_of_getElem? (i := 184) rfl)⟩
theorem lw_p36 : lw_okq (⟨"BlackoutStartModel", "clearsTold", "()V"⟩, 35) := ⟨⟨by decide +kernel, by decide +kernel⟩, lw_t8 (List.mem_of_getElem? (i := 56) rfl), lw_t8 (List.mem_of_getElem? (i := 62) rfl), lw_t8 (List.mem_of_getElem? (i := 63) rfl)⟩
theorem lw_p37 : lw_okq (⟨"BlackoutStartModel", "begins", "()V"⟩, 35) := ⟨⟨by decide +kernel, by decide +kernel⟩, lw_t8 (List.mem_of_getElem? (i := 56) rfl), lw_t8 (List.mem_of_getElem? (i := 66) rfl), lw_t8 (List.mem_of_getElem? (i := 67) rfl)⟩
theorem lw_p38 : lw_okq (⟨"BlackoutStartModel", "may", "(ZI)Z"⟩, 35) := ⟨⟨by decide +kernel, by decide +kernel⟩, lw_t8 (List.mem_of_getElem? (i := 56) rfl), lw_t8 (List.mem_of_getElem? (i := 188) rfl), lw_t8 (List.mem_of_getElem? (i := 189) rfl)⟩
theorem lw_p39 : lw_okq (⟨"BlackoutStartModel", "token", "()V"⟩, 35) := ⟨⟨by decide +kernel, by decide +kernel⟩, lw_t8 (List.mem_of_getElem? (i := 56) rfl), lw_t8 (List.mem_of_getElem? (i := 203) rfl), lw_t8 (List.mem_of_getElem? (i := 204) rfl)⟩
theorem lw_p40 : lw_okq (⟨"BlackoutStartModel", "byteAt", "(I)I"⟩, 35) := ⟨⟨by decide +kernel, by decide +kernel⟩, lw_t8 (List.mem_of_getElem? (i := 56) rfl), lw_t8 (List.mem_of_getElem? (i := 207) rfl), lw_t8 (List.mem_of_getElem? (i := 208) rfl)⟩
theorem lw_p41 : lw_okq (⟨"BlackoutStartModel", "isWord", "(Ljava/lang/String;)Z"⟩, 35) := ⟨⟨by decide +kernel, by decide +kernel⟩, lw_t8 (List.mem_of_getElem? (i := 56) rfl), lw_t8 (List.mem_of_getElem? (i := 218) rfl), lw_t8 (List.mem_of_getElem? (i := 219) rfl)⟩
theorem lw_p42 : lw_okq (⟨"BlackoutStartModel", "isWrong", "()Z"⟩, 35) := ⟨⟨by decide +kernel, by decide +kernel⟩, lw_t8 (List.mem_of_getElem? (i := 56) rfl), lw_t8 (List.mem_of_getElem? (i := 222) rfl), lw_t8 (List.mem_of_getElem? (i := 223) rfl)⟩
theorem lw_p43 : lw_okq (⟨"BlackoutStartModel", "passes", "(Z)V"⟩, 35) := ⟨⟨by decide +kernel, by decide +kernel⟩, lw_t8 (List.mem_of_getElem? (i := 56) rfl), lw_t8 (List.mem_of_getElem? (i := 238) rfl), lw_t8 (List.mem_of_getElem? (i := 239) rfl)⟩
theorem lw_p44 : lw_okq (⟨"BlackoutStartModel", "fails", "(I)V"⟩, 35) := ⟨⟨by decide +kernel, by decide +kernel⟩, lw_t8 (List.mem_of_getElem? (i := 56) rfl), lw_t9 (List.mem_of_getElem? (i := 2) rfl), lw_t9 (List.mem_of_getElem? (i := 3) rfl)⟩
theorem lw_p45 : lw_okq (⟨"BlackoutStartModel", "figure", "(II)I"⟩, 35) := ⟨⟨by decide +kernel, by decide +kernel⟩, lw_t8 (List.mem_of_getElem? (i := 56) rfl), lw_t9 (List.mem_of_getElem? (i := 6) rfl), lw_t9 (List.mem_of_getElem? (i := 7) rfl)⟩
theorem lw_p46 : lw_okq (⟨"BlackoutStartModel", "semicolon", "()V"⟩, 35) := ⟨⟨by decide +kernel, by decide +kernel⟩, lw_t8 (List.mem_of_getElem? (i := 56) rfl), lw_t9 (List.mem_of_getElem? (i := 10) rfl), lw_t9 (List.mem_of_getElem? (i := 11) rfl)⟩
theorem lw_p47 : lw_okq (⟨"BlackoutStartModel", "outletLine", "()V"⟩, 35) := ⟨⟨by decide +kernel, by decide +kernel⟩, lw_t8 (List.mem_of_getElem? (i := 56) rfl), lw_t9 (List.mem_of_getElem? (i := 15) rfl), lw_t9 (List.mem_of_getElem? (i := 16) rfl)⟩
def lw_privs_3 : List (MethodName × Nat) := [(⟨"BlackoutStart$State", "acts", "(I)V"⟩, 26), (⟨"BlackoutStart$State", "polls", "()V"⟩, 26), (⟨"BlackoutStart$State", "grants", "()V"⟩, 26), (⟨"BlackoutStart$State", "measures", "()V"⟩, 26), (⟨"BlackoutStartModel", "clearsTold", "()V"⟩, 35), (⟨"BlackoutStartModel", "begins", "()V"⟩, 35), (⟨"BlackoutStartModel", "may", "(ZI)Z"⟩, 35), (⟨"BlackoutStartModel", "token", "()V"⟩, 35), (⟨"BlackoutStartModel", "byteAt", "(I)I"⟩, 35), (⟨"BlackoutStartModel", "isWord", "(Ljava/lang/String;)Z"⟩, 35), (⟨"BlackoutStartModel", "isWrong", "()Z"⟩, 35), (⟨"BlackoutStartModel", "passes", "(Z)V"⟩, 35), (⟨"BlackoutStartModel", "fails", "(I)V"⟩, 35), (⟨"BlackoutStartModel", "figure", "(II)I"⟩, 35), (⟨"BlackoutStartModel", "semicolon", "()V"⟩, 35), (⟨"BlackoutStartModel", "outletLine", "()V"⟩, 35)]
theorem lw_r3 : ∀ q ∈ lw_privs_3, lw_okq q := List.forall_mem_cons.mpr ⟨lw_p32, List.forall_mem_cons.mpr ⟨lw_p33, List.forall_mem_cons.mpr ⟨lw_p34, List.forall_mem_cons.mpr ⟨lw_p35, List.forall_mem_cons.mpr ⟨lw_p36, List.forall_mem_cons.mpr ⟨lw_p37, List.forall_mem_cons.mpr ⟨lw_p38, List.forall_mem_cons.mpr ⟨lw_p39, List.forall_mem_cons.mpr ⟨lw_p40, List.forall_mem_cons.mpr ⟨lw_p41, List.forall_mem_cons.mpr ⟨lw_p42, List.forall_mem_cons.mpr ⟨lw_p43, List.forall_mem_cons.mpr ⟨lw_p44, List.forall_mem_cons.mpr ⟨lw_p45, List.forall_mem_cons.mpr ⟨lw_p46, List.forall_mem_cons.mpr ⟨lw_p47, fun _ h => absurd h List.not_mem_nil⟩⟩⟩⟩⟩⟩⟩⟩⟩⟩⟩⟩⟩⟩⟩⟩
theorem lw_p48 : lw_okq (⟨"BlackoutStartModel", "looksUp", "()I"⟩, 35) := ⟨⟨by decide +kernel, by decide +kernel⟩, lw_t8 (List.mem_of_getElem? (i := 56) rfl), lw_t9 (List.mem_of_getElem? (i := 19) rfl), lw_t9 (List.mem_of_getElem? (i := 20) rfl)⟩
theorem lw_p49 : lw_okq (⟨"BlackoutStartModel", "isName", "()Z"⟩, 35) := ⟨⟨by decide +kernel, by decide +kernel⟩, lw_t8 (List.mem_of_getElem? (i := 56) rfl), lw_t9 (List.mem_of_getElem? (i := 23) rfl), lw_t9 (List.mem_of_getElem? (i := 24) rfl)⟩
theorem lw_p50 : lw_okq (⟨"BlackoutStartModel", "needLine", "()V"⟩, 35) := ⟨⟨by decide +kernel, by decide +kernel⟩, lw_t8 (List.mem_of_getElem? (i := 56) rfl), lw_t9 (List.mem_of_getElem? (i := 31) rfl), lw_t9 (List.mem_of_getElem? (i := 32) rfl)⟩
theorem lw_p51 : lw_okq (⟨"BlackoutStartModel", "ruleLine", "()V"⟩, 35) := ⟨⟨by decide +kernel, by decide +kernel⟩, lw_t8 (List.mem_of_getElem? (i := 56) rfl), lw_t9 (List.mem_of_getElem? (i := 35) rfl), lw_t9 (List.mem_of_getElem? (i := 36) rfl)⟩
theorem lw_p52 : lw_okq (⟨"BlackoutStartModel", "once", "(I)V"⟩, 35) := ⟨⟨by decide +kernel, by decide +kernel⟩, lw_t8 (List.mem_of_getElem? (i := 56) rfl), lw_t9 (List.mem_of_getElem? (i := 40) rfl), lw_t9 (List.mem_of_getElem? (i := 41) rfl)⟩
theorem lw_p53 : lw_okq (⟨"BlackoutStartModel", "scriptHere", "()V"⟩, 35) := ⟨⟨by decide +kernel, by decide +kernel⟩, lw_t8 (List.mem_of_getElem? (i := 56) rfl), lw_t9 (List.mem_of_getElem? (i := 44) rfl), lw_t9 (List.mem_of_getElem? (i := 45) rfl)⟩
theorem lw_p54 : lw_okq (⟨"BlackoutStartModel", "isDark", "([I)Z"⟩, 35) := ⟨⟨by decide +kernel, by decide +kernel⟩, lw_t8 (List.mem_of_getElem? (i := 56) rfl), lw_t9 (List.mem_of_getElem? (i := 70) rfl), lw_t9 (List.mem_of_getElem? (i := 71) rfl)⟩
theorem lw_p55 : lw_okq (⟨"BlackoutStartModel", "isOutlet", "(I)Z"⟩, 35) := ⟨⟨by decide +kernel, by decide +kernel⟩, lw_t8 (List.mem_of_getElem? (i := 56) rfl), lw_t9 (List.mem_of_getElem? (i := 78) rfl), lw_t9 (List.mem_of_getElem? (i := 79) rfl)⟩
theorem lw_p56 : lw_okq (⟨"BlackoutStartModel", "expected", "([II)I"⟩, 35) := ⟨⟨by decide +kernel, by decide +kernel⟩, lw_t8 (List.mem_of_getElem? (i := 56) rfl), lw_t9 (List.mem_of_getElem? (i := 88) rfl), lw_t9 (List.mem_of_getElem? (i := 89) rfl)⟩
theorem lw_p57 : lw_okq (⟨"BlackoutStartModel", "peak", "(I)I"⟩, 35) := ⟨⟨by decide +kernel, by decide +kernel⟩, lw_t8 (List.mem_of_getElem? (i := 56) rfl), lw_t9 (List.mem_of_getElem? (i := 92) rfl), lw_t9 (List.mem_of_getElem? (i := 93) rfl)⟩
theorem lw_p58 : lw_okq (⟨"BlackoutStartModel", "inrush", "(I)I"⟩, 35) := ⟨⟨by decide +kernel, by decide +kernel⟩, lw_t8 (List.mem_of_getElem? (i := 56) rfl), lw_t9 (List.mem_of_getElem? (i := 96) rfl), lw_t9 (List.mem_of_getElem? (i := 97) rfl)⟩
theorem lw_p59 : lw_okq (⟨"BlackoutStartModel", "reserved", "([II)I"⟩, 35) := ⟨⟨by decide +kernel, by decide +kernel⟩, lw_t8 (List.mem_of_getElem? (i := 56) rfl), lw_t9 (List.mem_of_getElem? (i := 100) rfl), lw_t9 (List.mem_of_getElem? (i := 101) rfl)⟩
theorem lw_p60 : lw_okq (⟨"BlackoutStartModel", "steady", "(I)I"⟩, 35) := ⟨⟨by decide +kernel, by decide +kernel⟩, lw_t8 (List.mem_of_getElem? (i := 56) rfl), lw_t9 (List.mem_of_getElem? (i := 104) rfl), lw_t9 (List.mem_of_getElem? (i := 105) rfl)⟩
theorem lw_p61 : lw_okq (⟨"BlackoutStartModel", "placeOf", "([II)I"⟩, 35) := ⟨⟨by decide +kernel, by decide +kernel⟩, lw_t8 (List.mem_of_getElem? (i := 56) rfl), lw_t9 (List.mem_of_getElem? (i := 108) rfl), lw_t9 (List.mem_of_getElem? (i := 109) rfl)⟩
theorem lw_p62 : lw_okq (⟨"BlackoutStartModel", "withState", "([III)I"⟩, 35) := ⟨⟨by decide +kernel, by decide +kernel⟩, lw_t8 (List.mem_of_getElem? (i := 56) rfl), lw_t9 (List.mem_of_getElem? (i := 121) rfl), lw_t9 (List.mem_of_getElem? (i := 122) rfl)⟩
theorem lw_p63 : lw_okq (⟨"BlackoutStartModel", "rightsOf", "([I)I"⟩, 35) := ⟨⟨by decide +kernel, by decide +kernel⟩, lw_t8 (List.mem_of_getElem? (i := 56) rfl), lw_t9 (List.mem_of_getElem? (i := 129) rfl), lw_t9 (List.mem_of_getElem? (i := 130) rfl)⟩
def lw_privs_4 : List (MethodName × Nat) := [(⟨"BlackoutStartModel", "looksUp", "()I"⟩, 35), (⟨"BlackoutStartModel", "isName", "()Z"⟩, 35), (⟨"BlackoutStartModel", "needLine", "()V"⟩, 35), (⟨"BlackoutStartModel", "ruleLine", "()V"⟩, 35), (⟨"BlackoutStartModel", "once", "(I)V"⟩, 35), (⟨"BlackoutStartModel", "scriptHere", "()V"⟩, 35), (⟨"BlackoutStartModel", "isDark", "([I)Z"⟩, 35), (⟨"BlackoutStartModel", "isOutlet", "(I)Z"⟩, 35), (⟨"BlackoutStartModel", "expected", "([II)I"⟩, 35), (⟨"BlackoutStartModel", "peak", "(I)I"⟩, 35), (⟨"BlackoutStartModel", "inrush", "(I)I"⟩, 35), (⟨"BlackoutStartModel", "reserved", "([II)I"⟩, 35), (⟨"BlackoutStartModel", "steady", "(I)I"⟩, 35), (⟨"BlackoutStartModel", "placeOf", "([II)I"⟩, 35), (⟨"BlackoutStartModel", "withState", "([III)I"⟩, 35), (⟨"BlackoutStartModel", "rightsOf", "([I)I"⟩, 35)]
theorem lw_r4 : ∀ q ∈ lw_privs_4, lw_okq q := List.forall_mem_cons.mpr ⟨lw_p48, List.forall_mem_cons.mpr ⟨lw_p49, List.forall_mem_cons.mpr ⟨lw_p50, List.forall_mem_cons.mpr ⟨lw_p51, List.forall_mem_cons.mpr ⟨lw_p52, List.forall_mem_cons.mpr ⟨lw_p53, List.forall_mem_cons.mpr ⟨lw_p54, List.forall_mem_cons.mpr ⟨lw_p55, List.forall_mem_cons.mpr ⟨lw_p56, List.forall_mem_cons.mpr ⟨lw_p57, List.forall_mem_cons.mpr ⟨lw_p58, List.forall_mem_cons.mpr ⟨lw_p59, List.forall_mem_cons.mpr ⟨lw_p60, List.forall_mem_cons.mpr ⟨lw_p61, List.forall_mem_cons.mpr ⟨lw_p62, List.forall_mem_cons.mpr ⟨lw_p63, fun _ h => absurd h List.not_mem_nil⟩⟩⟩⟩⟩⟩⟩⟩⟩⟩⟩⟩⟩⟩⟩⟩
theorem lw_p64 : lw_okq (⟨"BlackoutStartModel", "drawn", "([I)I"⟩, 35) := ⟨⟨by decide +kernel, by decide +kernel⟩, lw_t8 (List.mem_of_getElem? (i := 56) rfl), lw_t9 (List.mem_of_getElem? (i := 138) rfl), lw_t9 (List.mem_of_getElem? (i := 139) rfl)⟩
theorem lw_p65 : lw_okq (⟨"BlackoutStartModel", "draw", "([II)I"⟩, 35) := ⟨⟨by decide +kernel, by decide +kernel⟩, lw_t8 (List.mem_of_getElem? (i := 56) rfl), lw_t9 (List.mem_of_getElem? (i := 142) rfl), lw_t9 (List.mem_of_getElem? (i := 143) rfl)⟩
theorem lw_p66 : lw_okq (⟨"BlackoutStartModel", "reservedAll", "([I)I"⟩, 35) := ⟨⟨by decide +kernel, by decide +kernel⟩, lw_t8 (List.mem_of_getElem? (i := 56) rfl), lw_t9 (List.mem_of_getElem? (i := 146) rfl), lw_t9 (List.mem_of_getElem? (i := 147) rfl)⟩
theorem lw_p67 : lw_okq (⟨"BlackoutStartModel", "grantsOf", "([IZ)I"⟩, 35) := ⟨⟨by decide +kernel, by decide +kernel⟩, lw_t8 (List.mem_of_getElem? (i := 56) rfl), lw_t9 (List.mem_of_getElem? (i := 170) rfl), lw_t9 (List.mem_of_getElem? (i := 171) rfl)⟩
theorem lw_p68 : lw_okq (⟨"BlackoutStartModel", "isAhead", "([III)Z"⟩, 35) := ⟨⟨by decide +kernel, by decide +kernel⟩, lw_t8 (List.mem_of_getElem? (i := 56) rfl), lw_t9 (List.mem_of_getElem? (i := 174) rfl), lw_t9 (List.mem_of_getElem? (i := 175) rfl)⟩
theorem lw_p69 : lw_okq (⟨"BlackoutStartModel", "lacks", "([II)Z"⟩, 35) := ⟨⟨by decide +kernel, by decide +kernel⟩, lw_t8 (List.mem_of_getElem? (i := 56) rfl), lw_t9 (List.mem_of_getElem? (i := 178) rfl), lw_t9 (List.mem_of_getElem? (i := 179) rfl)⟩
theorem lw_p70 : lw_okq (⟨"BlackoutStartModel", "sends", "([IIII)V"⟩, 35) := ⟨⟨by decide +kernel, by decide +kernel⟩, lw_t8 (List.mem_of_getElem? (i := 56) rfl), lw_t9 (List.mem_of_getElem? (i := 182) rfl), lw_t9 (List.mem_of_getElem? (i := 183) rfl)⟩
theorem lw_p71 : lw_okq (⟨"BlackoutStartModel", "marks", "([III)V"⟩, 35) := ⟨⟨by decide +kernel, by decide +kernel⟩, lw_t8 (List.mem_of_getElem? (i := 56) rfl), lw_t9 (List.mem_of_getElem? (i := 186) rfl), lw_t9 (List.mem_of_getElem? (i := 187) rfl)⟩
theorem lw_p72 : lw_okq (⟨"BlackoutStartModel", "laysThen", "()V"⟩, 35) := ⟨⟨by decide +kernel, by decide +kernel⟩, lw_t8 (List.mem_of_getElem? (i := 56) rfl), lw_t9 (List.mem_of_getElem? (i := 198) rfl), lw_t9 (List.mem_of_getElem? (i := 199) rfl)⟩
theorem lw_p73 : lw_okq (⟨"BlackoutStartModel", "until", "(I)I"⟩, 35) := ⟨⟨by decide +kernel, by decide +kernel⟩, lw_t8 (List.mem_of_getElem? (i := 56) rfl), lw_t9 (List.mem_of_getElem? (i := 202) rfl), lw_t9 (List.mem_of_getElem? (i := 203) rfl)⟩
theorem lw_p74 : lw_okq (⟨"BlackoutStartModel", "ticks", "([I)I"⟩, 35) := ⟨⟨by decide +kernel, by decide +kernel⟩, lw_t8 (List.mem_of_getElem? (i := 56) rfl), lw_t9 (List.mem_of_getElem? (i := 206) rfl), lw_t9 (List.mem_of_getElem? (i := 207) rfl)⟩
theorem lw_p75 : lw_okq (⟨"BlackoutStartModel", "darkens", "([II)V"⟩, 35) := ⟨⟨by decide +kernel, by decide +kernel⟩, lw_t8 (List.mem_of_getElem? (i := 56) rfl), lw_t9 (List.mem_of_getElem? (i := 210) rfl), lw_t9 (List.mem_of_getElem? (i := 211) rfl)⟩
theorem lw_p76 : lw_okq (⟨"BlackoutStartModel", "receives", "([II)V"⟩, 35) := ⟨⟨by decide +kernel, by decide +kernel⟩, lw_t8 (List.mem_of_getElem? (i := 56) rfl), lw_t9 (List.mem_of_getElem? (i := 214) rfl), lw_t9 (List.mem_of_getElem? (i := 215) rfl)⟩
theorem lw_p77 : lw_okq (⟨"BlackoutStartModel", "learns", "([I)V"⟩, 35) := ⟨⟨by decide +kernel, by decide +kernel⟩, lw_t8 (List.mem_of_getElem? (i := 56) rfl), lw_t9 (List.mem_of_getElem? (i := 218) rfl), lw_t9 (List.mem_of_getElem? (i := 219) rfl)⟩
theorem lw_p78 : lw_okq (⟨"BlackoutStartModel", "acts", "([II)V"⟩, 35) := ⟨⟨by decide +kernel, by decide +kernel⟩, lw_t8 (List.mem_of_getElem? (i := 56) rfl), lw_t9 (List.mem_of_getElem? (i := 222) rfl), lw_t9 (List.mem_of_getElem? (i := 223) rfl)⟩
theorem lw_p79 : lw_okq (⟨"BlackoutStartModel", "polls", "([I)V"⟩, 35) := ⟨⟨by decide +kernel, by decide +kernel⟩, lw_t8 (List.mem_of_getElem? (i := 56) rfl), lw_t9 (List.mem_of_getElem? (i := 226) rfl), lw_t9 (List.mem_of_getElem? (i := 227) rfl)⟩
def lw_privs_5 : List (MethodName × Nat) := [(⟨"BlackoutStartModel", "drawn", "([I)I"⟩, 35), (⟨"BlackoutStartModel", "draw", "([II)I"⟩, 35), (⟨"BlackoutStartModel", "reservedAll", "([I)I"⟩, 35), (⟨"BlackoutStartModel", "grantsOf", "([IZ)I"⟩, 35), (⟨"BlackoutStartModel", "isAhead", "([III)Z"⟩, 35), (⟨"BlackoutStartModel", "lacks", "([II)Z"⟩, 35), (⟨"BlackoutStartModel", "sends", "([IIII)V"⟩, 35), (⟨"BlackoutStartModel", "marks", "([III)V"⟩, 35), (⟨"BlackoutStartModel", "laysThen", "()V"⟩, 35), (⟨"BlackoutStartModel", "until", "(I)I"⟩, 35), (⟨"BlackoutStartModel", "ticks", "([I)I"⟩, 35), (⟨"BlackoutStartModel", "darkens", "([II)V"⟩, 35), (⟨"BlackoutStartModel", "receives", "([II)V"⟩, 35), (⟨"BlackoutStartModel", "learns", "([I)V"⟩, 35), (⟨"BlackoutStartModel", "acts", "([II)V"⟩, 35), (⟨"BlackoutStartModel", "polls", "([I)V"⟩, 35)]
theorem lw_r5 : ∀ q ∈ lw_privs_5, lw_okq q := List.forall_mem_cons.mpr ⟨lw_p64, List.forall_mem_cons.mpr ⟨lw_p65, List.forall_mem_cons.mpr ⟨lw_p66, List.forall_mem_cons.mpr ⟨lw_p67, List.forall_mem_cons.mpr ⟨lw_p68, List.forall_mem_cons.mpr ⟨lw_p69, List.forall_mem_cons.mpr ⟨lw_p70, List.forall_mem_cons.mpr ⟨lw_p71, List.forall_mem_cons.mpr ⟨lw_p72, List.forall_mem_cons.mpr ⟨lw_p73, List.forall_mem_cons.mpr ⟨lw_p74, List.forall_mem_cons.mpr ⟨lw_p75, List.forall_mem_cons.mpr ⟨lw_p76, List.forall_mem_cons.mpr ⟨lw_p77, List.forall_mem_cons.mpr ⟨lw_p78, List.forall_mem_cons.mpr ⟨lw_p79, fun _ h => absurd h List.not_mem_nil⟩⟩⟩⟩⟩⟩⟩⟩⟩⟩⟩⟩⟩⟩⟩⟩
theorem lw_p80 : lw_okq (⟨"BlackoutStartModel", "keeps", "()V"⟩, 35) := ⟨⟨by decide +kernel, by decide +kernel⟩, lw_t8 (List.mem_of_getElem? (i := 56) rfl), lw_t10 (List.mem_of_getElem? (i := 16) rfl), lw_t10 (List.mem_of_getElem? (i := 17) rfl)⟩
def lw_privs_6 : List (MethodName × Nat) := [(⟨"BlackoutStartModel", "keeps", "()V"⟩, 35)]
theorem lw_r6 : ∀ q ∈ lw_privs_6, lw_okq q := List.forall_mem_cons.mpr ⟨lw_p80, fun _ h => absurd h List.not_mem_nil⟩
def lw_privs : List (MethodName × Nat) := lw_privs_1 ++ (lw_privs_2 ++ (lw_privs_3 ++ (lw_privs_4 ++ (lw_privs_5 ++ (lw_privs_6)))))
def lw_tbl : List Cond := k2_sels lw_privs ++ tables_1
theorem lw_privs_ok : ∀ q ∈ lw_privs, lw_okq q := by
  show ∀ q ∈ lw_privs_1 ++ (lw_privs_2 ++ (lw_privs_3 ++ (lw_privs_4 ++ (lw_privs_5 ++ (lw_privs_6))))), lw_okq q
  exact List.forall_mem_append.mpr ⟨lw_r1, List.forall_mem_append.mpr ⟨lw_r2, List.forall_mem_append.mpr ⟨lw_r3, List.forall_mem_append.mpr ⟨lw_r4, List.forall_mem_append.mpr ⟨lw_r5, lw_r6⟩⟩⟩⟩⟩
-- ===== ONE list of words for every method: the tables' words that hold all through a run =====
def lw_all : List Cond := lw_tbl.filter goodWord
/-- a word of the tables by its place: claim/WORDS.tsv -/
theorem lw_w {w : Cond} (i : Nat) (h : lw_tbl[i]? = some w) (g : goodWord w = true) : w ∈ lw_all := List.mem_filter.mpr ⟨List.mem_of_getElem? h, g⟩
theorem lw_all_tbl {w : Cond} (h : w ∈ lw_all) : w ∈ lw_tbl := (List.mem_filter.mp h).1
theorem lw_self : GoodIn lw_all lw_all := fun w h => ⟨h, good_of_word (List.mem_filter.mp h).2⟩
/-- a class's field words, by their places -/
theorem lw_in (ws : List Cond) (ps : List Nat) (hp : ws = ps.filterMap (fun i => lw_tbl[i]?)) (hg : ws.all goodWord = true) : ∀ w ∈ ws, w ∈ lw_all := by
  intro w h
  have h1 := List.all_eq_true.mp hg w h
  rw [hp] at h
  obtain ⟨i, -, hi⟩ := List.mem_filterMap.mp h
  exact lw_w i hi h1
/-- the words of a contract for the method y with code b, L locals, answer r -/
abbrev ws_ (y : MethodName) (b : ByteArray) (L : Nat) (r : Option FieldType) : List Cond := Cond.code y b L r :: lw_all
theorem lw_meth {y : MethodName} {b : ByteArray} {L : Nat} {r : Option FieldType} (h : Cond.code y b L r ∈ lw_all) : GoodIn lw_all (ws_ y b L r) := by
  intro w hw
  rcases List.mem_cons.mp hw with e | e
  · rw [e]
    exact lw_self _ h
  · exact lw_self _ e
theorem lw_app {a c : List Cond} (ha : ∀ w ∈ a, w ∈ lw_all) (hc : GoodIn lw_all c) : GoodIn lw_all (a ++ c) := by
  intro w hw
  rcases List.mem_append.mp hw with e | e
  · exact lw_self w (ha w e)
  · exact hc w e
/-- what a call through an object asks: cwV n hts (lw_V ..) -/
theorem lw_V {own : String} {idx : Nat} {C : String} {y : MethodName} {b : ByteArray} {L : Nat} {r : Option FieldType} (h1 : Cond.methodLink own idx y ∈ lw_all) (h2 : Cond.instanceMethod y ∈ lw_all) (h3 : Cond.selects C y y ∈ lw_all) (h4 : Cond.initialized C ∈ lw_all) (h5 : Cond.code y b L r ∈ lw_all) : GoodIn lw_all (wsV own idx C y (ws_ y b L r)) := by
  refine lw_app ?_ (lw_meth h5)
  intro w hw
  simp only [List.mem_cons, List.not_mem_nil, or_false] at hw
  rcases hw with e | e | e | e
  · rw [e]; exact h1
  · rw [e]; exact h2
  · rw [e]; exact h3
  · rw [e]; exact h4
/-- what a static call asks: va_cwS n hts (lw_S ..) -/
theorem lw_S {own : String} {idx : Nat} {y : MethodName} {b : ByteArray} {L : Nat} {r : Option FieldType} (h1 : Cond.methodLink own idx y ∈ lw_all) (h2 : Cond.static y ∈ lw_all) (h3 : Cond.initialized y.cls ∈ lw_all) (h4 : Cond.code y b L r ∈ lw_all) : GoodIn lw_all (va_wsS own idx y (ws_ y b L r)) := by
  refine lw_app ?_ (lw_meth h4)
  intro w hw
  simp only [List.mem_cons, List.not_mem_nil, or_false] at hw
  rcases hw with e | e | e
  · rw [e]; exact h1
  · rw [e]; exact h2
  · rw [e]; exact h3
/-- the words of a contract for a method WITH HANDLERS (hh: its table) -/
abbrev wsW_ (y : MethodName) (b : ByteArray) (L : Nat) (r : Option FieldType) (hh : List (Nat × Nat × Nat × Nat)) : List Cond := Cond.codeWith y b L r hh :: lw_all
theorem lw_methW {y : MethodName} {b : ByteArray} {L : Nat} {r : Option FieldType} {hh : List (Nat × Nat × Nat × Nat)} (h : Cond.codeWith y b L r hh ∈ lw_all) : GoodIn lw_all (wsW_ y b L r hh) := by
  intro w hw
  rcases List.mem_cons.mp hw with e | e
  · rw [e]
    exact lw_self _ h
  · exact lw_self _ e
/-- any list of words by their places (lw_in), good -/
theorem lw_good {ws : List Cond} (h : ∀ w ∈ ws, w ∈ lw_all) : GoodIn lw_all ws := fun w hw => lw_self w (h w hw)
/-- what a call of a method with handlers asks: vx_cwVW n hts (lw_VW ..), vx_cwSW n hts (lw_SW ..) -/
theorem lw_VW {own : String} {idx : Nat} {C : String} {y : MethodName} {b : ByteArray} {L : Nat} {r : Option FieldType} {hh : List (Nat × Nat × Nat × Nat)} (h1 : Cond.methodLink own idx y ∈ lw_all) (h2 : Cond.instanceMethod y ∈ lw_all) (h3 : Cond.selects C y y ∈ lw_all) (h4 : Cond.initialized C ∈ lw_all) (h5 : Cond.codeWith y b L r hh ∈ lw_all) : GoodIn lw_all (wsV own idx C y (wsW_ y b L r hh)) := by
  refine lw_app ?_ (lw_methW h5)
  intro w hw
  simp only [List.mem_cons, List.not_mem_nil, or_false] at hw
  rcases hw with e | e | e | e
  · rw [e]; exact h1
  · rw [e]; exact h2
  · rw [e]; exact h3
  · rw [e]; exact h4
theorem lw_SW {own : String} {idx : Nat} {y : MethodName} {b : ByteArray} {L : Nat} {r : Option FieldType} {hh : List (Nat × Nat × Nat × Nat)} (h1 : Cond.methodLink own idx y ∈ lw_all) (h2 : Cond.static y ∈ lw_all) (h3 : Cond.initialized y.cls ∈ lw_all) (h4 : Cond.codeWith y b L r hh ∈ lw_all) : GoodIn lw_all (va_wsS own idx y (wsW_ y b L r hh)) := by
  refine lw_app ?_ (lw_methW h4)
  intro w hw
  simp only [List.mem_cons, List.not_mem_nil, or_false] at hw
  rcases hw with e | e | e
  · rw [e]; exact h1
  · rw [e]; exact h2
  · rw [e]; exact h3
/-- a word by its place in its run of the tables -/
theorem lw_at {r : List Cond} (hr : ∀ w ∈ r, w ∈ lw_tbl) {w : Cond} (i : Nat) (h : r[i]? = some w) : w ∈ lw_tbl := hr w (List.mem_of_getElem? h)
theorem lw_g {w : Cond} (h : w ∈ lw_tbl) (g : goodWord w = true) : w ∈ lw_all := List.mem_filter.mpr ⟨h, g⟩
theorem lw_ms : ∀ w ∈ k2_sels lw_privs, w ∈ lw_tbl := fun w h => show w ∈ k2_sels lw_privs ++ tables_1 from List.mem_append_left _ h
theorem lw_m1 : ∀ w ∈ tables_1_1, w ∈ lw_tbl := fun w h => show w ∈ k2_sels lw_privs ++ tables_1 from List.mem_append_right (k2_sels lw_privs) (show w ∈ tables_1 from List.mem_append_left _ h)
theorem lw_m2 : ∀ w ∈ tables_1_2, w ∈ lw_tbl := fun w h => show w ∈ k2_sels lw_privs ++ tables_1 from List.mem_append_right (k2_sels lw_privs) (show w ∈ tables_1 from List.mem_append_right _ (List.mem_append_left _ h))
theorem lw_m3 : ∀ w ∈ tables_1_3, w ∈ lw_tbl := fun w h => show w ∈ k2_sels lw_privs ++ tables_1 from List.mem_append_right (k2_sels lw_privs) (show w ∈ tables_1 from List.mem_append_right _ (List.mem_append_right _ (List.mem_append_left _ h)))
theorem lw_m4 : ∀ w ∈ tables_1_4, w ∈ lw_tbl := fun w h => show w ∈ k2_sels lw_privs ++ tables_1 from List.mem_append_right (k2_sels lw_privs) (show w ∈ tables_1 from List.mem_append_right _ (List.mem_append_right _ (List.mem_append_right _ (List.mem_append_left _ h))))
theorem lw_m5 : ∀ w ∈ tables_1_5, w ∈ lw_tbl := fun w h => show w ∈ k2_sels lw_privs ++ tables_1 from List.mem_append_right (k2_sels lw_privs) (show w ∈ tables_1 from List.mem_append_right _ (List.mem_append_right _ (List.mem_append_right _ (List.mem_append_right _ (List.mem_append_left _ h)))))
theorem lw_m6 : ∀ w ∈ tables_1_6, w ∈ lw_tbl := fun w h => show w ∈ k2_sels lw_privs ++ tables_1 from List.mem_append_right (k2_sels lw_privs) (show w ∈ tables_1 from List.mem_append_right _ (List.mem_append_right _ (List.mem_append_right _ (List.mem_append_right _ (List.mem_append_right _ (List.mem_append_left _ h))))))
theorem lw_m7 : ∀ w ∈ tables_1_7, w ∈ lw_tbl := fun w h => show w ∈ k2_sels lw_privs ++ tables_1 from List.mem_append_right (k2_sels lw_privs) (show w ∈ tables_1 from List.mem_append_right _ (List.mem_append_right _ (List.mem_append_right _ (List.mem_append_right _ (List.mem_append_right _ (List.mem_append_right _ (List.mem_append_left _ h)))))))
theorem lw_m8 : ∀ w ∈ tables_1_8, w ∈ lw_tbl := fun w h => show w ∈ k2_sels lw_privs ++ tables_1 from List.mem_append_right (k2_sels lw_privs) (show w ∈ tables_1 from List.mem_append_right _ (List.mem_append_right _ (List.mem_append_right _ (List.mem_append_right _ (List.mem_append_right _ (List.mem_append_right _ (List.mem_append_right _ (List.mem_append_left _ h))))))))
theorem lw_m9 : ∀ w ∈ tables_1_9, w ∈ lw_tbl := fun w h => show w ∈ k2_sels lw_privs ++ tables_1 from List.mem_append_right (k2_sels lw_privs) (show w ∈ tables_1 from List.mem_append_right _ (List.mem_append_right _ (List.mem_append_right _ (List.mem_append_right _ (List.mem_append_right _ (List.mem_append_right _ (List.mem_append_right _ (List.mem_append_right _ (List.mem_append_left _ h)))))))))
theorem lw_m10 : ∀ w ∈ tables_1_10, w ∈ lw_tbl := fun w h => show w ∈ k2_sels lw_privs ++ tables_1 from List.mem_append_right (k2_sels lw_privs) (show w ∈ tables_1 from List.mem_append_right _ (List.mem_append_right _ (List.mem_append_right _ (List.mem_append_right _ (List.mem_append_right _ (List.mem_append_right _ (List.mem_append_right _ (List.mem_append_right _ (List.mem_append_right _ h)))))))))
theorem qs0 : (Cond.selects "java/lang/Throwable" ⟨"java/lang/Throwable", "fillInStackTrace", "(I)Ljava/lang/Throwable;"⟩ ⟨"java/lang/Throwable", "fillInStackTrace", "(I)Ljava/lang/Throwable;"⟩) ∈ lw_all := lw_g (lw_at lw_ms 0 rfl) rfl
theorem qs1 : (Cond.selects "BlackoutStart$State" ⟨"BlackoutStart$State", "first", "(I)I"⟩ ⟨"BlackoutStart$State", "first", "(I)I"⟩) ∈ lw_all := lw_g (lw_at lw_ms 1 rfl) rfl
theorem qs2 : (Cond.selects "BlackoutStart$State" ⟨"BlackoutStart$State", "isAhead", "(II)Z"⟩ ⟨"BlackoutStart$State", "isAhead", "(II)Z"⟩) ∈ lw_all := lw_g (lw_at lw_ms 2 rfl) rfl
theorem qs3 : (Cond.selects "BlackoutStart" ⟨"BlackoutStart", "change", "()LBlackoutStart$State;"⟩ ⟨"BlackoutStart", "change", "()LBlackoutStart$State;"⟩) ∈ lw_all := lw_g (lw_at lw_ms 3 rfl) rfl
theorem qs4 : (Cond.selects "java/util/ArrayDeque" ⟨"java/util/ArrayDeque", "grow", "(I)V"⟩ ⟨"java/util/ArrayDeque", "grow", "(I)V"⟩) ∈ lw_all := lw_g (lw_at lw_ms 4 rfl) rfl
theorem qs5 : (Cond.selects "java/util/ArrayDeque" ⟨"java/util/ArrayDeque", "newCapacity", "(II)I"⟩ ⟨"java/util/ArrayDeque", "newCapacity", "(II)I"⟩) ∈ lw_all := lw_g (lw_at lw_ms 5 rfl) rfl
theorem qs6 : (Cond.selects "BlackoutStart" ⟨"BlackoutStart", "put", "(I)V"⟩ ⟨"BlackoutStart", "put", "(I)V"⟩) ∈ lw_all := lw_g (lw_at lw_ms 6 rfl) rfl
theorem qs7 : (Cond.selects "BlackoutStart$Parser" ⟨"BlackoutStart$Parser", "all", "()V"⟩ ⟨"BlackoutStart$Parser", "all", "()V"⟩) ∈ lw_all := lw_g (lw_at lw_ms 7 rfl) rfl
theorem qs8 : (Cond.selects "BlackoutStart$Parser" ⟨"BlackoutStart$Parser", "takes", "(Ljava/lang/String;)Z"⟩ ⟨"BlackoutStart$Parser", "takes", "(Ljava/lang/String;)Z"⟩) ∈ lw_all := lw_g (lw_at lw_ms 8 rfl) rfl
theorem qs9 : (Cond.selects "BlackoutStart$Parser" ⟨"BlackoutStart$Parser", "word", "()Ljava/lang/String;"⟩ ⟨"BlackoutStart$Parser", "word", "()Ljava/lang/String;"⟩) ∈ lw_all := lw_g (lw_at lw_ms 9 rfl) rfl
theorem qs10 : (Cond.selects "BlackoutStart$Parser" ⟨"BlackoutStart$Parser", "peek", "()I"⟩ ⟨"BlackoutStart$Parser", "peek", "()I"⟩) ∈ lw_all := lw_g (lw_at lw_ms 10 rfl) rfl
theorem qs11 : (Cond.selects "BlackoutStart$Parser" ⟨"BlackoutStart$Parser", "expect", "(Z)V"⟩ ⟨"BlackoutStart$Parser", "expect", "(Z)V"⟩) ∈ lw_all := lw_g (lw_at lw_ms 11 rfl) rfl
theorem qs12 : (Cond.selects "BlackoutStart$Parser" ⟨"BlackoutStart$Parser", "number", "(II)I"⟩ ⟨"BlackoutStart$Parser", "number", "(II)I"⟩) ∈ lw_all := lw_g (lw_at lw_ms 12 rfl) rfl
theorem qs13 : (Cond.selects "BlackoutStart$Parser" ⟨"BlackoutStart$Parser", "require", "(ZI)V"⟩ ⟨"BlackoutStart$Parser", "require", "(ZI)V"⟩) ∈ lw_all := lw_g (lw_at lw_ms 13 rfl) rfl
theorem qs14 : (Cond.selects "BlackoutStart$Parser" ⟨"BlackoutStart$Parser", "end", "()V"⟩ ⟨"BlackoutStart$Parser", "end", "()V"⟩) ∈ lw_all := lw_g (lw_at lw_ms 14 rfl) rfl
theorem qs15 : (Cond.selects "BlackoutStart$Parser" ⟨"BlackoutStart$Parser", "outlet", "(Ljava/lang/String;)V"⟩ ⟨"BlackoutStart$Parser", "outlet", "(Ljava/lang/String;)V"⟩) ∈ lw_all := lw_g (lw_at lw_ms 15 rfl) rfl
theorem qs16 : (Cond.selects "BlackoutStart$Parser" ⟨"BlackoutStart$Parser", "name", "()Ljava/lang/String;"⟩ ⟨"BlackoutStart$Parser", "name", "()Ljava/lang/String;"⟩) ∈ lw_all := lw_g (lw_at lw_ms 16 rfl) rfl
theorem qs17 : (Cond.selects "java/util/ArrayList" ⟨"java/util/ArrayList", "add", "(Ljava/lang/Object;[Ljava/lang/Object;I)V"⟩ ⟨"java/util/ArrayList", "add", "(Ljava/lang/Object;[Ljava/lang/Object;I)V"⟩) ∈ lw_all := lw_g (lw_at lw_ms 17 rfl) rfl
theorem qs18 : (Cond.selects "java/util/ArrayList" ⟨"java/util/ArrayList", "grow", "()[Ljava/lang/Object;"⟩ ⟨"java/util/ArrayList", "grow", "()[Ljava/lang/Object;"⟩) ∈ lw_all := lw_g (lw_at lw_ms 18 rfl) rfl
theorem qs19 : (Cond.selects "java/util/ArrayList" ⟨"java/util/ArrayList", "grow", "(I)[Ljava/lang/Object;"⟩ ⟨"java/util/ArrayList", "grow", "(I)[Ljava/lang/Object;"⟩) ∈ lw_all := lw_g (lw_at lw_ms 19 rfl) rfl
theorem qs20 : (Cond.selects "BlackoutStart$Parser" ⟨"BlackoutStart$Parser", "need", "(Ljava/lang/String;)V"⟩ ⟨"BlackoutStart$Parser", "need", "(Ljava/lang/String;)V"⟩) ∈ lw_all := lw_g (lw_at lw_ms 20 rfl) rfl
theorem qs21 : (Cond.selects "BlackoutStart$Parser" ⟨"BlackoutStart$Parser", "known", "()I"⟩ ⟨"BlackoutStart$Parser", "known", "()I"⟩) ∈ lw_all := lw_g (lw_at lw_ms 21 rfl) rfl
theorem qs22 : (Cond.selects "BlackoutStart$Parser" ⟨"BlackoutStart$Parser", "passed", "(I)I"⟩ ⟨"BlackoutStart$Parser", "passed", "(I)I"⟩) ∈ lw_all := lw_g (lw_at lw_ms 22 rfl) rfl
theorem qs23 : (Cond.selects "BlackoutStart$Parser" ⟨"BlackoutStart$Parser", "rule", "(Ljava/lang/String;)Z"⟩ ⟨"BlackoutStart$Parser", "rule", "(Ljava/lang/String;)Z"⟩) ∈ lw_all := lw_g (lw_at lw_ms 23 rfl) rfl
theorem qs24 : (Cond.selects "BlackoutStart$Parser" ⟨"BlackoutStart$Parser", "once", "(Z)V"⟩ ⟨"BlackoutStart$Parser", "once", "(Z)V"⟩) ∈ lw_all := lw_g (lw_at lw_ms 24 rfl) rfl
theorem qs25 : (Cond.selects "BlackoutStart$Parser" ⟨"BlackoutStart$Parser", "script", "()[I"⟩ ⟨"BlackoutStart$Parser", "script", "()[I"⟩) ∈ lw_all := lw_g (lw_at lw_ms 25 rfl) rfl
theorem qs26 : (Cond.selects "BlackoutStart" ⟨"BlackoutStart", "outletAt", "(I)LBlackoutStart$Outlet;"⟩ ⟨"BlackoutStart", "outletAt", "(I)LBlackoutStart$Outlet;"⟩) ∈ lw_all := lw_g (lw_at lw_ms 26 rfl) rfl
theorem qs27 : (Cond.selects "BlackoutStart$State" ⟨"BlackoutStart$State", "waits", "(I)V"⟩ ⟨"BlackoutStart$State", "waits", "(I)V"⟩) ∈ lw_all := lw_g (lw_at lw_ms 27 rfl) rfl
theorem qs28 : (Cond.selects "BlackoutStart$State" ⟨"BlackoutStart$State", "receives", "()V"⟩ ⟨"BlackoutStart$State", "receives", "()V"⟩) ∈ lw_all := lw_g (lw_at lw_ms 28 rfl) rfl
theorem qs29 : (Cond.selects "BlackoutStart$State" ⟨"BlackoutStart$State", "comes", "(III)V"⟩ ⟨"BlackoutStart$State", "comes", "(III)V"⟩) ∈ lw_all := lw_g (lw_at lw_ms 29 rfl) rfl
theorem qs30 : (Cond.selects "BlackoutStart$State" ⟨"BlackoutStart$State", "marks", "(II)V"⟩ ⟨"BlackoutStart$State", "marks", "(II)V"⟩) ∈ lw_all := lw_g (lw_at lw_ms 30 rfl) rfl
theorem qs31 : (Cond.selects "BlackoutStart$State" ⟨"BlackoutStart$State", "answers", "(II)V"⟩ ⟨"BlackoutStart$State", "answers", "(II)V"⟩) ∈ lw_all := lw_g (lw_at lw_ms 31 rfl) rfl
theorem qs32 : (Cond.selects "BlackoutStart$State" ⟨"BlackoutStart$State", "acts", "(I)V"⟩ ⟨"BlackoutStart$State", "acts", "(I)V"⟩) ∈ lw_all := lw_g (lw_at lw_ms 32 rfl) rfl
theorem qs33 : (Cond.selects "BlackoutStart$State" ⟨"BlackoutStart$State", "polls", "()V"⟩ ⟨"BlackoutStart$State", "polls", "()V"⟩) ∈ lw_all := lw_g (lw_at lw_ms 33 rfl) rfl
theorem qs34 : (Cond.selects "BlackoutStart$State" ⟨"BlackoutStart$State", "grants", "()V"⟩ ⟨"BlackoutStart$State", "grants", "()V"⟩) ∈ lw_all := lw_g (lw_at lw_ms 34 rfl) rfl
theorem qs35 : (Cond.selects "BlackoutStart$State" ⟨"BlackoutStart$State", "measures", "()V"⟩ ⟨"BlackoutStart$State", "measures", "()V"⟩) ∈ lw_all := lw_g (lw_at lw_ms 35 rfl) rfl
theorem qs36 : (Cond.selects "BlackoutStartModel" ⟨"BlackoutStartModel", "clearsTold", "()V"⟩ ⟨"BlackoutStartModel", "clearsTold", "()V"⟩) ∈ lw_all := lw_g (lw_at lw_ms 36 rfl) rfl
theorem qs37 : (Cond.selects "BlackoutStartModel" ⟨"BlackoutStartModel", "begins", "()V"⟩ ⟨"BlackoutStartModel", "begins", "()V"⟩) ∈ lw_all := lw_g (lw_at lw_ms 37 rfl) rfl
theorem qs38 : (Cond.selects "BlackoutStartModel" ⟨"BlackoutStartModel", "may", "(ZI)Z"⟩ ⟨"BlackoutStartModel", "may", "(ZI)Z"⟩) ∈ lw_all := lw_g (lw_at lw_ms 38 rfl) rfl
theorem qs39 : (Cond.selects "BlackoutStartModel" ⟨"BlackoutStartModel", "token", "()V"⟩ ⟨"BlackoutStartModel", "token", "()V"⟩) ∈ lw_all := lw_g (lw_at lw_ms 39 rfl) rfl
theorem qs40 : (Cond.selects "BlackoutStartModel" ⟨"BlackoutStartModel", "byteAt", "(I)I"⟩ ⟨"BlackoutStartModel", "byteAt", "(I)I"⟩) ∈ lw_all := lw_g (lw_at lw_ms 40 rfl) rfl
theorem qs41 : (Cond.selects "BlackoutStartModel" ⟨"BlackoutStartModel", "isWord", "(Ljava/lang/String;)Z"⟩ ⟨"BlackoutStartModel", "isWord", "(Ljava/lang/String;)Z"⟩) ∈ lw_all := lw_g (lw_at lw_ms 41 rfl) rfl
theorem qs42 : (Cond.selects "BlackoutStartModel" ⟨"BlackoutStartModel", "isWrong", "()Z"⟩ ⟨"BlackoutStartModel", "isWrong", "()Z"⟩) ∈ lw_all := lw_g (lw_at lw_ms 42 rfl) rfl
theorem qs43 : (Cond.selects "BlackoutStartModel" ⟨"BlackoutStartModel", "passes", "(Z)V"⟩ ⟨"BlackoutStartModel", "passes", "(Z)V"⟩) ∈ lw_all := lw_g (lw_at lw_ms 43 rfl) rfl
theorem qs44 : (Cond.selects "BlackoutStartModel" ⟨"BlackoutStartModel", "fails", "(I)V"⟩ ⟨"BlackoutStartModel", "fails", "(I)V"⟩) ∈ lw_all := lw_g (lw_at lw_ms 44 rfl) rfl
theorem qs45 : (Cond.selects "BlackoutStartModel" ⟨"BlackoutStartModel", "figure", "(II)I"⟩ ⟨"BlackoutStartModel", "figure", "(II)I"⟩) ∈ lw_all := lw_g (lw_at lw_ms 45 rfl) rfl
theorem qs46 : (Cond.selects "BlackoutStartModel" ⟨"BlackoutStartModel", "semicolon", "()V"⟩ ⟨"BlackoutStartModel", "semicolon", "()V"⟩) ∈ lw_all := lw_g (lw_at lw_ms 46 rfl) rfl
theorem qs47 : (Cond.selects "BlackoutStartModel" ⟨"BlackoutStartModel", "outletLine", "()V"⟩ ⟨"BlackoutStartModel", "outletLine", "()V"⟩) ∈ lw_all := lw_g (lw_at lw_ms 47 rfl) rfl
theorem qs48 : (Cond.selects "BlackoutStartModel" ⟨"BlackoutStartModel", "looksUp", "()I"⟩ ⟨"BlackoutStartModel", "looksUp", "()I"⟩) ∈ lw_all := lw_g (lw_at lw_ms 48 rfl) rfl
theorem qs49 : (Cond.selects "BlackoutStartModel" ⟨"BlackoutStartModel", "isName", "()Z"⟩ ⟨"BlackoutStartModel", "isName", "()Z"⟩) ∈ lw_all := lw_g (lw_at lw_ms 49 rfl) rfl
theorem qs50 : (Cond.selects "BlackoutStartModel" ⟨"BlackoutStartModel", "needLine", "()V"⟩ ⟨"BlackoutStartModel", "needLine", "()V"⟩) ∈ lw_all := lw_g (lw_at lw_ms 50 rfl) rfl
theorem qs51 : (Cond.selects "BlackoutStartModel" ⟨"BlackoutStartModel", "ruleLine", "()V"⟩ ⟨"BlackoutStartModel", "ruleLine", "()V"⟩) ∈ lw_all := lw_g (lw_at lw_ms 51 rfl) rfl
theorem qs52 : (Cond.selects "BlackoutStartModel" ⟨"BlackoutStartModel", "once", "(I)V"⟩ ⟨"BlackoutStartModel", "once", "(I)V"⟩) ∈ lw_all := lw_g (lw_at lw_ms 52 rfl) rfl
theorem qs53 : (Cond.selects "BlackoutStartModel" ⟨"BlackoutStartModel", "scriptHere", "()V"⟩ ⟨"BlackoutStartModel", "scriptHere", "()V"⟩) ∈ lw_all := lw_g (lw_at lw_ms 53 rfl) rfl
theorem qs54 : (Cond.selects "BlackoutStartModel" ⟨"BlackoutStartModel", "isDark", "([I)Z"⟩ ⟨"BlackoutStartModel", "isDark", "([I)Z"⟩) ∈ lw_all := lw_g (lw_at lw_ms 54 rfl) rfl
theorem qs55 : (Cond.selects "BlackoutStartModel" ⟨"BlackoutStartModel", "isOutlet", "(I)Z"⟩ ⟨"BlackoutStartModel", "isOutlet", "(I)Z"⟩) ∈ lw_all := lw_g (lw_at lw_ms 55 rfl) rfl
theorem qs56 : (Cond.selects "BlackoutStartModel" ⟨"BlackoutStartModel", "expected", "([II)I"⟩ ⟨"BlackoutStartModel", "expected", "([II)I"⟩) ∈ lw_all := lw_g (lw_at lw_ms 56 rfl) rfl
theorem qs57 : (Cond.selects "BlackoutStartModel" ⟨"BlackoutStartModel", "peak", "(I)I"⟩ ⟨"BlackoutStartModel", "peak", "(I)I"⟩) ∈ lw_all := lw_g (lw_at lw_ms 57 rfl) rfl
theorem qs58 : (Cond.selects "BlackoutStartModel" ⟨"BlackoutStartModel", "inrush", "(I)I"⟩ ⟨"BlackoutStartModel", "inrush", "(I)I"⟩) ∈ lw_all := lw_g (lw_at lw_ms 58 rfl) rfl
theorem qs59 : (Cond.selects "BlackoutStartModel" ⟨"BlackoutStartModel", "reserved", "([II)I"⟩ ⟨"BlackoutStartModel", "reserved", "([II)I"⟩) ∈ lw_all := lw_g (lw_at lw_ms 59 rfl) rfl
theorem qs60 : (Cond.selects "BlackoutStartModel" ⟨"BlackoutStartModel", "steady", "(I)I"⟩ ⟨"BlackoutStartModel", "steady", "(I)I"⟩) ∈ lw_all := lw_g (lw_at lw_ms 60 rfl) rfl
theorem qs61 : (Cond.selects "BlackoutStartModel" ⟨"BlackoutStartModel", "placeOf", "([II)I"⟩ ⟨"BlackoutStartModel", "placeOf", "([II)I"⟩) ∈ lw_all := lw_g (lw_at lw_ms 61 rfl) rfl
theorem qs62 : (Cond.selects "BlackoutStartModel" ⟨"BlackoutStartModel", "withState", "([III)I"⟩ ⟨"BlackoutStartModel", "withState", "([III)I"⟩) ∈ lw_all := lw_g (lw_at lw_ms 62 rfl) rfl
theorem qs63 : (Cond.selects "BlackoutStartModel" ⟨"BlackoutStartModel", "rightsOf", "([I)I"⟩ ⟨"BlackoutStartModel", "rightsOf", "([I)I"⟩) ∈ lw_all := lw_g (lw_at lw_ms 63 rfl) rfl
theorem qs64 : (Cond.selects "BlackoutStartModel" ⟨"BlackoutStartModel", "drawn", "([I)I"⟩ ⟨"BlackoutStartModel", "drawn", "([I)I"⟩) ∈ lw_all := lw_g (lw_at lw_ms 64 rfl) rfl
theorem qs65 : (Cond.selects "BlackoutStartModel" ⟨"BlackoutStartModel", "draw", "([II)I"⟩ ⟨"BlackoutStartModel", "draw", "([II)I"⟩) ∈ lw_all := lw_g (lw_at lw_ms 65 rfl) rfl
theorem qs66 : (Cond.selects "BlackoutStartModel" ⟨"BlackoutStartModel", "reservedAll", "([I)I"⟩ ⟨"BlackoutStartModel", "reservedAll", "([I)I"⟩) ∈ lw_all := lw_g (lw_at lw_ms 66 rfl) rfl
theorem qs67 : (Cond.selects "BlackoutStartModel" ⟨"BlackoutStartModel", "grantsOf", "([IZ)I"⟩ ⟨"BlackoutStartModel", "grantsOf", "([IZ)I"⟩) ∈ lw_all := lw_g (lw_at lw_ms 67 rfl) rfl
theorem qs68 : (Cond.selects "BlackoutStartModel" ⟨"BlackoutStartModel", "isAhead", "([III)Z"⟩ ⟨"BlackoutStartModel", "isAhead", "([III)Z"⟩) ∈ lw_all := lw_g (lw_at lw_ms 68 rfl) rfl
theorem qs69 : (Cond.selects "BlackoutStartModel" ⟨"BlackoutStartModel", "lacks", "([II)Z"⟩ ⟨"BlackoutStartModel", "lacks", "([II)Z"⟩) ∈ lw_all := lw_g (lw_at lw_ms 69 rfl) rfl
theorem qs70 : (Cond.selects "BlackoutStartModel" ⟨"BlackoutStartModel", "sends", "([IIII)V"⟩ ⟨"BlackoutStartModel", "sends", "([IIII)V"⟩) ∈ lw_all := lw_g (lw_at lw_ms 70 rfl) rfl
theorem qs71 : (Cond.selects "BlackoutStartModel" ⟨"BlackoutStartModel", "marks", "([III)V"⟩ ⟨"BlackoutStartModel", "marks", "([III)V"⟩) ∈ lw_all := lw_g (lw_at lw_ms 71 rfl) rfl
theorem qs72 : (Cond.selects "BlackoutStartModel" ⟨"BlackoutStartModel", "laysThen", "()V"⟩ ⟨"BlackoutStartModel", "laysThen", "()V"⟩) ∈ lw_all := lw_g (lw_at lw_ms 72 rfl) rfl
theorem qs73 : (Cond.selects "BlackoutStartModel" ⟨"BlackoutStartModel", "until", "(I)I"⟩ ⟨"BlackoutStartModel", "until", "(I)I"⟩) ∈ lw_all := lw_g (lw_at lw_ms 73 rfl) rfl
theorem qs74 : (Cond.selects "BlackoutStartModel" ⟨"BlackoutStartModel", "ticks", "([I)I"⟩ ⟨"BlackoutStartModel", "ticks", "([I)I"⟩) ∈ lw_all := lw_g (lw_at lw_ms 74 rfl) rfl
theorem qs75 : (Cond.selects "BlackoutStartModel" ⟨"BlackoutStartModel", "darkens", "([II)V"⟩ ⟨"BlackoutStartModel", "darkens", "([II)V"⟩) ∈ lw_all := lw_g (lw_at lw_ms 75 rfl) rfl
theorem qs76 : (Cond.selects "BlackoutStartModel" ⟨"BlackoutStartModel", "receives", "([II)V"⟩ ⟨"BlackoutStartModel", "receives", "([II)V"⟩) ∈ lw_all := lw_g (lw_at lw_ms 76 rfl) rfl
theorem qs77 : (Cond.selects "BlackoutStartModel" ⟨"BlackoutStartModel", "learns", "([I)V"⟩ ⟨"BlackoutStartModel", "learns", "([I)V"⟩) ∈ lw_all := lw_g (lw_at lw_ms 77 rfl) rfl
theorem qs78 : (Cond.selects "BlackoutStartModel" ⟨"BlackoutStartModel", "acts", "([II)V"⟩ ⟨"BlackoutStartModel", "acts", "([II)V"⟩) ∈ lw_all := lw_g (lw_at lw_ms 78 rfl) rfl
theorem qs79 : (Cond.selects "BlackoutStartModel" ⟨"BlackoutStartModel", "polls", "([I)V"⟩ ⟨"BlackoutStartModel", "polls", "([I)V"⟩) ∈ lw_all := lw_g (lw_at lw_ms 79 rfl) rfl
theorem qs80 : (Cond.selects "BlackoutStartModel" ⟨"BlackoutStartModel", "keeps", "()V"⟩ ⟨"BlackoutStartModel", "keeps", "()V"⟩) ∈ lw_all := lw_g (lw_at lw_ms 80 rfl) rfl
-- ===== end of PART A; then your names; then what follows =====
