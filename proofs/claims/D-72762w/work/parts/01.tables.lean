-- ===== PART A: goes FIRST, ahead of the names: the tables' words, and 'selects' of the private methods out of them =====
/-- a private method of a class that the tables say can be made, by its rows of tables_1 -/
def lw_okq (q : MethodName × Nat) : Prop := (q.1.cls ≠ "java/lang/invoke/MethodHandle" ∧ q.1.cls ≠ "java/lang/invoke/VarHandle") ∧ Cond.instantiable q.1.cls q.2 ∈ tables_1 ∧ Cond.privateMethod q.1 ∈ tables_1 ∧ Cond.instanceMethod q.1 ∈ tables_1
set_option maxRecDepth 100000
theorem lw_t1 {w : Cond} (h : w ∈ tables_1_1) : w ∈ tables_1 := List.mem_append_left _ h
theorem lw_t2 {w : Cond} (h : w ∈ tables_1_2) : w ∈ tables_1 := List.mem_append_right _ (List.mem_append_left _ h)
theorem lw_t3 {w : Cond} (h : w ∈ tables_1_3) : w ∈ tables_1 := List.mem_append_right _ (List.mem_append_right _ (List.mem_append_left _ h))
theorem lw_t4 {w : Cond} (h : w ∈ tables_1_4) : w ∈ tables_1 := List.mem_append_right _ (List.mem_append_right _ (List.mem_append_right _ (List.mem_append_left _ h)))
theorem lw_t5 {w : Cond} (h : w ∈ tables_1_5) : w ∈ tables_1 := List.mem_append_right _ (List.mem_append_right _ (List.mem_append_right _ (List.mem_append_right _ (List.mem_append_left _ h))))
theorem lw_t6 {w : Cond} (h : w ∈ tables_1_6) : w ∈ tables_1 := List.mem_append_right _ (List.mem_append_right _ (List.mem_append_right _ (List.mem_append_right _ (List.mem_append_right _ (List.mem_append_left _ h)))))
theorem lw_t7 {w : Cond} (h : w ∈ tables_1_7) : w ∈ tables_1 := List.mem_append_right _ (List.mem_append_right _ (List.mem_append_right _ (List.mem_append_right _ (List.mem_append_right _ (List.mem_append_right _ h)))))
theorem lw_p0 : lw_okq (⟨"PromiseTries$Reader", "next", "()V"⟩, 9) := ⟨⟨by decide +kernel, by decide +kernel⟩, lw_t1 (List.mem_of_getElem? (i := 50) rfl), lw_t1 (List.mem_of_getElem? (i := 60) rfl), lw_t1 (List.mem_of_getElem? (i := 61) rfl)⟩
theorem lw_p1 : lw_okq (⟨"PromiseTries$Reader", "at", "(I)I"⟩, 9) := ⟨⟨by decide +kernel, by decide +kernel⟩, lw_t1 (List.mem_of_getElem? (i := 50) rfl), lw_t1 (List.mem_of_getElem? (i := 64) rfl), lw_t1 (List.mem_of_getElem? (i := 65) rfl)⟩
theorem lw_p2 : lw_okq (⟨"PromiseTries$Reader", "must", "(ZI)V"⟩, 9) := ⟨⟨by decide +kernel, by decide +kernel⟩, lw_t1 (List.mem_of_getElem? (i := 50) rfl), lw_t1 (List.mem_of_getElem? (i := 73) rfl), lw_t1 (List.mem_of_getElem? (i := 74) rfl)⟩
theorem lw_p3 : lw_okq (⟨"java/lang/NullPointerException", "getExtendedNPEMessage", "()Ljava/lang/String;"⟩, 8) := ⟨⟨by decide +kernel, by decide +kernel⟩, lw_t1 (List.mem_of_getElem? (i := 118) rfl), lw_t1 (List.mem_of_getElem? (i := 116) rfl), lw_t1 (List.mem_of_getElem? (i := 117) rfl)⟩
theorem lw_p4 : lw_okq (⟨"java/lang/Throwable", "fillInStackTrace", "(I)Ljava/lang/Throwable;"⟩, 6) := ⟨⟨by decide +kernel, by decide +kernel⟩, lw_t1 (List.mem_of_getElem? (i := 130) rfl), lw_t1 (List.mem_of_getElem? (i := 128) rfl), lw_t1 (List.mem_of_getElem? (i := 129) rfl)⟩
theorem lw_p5 : lw_okq (⟨"PromiseTries$Reader", "promiseComes", "()V"⟩, 9) := ⟨⟨by decide +kernel, by decide +kernel⟩, lw_t1 (List.mem_of_getElem? (i := 50) rfl), lw_t1 (List.mem_of_getElem? (i := 204) rfl), lw_t1 (List.mem_of_getElem? (i := 205) rfl)⟩
theorem lw_p6 : lw_okq (⟨"PromiseTries$Reader", "isSign", "(I)Z"⟩, 9) := ⟨⟨by decide +kernel, by decide +kernel⟩, lw_t1 (List.mem_of_getElem? (i := 50) rfl), lw_t1 (List.mem_of_getElem? (i := 208) rfl), lw_t1 (List.mem_of_getElem? (i := 209) rfl)⟩
theorem lw_p7 : lw_okq (⟨"PromiseTries$Reader", "side", "(LPromiseTries$Side;)V"⟩, 9) := ⟨⟨by decide +kernel, by decide +kernel⟩, lw_t1 (List.mem_of_getElem? (i := 50) rfl), lw_t2 (List.mem_of_getElem? (i := 26) rfl), lw_t2 (List.mem_of_getElem? (i := 27) rfl)⟩
theorem lw_p8 : lw_okq (⟨"PromiseTries$Reader", "sequence", "()LPromiseTries$Node;"⟩, 9) := ⟨⟨by decide +kernel, by decide +kernel⟩, lw_t1 (List.mem_of_getElem? (i := 50) rfl), lw_t2 (List.mem_of_getElem? (i := 30) rfl), lw_t2 (List.mem_of_getElem? (i := 31) rfl)⟩
theorem lw_p9 : lw_okq (⟨"PromiseTries$Reader", "thens", "()LPromiseTries$Node;"⟩, 9) := ⟨⟨by decide +kernel, by decide +kernel⟩, lw_t1 (List.mem_of_getElem? (i := 50) rfl), lw_t2 (List.mem_of_getElem? (i := 34) rfl), lw_t2 (List.mem_of_getElem? (i := 35) rfl)⟩
theorem lw_p10 : lw_okq (⟨"PromiseTries$Reader", "repeated", "()LPromiseTries$Node;"⟩, 9) := ⟨⟨by decide +kernel, by decide +kernel⟩, lw_t1 (List.mem_of_getElem? (i := 50) rfl), lw_t2 (List.mem_of_getElem? (i := 38) rfl), lw_t2 (List.mem_of_getElem? (i := 39) rfl)⟩
theorem lw_p11 : lw_okq (⟨"PromiseTries$Reader", "atom", "()LPromiseTries$Node;"⟩, 9) := ⟨⟨by decide +kernel, by decide +kernel⟩, lw_t1 (List.mem_of_getElem? (i := 50) rfl), lw_t2 (List.mem_of_getElem? (i := 42) rfl), lw_t2 (List.mem_of_getElem? (i := 43) rfl)⟩
theorem lw_p12 : lw_okq (⟨"PromiseTries$Reader", "opens", "()V"⟩, 9) := ⟨⟨by decide +kernel, by decide +kernel⟩, lw_t1 (List.mem_of_getElem? (i := 50) rfl), lw_t2 (List.mem_of_getElem? (i := 46) rfl), lw_t2 (List.mem_of_getElem? (i := 47) rfl)⟩
theorem lw_p13 : lw_okq (⟨"PromiseTries$Reader", "closes", "(I)V"⟩, 9) := ⟨⟨by decide +kernel, by decide +kernel⟩, lw_t1 (List.mem_of_getElem? (i := 50) rfl), lw_t2 (List.mem_of_getElem? (i := 50) rfl), lw_t2 (List.mem_of_getElem? (i := 51) rfl)⟩
theorem lw_p14 : lw_okq (⟨"PromiseTries$Reader", "condition", "()LPromiseTries$Holds;"⟩, 9) := ⟨⟨by decide +kernel, by decide +kernel⟩, lw_t1 (List.mem_of_getElem? (i := 50) rfl), lw_t2 (List.mem_of_getElem? (i := 54) rfl), lw_t2 (List.mem_of_getElem? (i := 55) rfl)⟩
theorem lw_p15 : lw_okq (⟨"PromiseTries$Reader", "wire", "()LPromiseTries$Holds;"⟩, 9) := ⟨⟨by decide +kernel, by decide +kernel⟩, lw_t1 (List.mem_of_getElem? (i := 50) rfl), lw_t2 (List.mem_of_getElem? (i := 58) rfl), lw_t2 (List.mem_of_getElem? (i := 59) rfl)⟩
def lw_privs_1 : List (MethodName × Nat) := [(⟨"PromiseTries$Reader", "next", "()V"⟩, 9), (⟨"PromiseTries$Reader", "at", "(I)I"⟩, 9), (⟨"PromiseTries$Reader", "must", "(ZI)V"⟩, 9), (⟨"java/lang/NullPointerException", "getExtendedNPEMessage", "()Ljava/lang/String;"⟩, 8), (⟨"java/lang/Throwable", "fillInStackTrace", "(I)Ljava/lang/Throwable;"⟩, 6), (⟨"PromiseTries$Reader", "promiseComes", "()V"⟩, 9), (⟨"PromiseTries$Reader", "isSign", "(I)Z"⟩, 9), (⟨"PromiseTries$Reader", "side", "(LPromiseTries$Side;)V"⟩, 9), (⟨"PromiseTries$Reader", "sequence", "()LPromiseTries$Node;"⟩, 9), (⟨"PromiseTries$Reader", "thens", "()LPromiseTries$Node;"⟩, 9), (⟨"PromiseTries$Reader", "repeated", "()LPromiseTries$Node;"⟩, 9), (⟨"PromiseTries$Reader", "atom", "()LPromiseTries$Node;"⟩, 9), (⟨"PromiseTries$Reader", "opens", "()V"⟩, 9), (⟨"PromiseTries$Reader", "closes", "(I)V"⟩, 9), (⟨"PromiseTries$Reader", "condition", "()LPromiseTries$Holds;"⟩, 9), (⟨"PromiseTries$Reader", "wire", "()LPromiseTries$Holds;"⟩, 9)]
theorem lw_r1 : ∀ q ∈ lw_privs_1, lw_okq q := List.forall_mem_cons.mpr ⟨lw_p0, List.forall_mem_cons.mpr ⟨lw_p1, List.forall_mem_cons.mpr ⟨lw_p2, List.forall_mem_cons.mpr ⟨lw_p3, List.forall_mem_cons.mpr ⟨lw_p4, List.forall_mem_cons.mpr ⟨lw_p5, List.forall_mem_cons.mpr ⟨lw_p6, List.forall_mem_cons.mpr ⟨lw_p7, List.forall_mem_cons.mpr ⟨lw_p8, List.forall_mem_cons.mpr ⟨lw_p9, List.forall_mem_cons.mpr ⟨lw_p10, List.forall_mem_cons.mpr ⟨lw_p11, List.forall_mem_cons.mpr ⟨lw_p12, List.forall_mem_cons.mpr ⟨lw_p13, List.forall_mem_cons.mpr ⟨lw_p14, List.forall_mem_cons.mpr ⟨lw_p15, fun _ h => absurd h List.not_mem_nil⟩⟩⟩⟩⟩⟩⟩⟩⟩⟩⟩⟩⟩⟩⟩⟩
theorem lw_p16 : lw_okq (⟨"PromiseTries$Reader", "bracket", "()LPromiseTries$Holds;"⟩, 9) := ⟨⟨by decide +kernel, by decide +kernel⟩, lw_t1 (List.mem_of_getElem? (i := 50) rfl), lw_t2 (List.mem_of_getElem? (i := 64) rfl), lw_t2 (List.mem_of_getElem? (i := 65) rfl)⟩
theorem lw_p17 : lw_okq (⟨"PromiseTries$Reader", "ors", "()LPromiseTries$Holds;"⟩, 9) := ⟨⟨by decide +kernel, by decide +kernel⟩, lw_t1 (List.mem_of_getElem? (i := 50) rfl), lw_t2 (List.mem_of_getElem? (i := 68) rfl), lw_t2 (List.mem_of_getElem? (i := 69) rfl)⟩
theorem lw_p18 : lw_okq (⟨"PromiseTries$Reader", "ands", "()LPromiseTries$Holds;"⟩, 9) := ⟨⟨by decide +kernel, by decide +kernel⟩, lw_t1 (List.mem_of_getElem? (i := 50) rfl), lw_t2 (List.mem_of_getElem? (i := 72) rfl), lw_t2 (List.mem_of_getElem? (i := 73) rfl)⟩
theorem lw_p19 : lw_okq (⟨"PromiseTries$Reader", "number", "(II)I"⟩, 9) := ⟨⟨by decide +kernel, by decide +kernel⟩, lw_t1 (List.mem_of_getElem? (i := 50) rfl), lw_t2 (List.mem_of_getElem? (i := 102) rfl), lw_t2 (List.mem_of_getElem? (i := 103) rfl)⟩
theorem lw_p20 : lw_okq (⟨"PromiseTries$Machine", "findsMore", "()V"⟩, 6) := ⟨⟨by decide +kernel, by decide +kernel⟩, lw_t2 (List.mem_of_getElem? (i := 209) rfl), lw_t3 (List.mem_of_getElem? (i := 62) rfl), lw_t3 (List.mem_of_getElem? (i := 63) rfl)⟩
theorem lw_p21 : lw_okq (⟨"PromiseTries$Machine", "isLeading", "(J)Z"⟩, 6) := ⟨⟨by decide +kernel, by decide +kernel⟩, lw_t2 (List.mem_of_getElem? (i := 209) rfl), lw_t3 (List.mem_of_getElem? (i := 67) rfl), lw_t3 (List.mem_of_getElem? (i := 68) rfl)⟩
theorem lw_p22 : lw_okq (⟨"PromiseTries", "countedAll", "(I)I"⟩, 16) := ⟨⟨by decide +kernel, by decide +kernel⟩, lw_t3 (List.mem_of_getElem? (i := 81) rfl), lw_t3 (List.mem_of_getElem? (i := 79) rfl), lw_t3 (List.mem_of_getElem? (i := 80) rfl)⟩
theorem lw_p23 : lw_okq (⟨"PromiseTries", "runsAll", "()V"⟩, 16) := ⟨⟨by decide +kernel, by decide +kernel⟩, lw_t3 (List.mem_of_getElem? (i := 81) rfl), lw_t3 (List.mem_of_getElem? (i := 84) rfl), lw_t3 (List.mem_of_getElem? (i := 85) rfl)⟩
theorem lw_p24 : lw_okq (⟨"PromiseTries", "runs", "(LPromiseTries$Side;)V"⟩, 16) := ⟨⟨by decide +kernel, by decide +kernel⟩, lw_t3 (List.mem_of_getElem? (i := 81) rfl), lw_t3 (List.mem_of_getElem? (i := 88) rfl), lw_t3 (List.mem_of_getElem? (i := 89) rfl)⟩
theorem lw_p25 : lw_okq (⟨"PromiseTries", "judges", "(I)V"⟩, 16) := ⟨⟨by decide +kernel, by decide +kernel⟩, lw_t3 (List.mem_of_getElem? (i := 81) rfl), lw_t3 (List.mem_of_getElem? (i := 102) rfl), lw_t3 (List.mem_of_getElem? (i := 103) rfl)⟩
theorem lw_p26 : lw_okq (⟨"PromiseTries", "dutyOf", "(LPromiseTries$Promise;I)I"⟩, 16) := ⟨⟨by decide +kernel, by decide +kernel⟩, lw_t3 (List.mem_of_getElem? (i := 81) rfl), lw_t3 (List.mem_of_getElem? (i := 106) rfl), lw_t3 (List.mem_of_getElem? (i := 107) rfl)⟩
theorem lw_p27 : lw_okq (⟨"PromiseTries", "firstEnd", "(LPromiseTries$Side;I)I"⟩, 16) := ⟨⟨by decide +kernel, by decide +kernel⟩, lw_t3 (List.mem_of_getElem? (i := 81) rfl), lw_t3 (List.mem_of_getElem? (i := 127) rfl), lw_t3 (List.mem_of_getElem? (i := 128) rfl)⟩
theorem lw_p28 : lw_okq (⟨"PromiseTries", "firstLost", "(LPromiseTries$Side;II)I"⟩, 16) := ⟨⟨by decide +kernel, by decide +kernel⟩, lw_t3 (List.mem_of_getElem? (i := 81) rfl), lw_t3 (List.mem_of_getElem? (i := 135) rfl), lw_t3 (List.mem_of_getElem? (i := 136) rfl)⟩
theorem lw_p29 : lw_okq (⟨"PromiseTries", "judged", "(LPromiseTries$Promise;II[I)I"⟩, 16) := ⟨⟨by decide +kernel, by decide +kernel⟩, lw_t3 (List.mem_of_getElem? (i := 81) rfl), lw_t3 (List.mem_of_getElem? (i := 147) rfl), lw_t3 (List.mem_of_getElem? (i := 148) rfl)⟩
theorem lw_p30 : lw_okq (⟨"PromiseTries", "isDuty", "(LPromiseTries$Promise;II)Z"⟩, 16) := ⟨⟨by decide +kernel, by decide +kernel⟩, lw_t3 (List.mem_of_getElem? (i := 81) rfl), lw_t3 (List.mem_of_getElem? (i := 151) rfl), lw_t3 (List.mem_of_getElem? (i := 152) rfl)⟩
theorem lw_p31 : lw_okq (⟨"PromiseTries", "counted", "(II)I"⟩, 16) := ⟨⟨by decide +kernel, by decide +kernel⟩, lw_t3 (List.mem_of_getElem? (i := 81) rfl), lw_t3 (List.mem_of_getElem? (i := 158) rfl), lw_t3 (List.mem_of_getElem? (i := 159) rfl)⟩
def lw_privs_2 : List (MethodName × Nat) := [(⟨"PromiseTries$Reader", "bracket", "()LPromiseTries$Holds;"⟩, 9), (⟨"PromiseTries$Reader", "ors", "()LPromiseTries$Holds;"⟩, 9), (⟨"PromiseTries$Reader", "ands", "()LPromiseTries$Holds;"⟩, 9), (⟨"PromiseTries$Reader", "number", "(II)I"⟩, 9), (⟨"PromiseTries$Machine", "findsMore", "()V"⟩, 6), (⟨"PromiseTries$Machine", "isLeading", "(J)Z"⟩, 6), (⟨"PromiseTries", "countedAll", "(I)I"⟩, 16), (⟨"PromiseTries", "runsAll", "()V"⟩, 16), (⟨"PromiseTries", "runs", "(LPromiseTries$Side;)V"⟩, 16), (⟨"PromiseTries", "judges", "(I)V"⟩, 16), (⟨"PromiseTries", "dutyOf", "(LPromiseTries$Promise;I)I"⟩, 16), (⟨"PromiseTries", "firstEnd", "(LPromiseTries$Side;I)I"⟩, 16), (⟨"PromiseTries", "firstLost", "(LPromiseTries$Side;II)I"⟩, 16), (⟨"PromiseTries", "judged", "(LPromiseTries$Promise;II[I)I"⟩, 16), (⟨"PromiseTries", "isDuty", "(LPromiseTries$Promise;II)Z"⟩, 16), (⟨"PromiseTries", "counted", "(II)I"⟩, 16)]
theorem lw_r2 : ∀ q ∈ lw_privs_2, lw_okq q := List.forall_mem_cons.mpr ⟨lw_p16, List.forall_mem_cons.mpr ⟨lw_p17, List.forall_mem_cons.mpr ⟨lw_p18, List.forall_mem_cons.mpr ⟨lw_p19, List.forall_mem_cons.mpr ⟨lw_p20, List.forall_mem_cons.mpr ⟨lw_p21, List.forall_mem_cons.mpr ⟨lw_p22, List.forall_mem_cons.mpr ⟨lw_p23, List.forall_mem_cons.mpr ⟨lw_p24, List.forall_mem_cons.mpr ⟨lw_p25, List.forall_mem_cons.mpr ⟨lw_p26, List.forall_mem_cons.mpr ⟨lw_p27, List.forall_mem_cons.mpr ⟨lw_p28, List.forall_mem_cons.mpr ⟨lw_p29, List.forall_mem_cons.mpr ⟨lw_p30, List.forall_mem_cons.mpr ⟨lw_p31, fun _ h => absurd h List.not_mem_nil⟩⟩⟩⟩⟩⟩⟩⟩⟩⟩⟩⟩⟩⟩⟩⟩
theorem lw_p32 : lw_okq (⟨"PromiseTries", "dutiesOf", "(II)I"⟩, 16) := ⟨⟨by decide +kernel, by decide +kernel⟩, lw_t3 (List.mem_of_getElem? (i := 81) rfl), lw_t3 (List.mem_of_getElem? (i := 162) rfl), lw_t3 (List.mem_of_getElem? (i := 163) rfl)⟩
theorem lw_p33 : lw_okq (⟨"PromiseTries", "isPromise", "(I)Z"⟩, 16) := ⟨⟨by decide +kernel, by decide +kernel⟩, lw_t3 (List.mem_of_getElem? (i := 81) rfl), lw_t3 (List.mem_of_getElem? (i := 170) rfl), lw_t3 (List.mem_of_getElem? (i := 171) rfl)⟩
theorem lw_p34 : lw_okq (⟨"PromiseTries", "conditionOf", "(III)LPromiseTries$Holds;"⟩, 16) := ⟨⟨by decide +kernel, by decide +kernel⟩, lw_t3 (List.mem_of_getElem? (i := 81) rfl), lw_t3 (List.mem_of_getElem? (i := 200) rfl), lw_t3 (List.mem_of_getElem? (i := 201) rfl)⟩
theorem lw_p35 : lw_okq (⟨"PromiseTries", "isSide", "(III)Z"⟩, 16) := ⟨⟨by decide +kernel, by decide +kernel⟩, lw_t3 (List.mem_of_getElem? (i := 81) rfl), lw_t3 (List.mem_of_getElem? (i := 215) rfl), lw_t3 (List.mem_of_getElem? (i := 216) rfl)⟩
theorem lw_p36 : lw_okq (⟨"PromiseTries", "comes", "(I)V"⟩, 16) := ⟨⟨by decide +kernel, by decide +kernel⟩, lw_t3 (List.mem_of_getElem? (i := 81) rfl), lw_t3 (List.mem_of_getElem? (i := 228) rfl), lw_t3 (List.mem_of_getElem? (i := 229) rfl)⟩
theorem lw_p37 : lw_okq (⟨"PromiseTries", "failedBy", "(I)I"⟩, 16) := ⟨⟨by decide +kernel, by decide +kernel⟩, lw_t3 (List.mem_of_getElem? (i := 81) rfl), lw_t3 (List.mem_of_getElem? (i := 232) rfl), lw_t3 (List.mem_of_getElem? (i := 233) rfl)⟩
theorem lw_p38 : lw_okq (⟨"PromiseTries", "isTick", "(I)Z"⟩, 16) := ⟨⟨by decide +kernel, by decide +kernel⟩, lw_t3 (List.mem_of_getElem? (i := 81) rfl), lw_t4 (List.mem_of_getElem? (i := 0) rfl), lw_t4 (List.mem_of_getElem? (i := 1) rfl)⟩
theorem lw_p39 : lw_okq (⟨"PromiseTries", "got", "()I"⟩, 16) := ⟨⟨by decide +kernel, by decide +kernel⟩, lw_t3 (List.mem_of_getElem? (i := 81) rfl), lw_t4 (List.mem_of_getElem? (i := 17) rfl), lw_t4 (List.mem_of_getElem? (i := 18) rfl)⟩
theorem lw_p40 : lw_okq (⟨"PromiseTries", "dutyAt", "(III)I"⟩, 16) := ⟨⟨by decide +kernel, by decide +kernel⟩, lw_t3 (List.mem_of_getElem? (i := 81) rfl), lw_t4 (List.mem_of_getElem? (i := 38) rfl), lw_t4 (List.mem_of_getElem? (i := 39) rfl)⟩
theorem lw_p41 : lw_okq (⟨"PromiseTries", "comesBy", "(Ljava/lang/Object;LPromiseTries$Cells;II)I"⟩, 16) := ⟨⟨by decide +kernel, by decide +kernel⟩, lw_t3 (List.mem_of_getElem? (i := 81) rfl), lw_t4 (List.mem_of_getElem? (i := 236) rfl), lw_t4 (List.mem_of_getElem? (i := 237) rfl)⟩
theorem lw_p42 : lw_okq (⟨"PromiseTriesModel", "reads", "()V"⟩, 52) := ⟨⟨by decide +kernel, by decide +kernel⟩, lw_t5 (List.mem_of_getElem? (i := 26) rfl), lw_t5 (List.mem_of_getElem? (i := 212) rfl), lw_t5 (List.mem_of_getElem? (i := 213) rfl)⟩
theorem lw_p43 : lw_okq (⟨"PromiseTriesModel", "byteAt", "(I)I"⟩, 52) := ⟨⟨by decide +kernel, by decide +kernel⟩, lw_t5 (List.mem_of_getElem? (i := 26) rfl), lw_t5 (List.mem_of_getElem? (i := 216) rfl), lw_t5 (List.mem_of_getElem? (i := 217) rfl)⟩
theorem lw_p44 : lw_okq (⟨"PromiseTriesModel", "requires", "(ZI)V"⟩, 52) := ⟨⟨by decide +kernel, by decide +kernel⟩, lw_t5 (List.mem_of_getElem? (i := 26) rfl), lw_t5 (List.mem_of_getElem? (i := 222) rfl), lw_t5 (List.mem_of_getElem? (i := 223) rfl)⟩
theorem lw_p45 : lw_okq (⟨"PromiseTriesModel", "readPromise", "(I)V"⟩, 52) := ⟨⟨by decide +kernel, by decide +kernel⟩, lw_t5 (List.mem_of_getElem? (i := 26) rfl), lw_t5 (List.mem_of_getElem? (i := 231) rfl), lw_t5 (List.mem_of_getElem? (i := 232) rfl)⟩
theorem lw_p46 : lw_okq (⟨"PromiseTriesModel", "isBegin", "()Z"⟩, 52) := ⟨⟨by decide +kernel, by decide +kernel⟩, lw_t5 (List.mem_of_getElem? (i := 26) rfl), lw_t5 (List.mem_of_getElem? (i := 235) rfl), lw_t5 (List.mem_of_getElem? (i := 236) rfl)⟩
theorem lw_p47 : lw_okq (⟨"PromiseTriesModel", "isSign", "(I)Z"⟩, 52) := ⟨⟨by decide +kernel, by decide +kernel⟩, lw_t5 (List.mem_of_getElem? (i := 26) rfl), lw_t5 (List.mem_of_getElem? (i := 239) rfl), lw_t6 (List.mem_of_getElem? (i := 0) rfl)⟩
def lw_privs_3 : List (MethodName × Nat) := [(⟨"PromiseTries", "dutiesOf", "(II)I"⟩, 16), (⟨"PromiseTries", "isPromise", "(I)Z"⟩, 16), (⟨"PromiseTries", "conditionOf", "(III)LPromiseTries$Holds;"⟩, 16), (⟨"PromiseTries", "isSide", "(III)Z"⟩, 16), (⟨"PromiseTries", "comes", "(I)V"⟩, 16), (⟨"PromiseTries", "failedBy", "(I)I"⟩, 16), (⟨"PromiseTries", "isTick", "(I)Z"⟩, 16), (⟨"PromiseTries", "got", "()I"⟩, 16), (⟨"PromiseTries", "dutyAt", "(III)I"⟩, 16), (⟨"PromiseTries", "comesBy", "(Ljava/lang/Object;LPromiseTries$Cells;II)I"⟩, 16), (⟨"PromiseTriesModel", "reads", "()V"⟩, 52), (⟨"PromiseTriesModel", "byteAt", "(I)I"⟩, 52), (⟨"PromiseTriesModel", "requires", "(ZI)V"⟩, 52), (⟨"PromiseTriesModel", "readPromise", "(I)V"⟩, 52), (⟨"PromiseTriesModel", "isBegin", "()Z"⟩, 52), (⟨"PromiseTriesModel", "isSign", "(I)Z"⟩, 52)]
theorem lw_r3 : ∀ q ∈ lw_privs_3, lw_okq q := List.forall_mem_cons.mpr ⟨lw_p32, List.forall_mem_cons.mpr ⟨lw_p33, List.forall_mem_cons.mpr ⟨lw_p34, List.forall_mem_cons.mpr ⟨lw_p35, List.forall_mem_cons.mpr ⟨lw_p36, List.forall_mem_cons.mpr ⟨lw_p37, List.forall_mem_cons.mpr ⟨lw_p38, List.forall_mem_cons.mpr ⟨lw_p39, List.forall_mem_cons.mpr ⟨lw_p40, List.forall_mem_cons.mpr ⟨lw_p41, List.forall_mem_cons.mpr ⟨lw_p42, List.forall_mem_cons.mpr ⟨lw_p43, List.forall_mem_cons.mpr ⟨lw_p44, List.forall_mem_cons.mpr ⟨lw_p45, List.forall_mem_cons.mpr ⟨lw_p46, List.forall_mem_cons.mpr ⟨lw_p47, fun _ h => absurd h List.not_mem_nil⟩⟩⟩⟩⟩⟩⟩⟩⟩⟩⟩⟩⟩⟩⟩⟩
theorem lw_p48 : lw_okq (⟨"PromiseTriesModel", "readSequence", "(I)V"⟩, 52) := ⟨⟨by decide +kernel, by decide +kernel⟩, lw_t5 (List.mem_of_getElem? (i := 26) rfl), lw_t6 (List.mem_of_getElem? (i := 3) rfl), lw_t6 (List.mem_of_getElem? (i := 4) rfl)⟩
theorem lw_p49 : lw_okq (⟨"PromiseTriesModel", "opensSequence", "()V"⟩, 52) := ⟨⟨by decide +kernel, by decide +kernel⟩, lw_t5 (List.mem_of_getElem? (i := 26) rfl), lw_t6 (List.mem_of_getElem? (i := 7) rfl), lw_t6 (List.mem_of_getElem? (i := 8) rfl)⟩
theorem lw_p50 : lw_okq (⟨"PromiseTriesModel", "readBegin", "()V"⟩, 52) := ⟨⟨by decide +kernel, by decide +kernel⟩, lw_t5 (List.mem_of_getElem? (i := 26) rfl), lw_t6 (List.mem_of_getElem? (i := 11) rfl), lw_t6 (List.mem_of_getElem? (i := 12) rfl)⟩
theorem lw_p51 : lw_okq (⟨"PromiseTriesModel", "nests", "()V"⟩, 52) := ⟨⟨by decide +kernel, by decide +kernel⟩, lw_t5 (List.mem_of_getElem? (i := 26) rfl), lw_t6 (List.mem_of_getElem? (i := 15) rfl), lw_t6 (List.mem_of_getElem? (i := 16) rfl)⟩
theorem lw_p52 : lw_okq (⟨"PromiseTriesModel", "readCondition", "(Z)V"⟩, 52) := ⟨⟨by decide +kernel, by decide +kernel⟩, lw_t5 (List.mem_of_getElem? (i := 26) rfl), lw_t6 (List.mem_of_getElem? (i := 22) rfl), lw_t6 (List.mem_of_getElem? (i := 23) rfl)⟩
theorem lw_p53 : lw_okq (⟨"PromiseTriesModel", "opensDepth", "()V"⟩, 52) := ⟨⟨by decide +kernel, by decide +kernel⟩, lw_t5 (List.mem_of_getElem? (i := 26) rfl), lw_t6 (List.mem_of_getElem? (i := 26) rfl), lw_t6 (List.mem_of_getElem? (i := 27) rfl)⟩
theorem lw_p54 : lw_okq (⟨"PromiseTriesModel", "readOperand", "()V"⟩, 52) := ⟨⟨by decide +kernel, by decide +kernel⟩, lw_t5 (List.mem_of_getElem? (i := 26) rfl), lw_t6 (List.mem_of_getElem? (i := 30) rfl), lw_t6 (List.mem_of_getElem? (i := 31) rfl)⟩
theorem lw_p55 : lw_okq (⟨"PromiseTriesModel", "wires", "(I)V"⟩, 52) := ⟨⟨by decide +kernel, by decide +kernel⟩, lw_t5 (List.mem_of_getElem? (i := 26) rfl), lw_t6 (List.mem_of_getElem? (i := 34) rfl), lw_t6 (List.mem_of_getElem? (i := 35) rfl)⟩
theorem lw_p56 : lw_okq (⟨"PromiseTriesModel", "joinsAnds", "()V"⟩, 52) := ⟨⟨by decide +kernel, by decide +kernel⟩, lw_t5 (List.mem_of_getElem? (i := 26) rfl), lw_t6 (List.mem_of_getElem? (i := 39) rfl), lw_t6 (List.mem_of_getElem? (i := 40) rfl)⟩
theorem lw_p57 : lw_okq (⟨"PromiseTriesModel", "joinsOrs", "()V"⟩, 52) := ⟨⟨by decide +kernel, by decide +kernel⟩, lw_t5 (List.mem_of_getElem? (i := 26) rfl), lw_t6 (List.mem_of_getElem? (i := 43) rfl), lw_t6 (List.mem_of_getElem? (i := 44) rfl)⟩
theorem lw_p58 : lw_okq (⟨"PromiseTriesModel", "onePlace", "()V"⟩, 52) := ⟨⟨by decide +kernel, by decide +kernel⟩, lw_t5 (List.mem_of_getElem? (i := 26) rfl), lw_t6 (List.mem_of_getElem? (i := 47) rfl), lw_t6 (List.mem_of_getElem? (i := 48) rfl)⟩
theorem lw_p59 : lw_okq (⟨"PromiseTriesModel", "readEnds", "()V"⟩, 52) := ⟨⟨by decide +kernel, by decide +kernel⟩, lw_t5 (List.mem_of_getElem? (i := 26) rfl), lw_t6 (List.mem_of_getElem? (i := 51) rfl), lw_t6 (List.mem_of_getElem? (i := 52) rfl)⟩
theorem lw_p60 : lw_okq (⟨"PromiseTriesModel", "readTimes", "()V"⟩, 52) := ⟨⟨by decide +kernel, by decide +kernel⟩, lw_t5 (List.mem_of_getElem? (i := 26) rfl), lw_t6 (List.mem_of_getElem? (i := 55) rfl), lw_t6 (List.mem_of_getElem? (i := 56) rfl)⟩
theorem lw_p61 : lw_okq (⟨"PromiseTriesModel", "readNumber", "(II)I"⟩, 52) := ⟨⟨by decide +kernel, by decide +kernel⟩, lw_t5 (List.mem_of_getElem? (i := 26) rfl), lw_t6 (List.mem_of_getElem? (i := 59) rfl), lw_t6 (List.mem_of_getElem? (i := 60) rfl)⟩
theorem lw_p62 : lw_okq (⟨"PromiseTriesModel", "repeats", "(II)V"⟩, 52) := ⟨⟨by decide +kernel, by decide +kernel⟩, lw_t5 (List.mem_of_getElem? (i := 26) rfl), lw_t6 (List.mem_of_getElem? (i := 66) rfl), lw_t6 (List.mem_of_getElem? (i := 67) rfl)⟩
theorem lw_p63 : lw_okq (⟨"PromiseTriesModel", "placesNow", "()I"⟩, 52) := ⟨⟨by decide +kernel, by decide +kernel⟩, lw_t5 (List.mem_of_getElem? (i := 26) rfl), lw_t6 (List.mem_of_getElem? (i := 70) rfl), lw_t6 (List.mem_of_getElem? (i := 71) rfl)⟩
def lw_privs_4 : List (MethodName × Nat) := [(⟨"PromiseTriesModel", "readSequence", "(I)V"⟩, 52), (⟨"PromiseTriesModel", "opensSequence", "()V"⟩, 52), (⟨"PromiseTriesModel", "readBegin", "()V"⟩, 52), (⟨"PromiseTriesModel", "nests", "()V"⟩, 52), (⟨"PromiseTriesModel", "readCondition", "(Z)V"⟩, 52), (⟨"PromiseTriesModel", "opensDepth", "()V"⟩, 52), (⟨"PromiseTriesModel", "readOperand", "()V"⟩, 52), (⟨"PromiseTriesModel", "wires", "(I)V"⟩, 52), (⟨"PromiseTriesModel", "joinsAnds", "()V"⟩, 52), (⟨"PromiseTriesModel", "joinsOrs", "()V"⟩, 52), (⟨"PromiseTriesModel", "onePlace", "()V"⟩, 52), (⟨"PromiseTriesModel", "readEnds", "()V"⟩, 52), (⟨"PromiseTriesModel", "readTimes", "()V"⟩, 52), (⟨"PromiseTriesModel", "readNumber", "(II)I"⟩, 52), (⟨"PromiseTriesModel", "repeats", "(II)V"⟩, 52), (⟨"PromiseTriesModel", "placesNow", "()I"⟩, 52)]
theorem lw_r4 : ∀ q ∈ lw_privs_4, lw_okq q := List.forall_mem_cons.mpr ⟨lw_p48, List.forall_mem_cons.mpr ⟨lw_p49, List.forall_mem_cons.mpr ⟨lw_p50, List.forall_mem_cons.mpr ⟨lw_p51, List.forall_mem_cons.mpr ⟨lw_p52, List.forall_mem_cons.mpr ⟨lw_p53, List.forall_mem_cons.mpr ⟨lw_p54, List.forall_mem_cons.mpr ⟨lw_p55, List.forall_mem_cons.mpr ⟨lw_p56, List.forall_mem_cons.mpr ⟨lw_p57, List.forall_mem_cons.mpr ⟨lw_p58, List.forall_mem_cons.mpr ⟨lw_p59, List.forall_mem_cons.mpr ⟨lw_p60, List.forall_mem_cons.mpr ⟨lw_p61, List.forall_mem_cons.mpr ⟨lw_p62, List.forall_mem_cons.mpr ⟨lw_p63, fun _ h => absurd h List.not_mem_nil⟩⟩⟩⟩⟩⟩⟩⟩⟩⟩⟩⟩⟩⟩⟩⟩
theorem lw_p64 : lw_okq (⟨"PromiseTriesModel", "follows", "(JJ)V"⟩, 52) := ⟨⟨by decide +kernel, by decide +kernel⟩, lw_t5 (List.mem_of_getElem? (i := 26) rfl), lw_t6 (List.mem_of_getElem? (i := 74) rfl), lw_t6 (List.mem_of_getElem? (i := 75) rfl)⟩
theorem lw_p65 : lw_okq (⟨"PromiseTriesModel", "chains", "(II)V"⟩, 52) := ⟨⟨by decide +kernel, by decide +kernel⟩, lw_t5 (List.mem_of_getElem? (i := 26) rfl), lw_t6 (List.mem_of_getElem? (i := 82) rfl), lw_t6 (List.mem_of_getElem? (i := 83) rfl)⟩
theorem lw_p66 : lw_okq (⟨"PromiseTriesModel", "takes", "(II)V"⟩, 52) := ⟨⟨by decide +kernel, by decide +kernel⟩, lw_t5 (List.mem_of_getElem? (i := 26) rfl), lw_t6 (List.mem_of_getElem? (i := 86) rfl), lw_t6 (List.mem_of_getElem? (i := 87) rfl)⟩
theorem lw_p67 : lw_okq (⟨"PromiseTriesModel", "chooses", "(II)V"⟩, 52) := ⟨⟨by decide +kernel, by decide +kernel⟩, lw_t5 (List.mem_of_getElem? (i := 26) rfl), lw_t6 (List.mem_of_getElem? (i := 93) rfl), lw_t6 (List.mem_of_getElem? (i := 94) rfl)⟩
theorem lw_p68 : lw_okq (⟨"PromiseTriesModel", "ends", "(I)V"⟩, 52) := ⟨⟨by decide +kernel, by decide +kernel⟩, lw_t5 (List.mem_of_getElem? (i := 26) rfl), lw_t6 (List.mem_of_getElem? (i := 97) rfl), lw_t6 (List.mem_of_getElem? (i := 98) rfl)⟩
theorem lw_p69 : lw_okq (⟨"PromiseTriesModel", "isFulfillable", "(II)Z"⟩, 52) := ⟨⟨by decide +kernel, by decide +kernel⟩, lw_t5 (List.mem_of_getElem? (i := 26) rfl), lw_t6 (List.mem_of_getElem? (i := 101) rfl), lw_t6 (List.mem_of_getElem? (i := 102) rfl)⟩
theorem lw_p70 : lw_okq (⟨"PromiseTriesModel", "isConditionAsked", "(III)Z"⟩, 52) := ⟨⟨by decide +kernel, by decide +kernel⟩, lw_t5 (List.mem_of_getElem? (i := 26) rfl), lw_t6 (List.mem_of_getElem? (i := 113) rfl), lw_t6 (List.mem_of_getElem? (i := 114) rfl)⟩
theorem lw_p71 : lw_okq (⟨"PromiseTriesModel", "isPromise", "(I)Z"⟩, 52) := ⟨⟨by decide +kernel, by decide +kernel⟩, lw_t5 (List.mem_of_getElem? (i := 26) rfl), lw_t6 (List.mem_of_getElem? (i := 117) rfl), lw_t6 (List.mem_of_getElem? (i := 118) rfl)⟩
theorem lw_p72 : lw_okq (⟨"PromiseTriesModel", "fulfilsOff", "(II)Z"⟩, 52) := ⟨⟨by decide +kernel, by decide +kernel⟩, lw_t5 (List.mem_of_getElem? (i := 26) rfl), lw_t6 (List.mem_of_getElem? (i := 126) rfl), lw_t6 (List.mem_of_getElem? (i := 127) rfl)⟩
theorem lw_p73 : lw_okq (⟨"PromiseTriesModel", "fulfilsOne", "(III)Z"⟩, 52) := ⟨⟨by decide +kernel, by decide +kernel⟩, lw_t5 (List.mem_of_getElem? (i := 26) rfl), lw_t6 (List.mem_of_getElem? (i := 130) rfl), lw_t6 (List.mem_of_getElem? (i := 131) rfl)⟩
theorem lw_p74 : lw_okq (⟨"PromiseTriesModel", "findsFulfilling", "(I)V"⟩, 52) := ⟨⟨by decide +kernel, by decide +kernel⟩, lw_t5 (List.mem_of_getElem? (i := 26) rfl), lw_t6 (List.mem_of_getElem? (i := 146) rfl), lw_t6 (List.mem_of_getElem? (i := 147) rfl)⟩
theorem lw_p75 : lw_okq (⟨"PromiseTriesModel", "firstOf", "(I)J"⟩, 52) := ⟨⟨by decide +kernel, by decide +kernel⟩, lw_t5 (List.mem_of_getElem? (i := 26) rfl), lw_t6 (List.mem_of_getElem? (i := 150) rfl), lw_t6 (List.mem_of_getElem? (i := 151) rfl)⟩
theorem lw_p76 : lw_okq (⟨"PromiseTriesModel", "nextOf", "(IJ)J"⟩, 52) := ⟨⟨by decide +kernel, by decide +kernel⟩, lw_t5 (List.mem_of_getElem? (i := 26) rfl), lw_t6 (List.mem_of_getElem? (i := 154) rfl), lw_t6 (List.mem_of_getElem? (i := 155) rfl)⟩
theorem lw_p77 : lw_okq (⟨"PromiseTriesModel", "isEnd", "(IJ)Z"⟩, 52) := ⟨⟨by decide +kernel, by decide +kernel⟩, lw_t5 (List.mem_of_getElem? (i := 26) rfl), lw_t6 (List.mem_of_getElem? (i := 158) rfl), lw_t6 (List.mem_of_getElem? (i := 159) rfl)⟩
theorem lw_p78 : lw_okq (⟨"PromiseTriesModel", "canEnd", "(IJ)Z"⟩, 52) := ⟨⟨by decide +kernel, by decide +kernel⟩, lw_t5 (List.mem_of_getElem? (i := 26) rfl), lw_t6 (List.mem_of_getElem? (i := 166) rfl), lw_t6 (List.mem_of_getElem? (i := 167) rfl)⟩
theorem lw_p79 : lw_okq (⟨"PromiseTriesModel", "isTry", "(II)Z"⟩, 52) := ⟨⟨by decide +kernel, by decide +kernel⟩, lw_t5 (List.mem_of_getElem? (i := 26) rfl), lw_t6 (List.mem_of_getElem? (i := 179) rfl), lw_t6 (List.mem_of_getElem? (i := 180) rfl)⟩
def lw_privs_5 : List (MethodName × Nat) := [(⟨"PromiseTriesModel", "follows", "(JJ)V"⟩, 52), (⟨"PromiseTriesModel", "chains", "(II)V"⟩, 52), (⟨"PromiseTriesModel", "takes", "(II)V"⟩, 52), (⟨"PromiseTriesModel", "chooses", "(II)V"⟩, 52), (⟨"PromiseTriesModel", "ends", "(I)V"⟩, 52), (⟨"PromiseTriesModel", "isFulfillable", "(II)Z"⟩, 52), (⟨"PromiseTriesModel", "isConditionAsked", "(III)Z"⟩, 52), (⟨"PromiseTriesModel", "isPromise", "(I)Z"⟩, 52), (⟨"PromiseTriesModel", "fulfilsOff", "(II)Z"⟩, 52), (⟨"PromiseTriesModel", "fulfilsOne", "(III)Z"⟩, 52), (⟨"PromiseTriesModel", "findsFulfilling", "(I)V"⟩, 52), (⟨"PromiseTriesModel", "firstOf", "(I)J"⟩, 52), (⟨"PromiseTriesModel", "nextOf", "(IJ)J"⟩, 52), (⟨"PromiseTriesModel", "isEnd", "(IJ)Z"⟩, 52), (⟨"PromiseTriesModel", "canEnd", "(IJ)Z"⟩, 52), (⟨"PromiseTriesModel", "isTry", "(II)Z"⟩, 52)]
theorem lw_r5 : ∀ q ∈ lw_privs_5, lw_okq q := List.forall_mem_cons.mpr ⟨lw_p64, List.forall_mem_cons.mpr ⟨lw_p65, List.forall_mem_cons.mpr ⟨lw_p66, List.forall_mem_cons.mpr ⟨lw_p67, List.forall_mem_cons.mpr ⟨lw_p68, List.forall_mem_cons.mpr ⟨lw_p69, List.forall_mem_cons.mpr ⟨lw_p70, List.forall_mem_cons.mpr ⟨lw_p71, List.forall_mem_cons.mpr ⟨lw_p72, List.forall_mem_cons.mpr ⟨lw_p73, List.forall_mem_cons.mpr ⟨lw_p74, List.forall_mem_cons.mpr ⟨lw_p75, List.forall_mem_cons.mpr ⟨lw_p76, List.forall_mem_cons.mpr ⟨lw_p77, List.forall_mem_cons.mpr ⟨lw_p78, List.forall_mem_cons.mpr ⟨lw_p79, fun _ h => absurd h List.not_mem_nil⟩⟩⟩⟩⟩⟩⟩⟩⟩⟩⟩⟩⟩⟩⟩⟩
theorem lw_p80 : lw_okq (⟨"PromiseTriesModel", "isTick", "(I)Z"⟩, 52) := ⟨⟨by decide +kernel, by decide +kernel⟩, lw_t5 (List.mem_of_getElem? (i := 26) rfl), lw_t6 (List.mem_of_getElem? (i := 183) rfl), lw_t6 (List.mem_of_getElem? (i := 184) rfl)⟩
theorem lw_p81 : lw_okq (⟨"PromiseTriesModel", "goesThrough", "(II)V"⟩, 52) := ⟨⟨by decide +kernel, by decide +kernel⟩, lw_t5 (List.mem_of_getElem? (i := 26) rfl), lw_t6 (List.mem_of_getElem? (i := 187) rfl), lw_t6 (List.mem_of_getElem? (i := 188) rfl)⟩
theorem lw_p82 : lw_okq (⟨"PromiseTriesModel", "goesOn", "(III)V"⟩, 52) := ⟨⟨by decide +kernel, by decide +kernel⟩, lw_t5 (List.mem_of_getElem? (i := 26) rfl), lw_t6 (List.mem_of_getElem? (i := 191) rfl), lw_t6 (List.mem_of_getElem? (i := 192) rfl)⟩
theorem lw_p83 : lw_okq (⟨"PromiseTriesModel", "dies", "(III)V"⟩, 52) := ⟨⟨by decide +kernel, by decide +kernel⟩, lw_t5 (List.mem_of_getElem? (i := 26) rfl), lw_t6 (List.mem_of_getElem? (i := 195) rfl), lw_t6 (List.mem_of_getElem? (i := 196) rfl)⟩
theorem lw_p84 : lw_okq (⟨"PromiseTriesModel", "begins", "(II)V"⟩, 52) := ⟨⟨by decide +kernel, by decide +kernel⟩, lw_t5 (List.mem_of_getElem? (i := 26) rfl), lw_t6 (List.mem_of_getElem? (i := 199) rfl), lw_t6 (List.mem_of_getElem? (i := 200) rfl)⟩
theorem lw_p85 : lw_okq (⟨"PromiseTriesModel", "verdictBy", "(IIIJ)I"⟩, 52) := ⟨⟨by decide +kernel, by decide +kernel⟩, lw_t5 (List.mem_of_getElem? (i := 26) rfl), lw_t6 (List.mem_of_getElem? (i := 203) rfl), lw_t6 (List.mem_of_getElem? (i := 204) rfl)⟩
theorem lw_p86 : lw_okq (⟨"PromiseTriesModel", "isAny", "(III)Z"⟩, 52) := ⟨⟨by decide +kernel, by decide +kernel⟩, lw_t5 (List.mem_of_getElem? (i := 26) rfl), lw_t6 (List.mem_of_getElem? (i := 207) rfl), lw_t6 (List.mem_of_getElem? (i := 208) rfl)⟩
theorem lw_p87 : lw_okq (⟨"PromiseTriesModel", "dutiesFrom", "(I)I"⟩, 52) := ⟨⟨by decide +kernel, by decide +kernel⟩, lw_t5 (List.mem_of_getElem? (i := 26) rfl), lw_t6 (List.mem_of_getElem? (i := 219) rfl), lw_t6 (List.mem_of_getElem? (i := 220) rfl)⟩
theorem lw_p88 : lw_okq (⟨"PromiseTriesModel", "triesOf", "(II)I"⟩, 52) := ⟨⟨by decide +kernel, by decide +kernel⟩, lw_t5 (List.mem_of_getElem? (i := 26) rfl), lw_t6 (List.mem_of_getElem? (i := 232) rfl), lw_t6 (List.mem_of_getElem? (i := 233) rfl)⟩
theorem lw_p89 : lw_okq (⟨"PromiseTriesModel", "allDuties", "()I"⟩, 52) := ⟨⟨by decide +kernel, by decide +kernel⟩, lw_t5 (List.mem_of_getElem? (i := 26) rfl), lw_t7 (List.mem_of_getElem? (i := 5) rfl), lw_t7 (List.mem_of_getElem? (i := 6) rfl)⟩
theorem lw_p90 : lw_okq (⟨"PromiseTriesModel", "allTries", "(I)I"⟩, 52) := ⟨⟨by decide +kernel, by decide +kernel⟩, lw_t5 (List.mem_of_getElem? (i := 26) rfl), lw_t7 (List.mem_of_getElem? (i := 9) rfl), lw_t7 (List.mem_of_getElem? (i := 10) rfl)⟩
theorem lw_p91 : lw_okq (⟨"PromiseTriesModel", "failedBy", "(I)I"⟩, 52) := ⟨⟨by decide +kernel, by decide +kernel⟩, lw_t5 (List.mem_of_getElem? (i := 26) rfl), lw_t7 (List.mem_of_getElem? (i := 17) rfl), lw_t7 (List.mem_of_getElem? (i := 18) rfl)⟩
theorem lw_p92 : lw_okq (⟨"PromiseTriesModel", "gets", "()I"⟩, 52) := ⟨⟨by decide +kernel, by decide +kernel⟩, lw_t5 (List.mem_of_getElem? (i := 26) rfl), lw_t7 (List.mem_of_getElem? (i := 38) rfl), lw_t7 (List.mem_of_getElem? (i := 39) rfl)⟩
def lw_privs_6 : List (MethodName × Nat) := [(⟨"PromiseTriesModel", "isTick", "(I)Z"⟩, 52), (⟨"PromiseTriesModel", "goesThrough", "(II)V"⟩, 52), (⟨"PromiseTriesModel", "goesOn", "(III)V"⟩, 52), (⟨"PromiseTriesModel", "dies", "(III)V"⟩, 52), (⟨"PromiseTriesModel", "begins", "(II)V"⟩, 52), (⟨"PromiseTriesModel", "verdictBy", "(IIIJ)I"⟩, 52), (⟨"PromiseTriesModel", "isAny", "(III)Z"⟩, 52), (⟨"PromiseTriesModel", "dutiesFrom", "(I)I"⟩, 52), (⟨"PromiseTriesModel", "triesOf", "(II)I"⟩, 52), (⟨"PromiseTriesModel", "allDuties", "()I"⟩, 52), (⟨"PromiseTriesModel", "allTries", "(I)I"⟩, 52), (⟨"PromiseTriesModel", "failedBy", "(I)I"⟩, 52), (⟨"PromiseTriesModel", "gets", "()I"⟩, 52)]
theorem lw_r6 : ∀ q ∈ lw_privs_6, lw_okq q := List.forall_mem_cons.mpr ⟨lw_p80, List.forall_mem_cons.mpr ⟨lw_p81, List.forall_mem_cons.mpr ⟨lw_p82, List.forall_mem_cons.mpr ⟨lw_p83, List.forall_mem_cons.mpr ⟨lw_p84, List.forall_mem_cons.mpr ⟨lw_p85, List.forall_mem_cons.mpr ⟨lw_p86, List.forall_mem_cons.mpr ⟨lw_p87, List.forall_mem_cons.mpr ⟨lw_p88, List.forall_mem_cons.mpr ⟨lw_p89, List.forall_mem_cons.mpr ⟨lw_p90, List.forall_mem_cons.mpr ⟨lw_p91, List.forall_mem_cons.mpr ⟨lw_p92, fun _ h => absurd h List.not_mem_nil⟩⟩⟩⟩⟩⟩⟩⟩⟩⟩⟩⟩⟩
def lw_privs : List (MethodName × Nat) := lw_privs_1 ++ (lw_privs_2 ++ (lw_privs_3 ++ (lw_privs_4 ++ (lw_privs_5 ++ (lw_privs_6)))))
def lw_tbl : List Cond := k2_sels lw_privs ++ tables_1
theorem lw_privs_ok : ∀ q ∈ lw_privs, lw_okq q := by
  show ∀ q ∈ lw_privs_1 ++ (lw_privs_2 ++ (lw_privs_3 ++ (lw_privs_4 ++ (lw_privs_5 ++ (lw_privs_6))))), lw_okq q
  exact List.forall_mem_append.mpr ⟨lw_r1, List.forall_mem_append.mpr ⟨lw_r2, List.forall_mem_append.mpr ⟨lw_r3, List.forall_mem_append.mpr ⟨lw_r4, List.forall_mem_append.mpr ⟨lw_r5, lw_r6⟩⟩⟩⟩⟩
-- ===== ONE list of words for every method: the tables' words that hold all through a run =====
def lw_all : List Cond := lw_tbl.filter goodWord
/-- a word of the tables by its place: claim/WORDS.tsv -/
theorem lw_w {w : Cond} (i : Nat) (h : lw_tbl[i]? = some w) (g : goodWord w = true) : w ∈ lw_all := List.mem_filter.mpr ⟨List.mem_of_getElem? h, g⟩
theorem lw_all_tbl {w : Cond} (h : w ∈ lw_all) : w ∈ lw_tbl := (List.mem_filter.mp h).1
theorem lw_self : GoodIn lw_all lw_all := fun w h => ⟨h, good_of_word (List.mem_filter.mp h).2⟩
/-- a class's field words, by their places -/
theorem lw_in (ws : List Cond) (ps : List Nat) (hp : ws = ps.filterMap (fun i => lw_tbl[i]?)) (hg : ws.all goodWord = true) : ∀ w ∈ ws, w ∈ lw_all := by
  intro w h
  have h1 := List.all_eq_true.mp hg w h
  rw [hp] at h
  obtain ⟨i, -, hi⟩ := List.mem_filterMap.mp h
  exact lw_w i hi h1
/-- the words of a contract for the method y with code b, L locals, answer r -/
abbrev ws_ (y : MethodName) (b : ByteArray) (L : Nat) (r : Option FieldType) : List Cond := Cond.code y b L r :: lw_all
theorem lw_meth {y : MethodName} {b : ByteArray} {L : Nat} {r : Option FieldType} (h : Cond.code y b L r ∈ lw_all) : GoodIn lw_all (ws_ y b L r) := by
  intro w hw
  rcases List.mem_cons.mp hw with e | e
  · rw [e]
    exact lw_self _ h
  · exact lw_self _ e
theorem lw_app {a c : List Cond} (ha : ∀ w ∈ a, w ∈ lw_all) (hc : GoodIn lw_all c) : GoodIn lw_all (a ++ c) := by
  intro w hw
  rcases List.mem_append.mp hw with e | e
  · exact lw_self w (ha w e)
  · exact hc w e
/-- what a call through an object asks: cwV n hts (lw_V ..) -/
theorem lw_V {own : String} {idx : Nat} {C : String} {y : MethodName} {b : ByteArray} {L : Nat} {r : Option FieldType} (h1 : Cond.methodLink own idx y ∈ lw_all) (h2 : Cond.instanceMethod y ∈ lw_all) (h3 : Cond.selects C y y ∈ lw_all) (h4 : Cond.initialized C ∈ lw_all) (h5 : Cond.code y b L r ∈ lw_all) : GoodIn lw_all (wsV own idx C y (ws_ y b L r)) := by
  refine lw_app ?_ (lw_meth h5)
  intro w hw
  simp only [List.mem_cons, List.not_mem_nil, or_false] at hw
  rcases hw with e | e | e | e
  · rw [e]; exact h1
  · rw [e]; exact h2
  · rw [e]; exact h3
  · rw [e]; exact h4
/-- what a static call asks: va_cwS n hts (lw_S ..) -/
theorem lw_S {own : String} {idx : Nat} {y : MethodName} {b : ByteArray} {L : Nat} {r : Option FieldType} (h1 : Cond.methodLink own idx y ∈ lw_all) (h2 : Cond.static y ∈ lw_all) (h3 : Cond.initialized y.cls ∈ lw_all) (h4 : Cond.code y b L r ∈ lw_all) : GoodIn lw_all (va_wsS own idx y (ws_ y b L r)) := by
  refine lw_app ?_ (lw_meth h4)
  intro w hw
  simp only [List.mem_cons, List.not_mem_nil, or_false] at hw
  rcases hw with e | e | e
  · rw [e]; exact h1
  · rw [e]; exact h2
  · rw [e]; exact h3
/-- the words of a contract for a method WITH HANDLERS (hh: its table) -/
abbrev wsW_ (y : MethodName) (b : ByteArray) (L : Nat) (r : Option FieldType) (hh : List (Nat × Nat × Nat × Nat)) : List Cond := Cond.codeWith y b L r hh :: lw_all
theorem lw_methW {y : MethodName} {b : ByteArray} {L : Nat} {r : Option FieldType} {hh : List (Nat × Nat × Nat × Nat)} (h : Cond.codeWith y b L r hh ∈ lw_all) : GoodIn lw_all (wsW_ y b L r hh) := by
  intro w hw
  rcases List.mem_cons.mp hw with e | e
  · rw [e]
    exact lw_self _ h
  · exact lw_self _ e
/-- any list of words by their places (lw_in), good -/
theorem lw_good {ws : List Cond} (h : ∀ w ∈ ws, w ∈ lw_all) : GoodIn lw_all ws := fun w hw => lw_self w (h w hw)
/-- what a call of a method with handlers asks: vx_cwVW n hts (lw_VW ..), vx_cwSW n hts (lw_SW ..) -/
theorem lw_VW {own : String} {idx : Nat} {C : String} {y : MethodName} {b : ByteArray} {L : Nat} {r : Option FieldType} {hh : List (Nat × Nat × Nat × Nat)} (h1 : Cond.methodLink own idx y ∈ lw_all) (h2 : Cond.instanceMethod y ∈ lw_all) (h3 : Cond.selects C y y ∈ lw_all) (h4 : Cond.initialized C ∈ lw_all) (h5 : Cond.codeWith y b L r hh ∈ lw_all) : GoodIn lw_all (wsV own idx C y (wsW_ y b L r hh)) := by
  refine lw_app ?_ (lw_methW h5)
  intro w hw
  simp only [List.mem_cons, List.not_mem_nil, or_false] at hw
  rcases hw with e | e | e | e
  · rw [e]; exact h1
  · rw [e]; exact h2
  · rw [e]; exact h3
  · rw [e]; exact h4
theorem lw_SW {own : String} {idx : Nat} {y : MethodName} {b : ByteArray} {L : Nat} {r : Option FieldType} {hh : List (Nat × Nat × Nat × Nat)} (h1 : Cond.methodLink own idx y ∈ lw_all) (h2 : Cond.static y ∈ lw_all) (h3 : Cond.initialized y.cls ∈ lw_all) (h4 : Cond.codeWith y b L r hh ∈ lw_all) : GoodIn lw_all (va_wsS own idx y (wsW_ y b L r hh)) := by
  refine lw_app ?_ (lw_methW h4)
  intro w hw
  simp only [List.mem_cons, List.not_mem_nil, or_false] at hw
  rcases hw with e | e | e
  · rw [e]; exact h1
  · rw [e]; exact h2
  · rw [e]; exact h3
/-- a word by its place in its run of the tables -/
theorem lw_at {r : List Cond} (hr : ∀ w ∈ r, w ∈ lw_tbl) {w : Cond} (i : Nat) (h : r[i]? = some w) : w ∈ lw_tbl := hr w (List.mem_of_getElem? h)
theorem lw_g {w : Cond} (h : w ∈ lw_tbl) (g : goodWord w = true) : w ∈ lw_all := List.mem_filter.mpr ⟨h, g⟩
theorem lw_ms : ∀ w ∈ k2_sels lw_privs, w ∈ lw_tbl := fun w h => show w ∈ k2_sels lw_privs ++ tables_1 from List.mem_append_left _ h
theorem lw_m1 : ∀ w ∈ tables_1_1, w ∈ lw_tbl := fun w h => show w ∈ k2_sels lw_privs ++ tables_1 from List.mem_append_right (k2_sels lw_privs) (show w ∈ tables_1 from List.mem_append_left _ h)
theorem lw_m2 : ∀ w ∈ tables_1_2, w ∈ lw_tbl := fun w h => show w ∈ k2_sels lw_privs ++ tables_1 from List.mem_append_right (k2_sels lw_privs) (show w ∈ tables_1 from List.mem_append_right _ (List.mem_append_left _ h))
theorem lw_m3 : ∀ w ∈ tables_1_3, w ∈ lw_tbl := fun w h => show w ∈ k2_sels lw_privs ++ tables_1 from List.mem_append_right (k2_sels lw_privs) (show w ∈ tables_1 from List.mem_append_right _ (List.mem_append_right _ (List.mem_append_left _ h)))
theorem lw_m4 : ∀ w ∈ tables_1_4, w ∈ lw_tbl := fun w h => show w ∈ k2_sels lw_privs ++ tables_1 from List.mem_append_right (k2_sels lw_privs) (show w ∈ tables_1 from List.mem_append_right _ (List.mem_append_right _ (List.mem_append_right _ (List.mem_append_left _ h))))
theorem lw_m5 : ∀ w ∈ tables_1_5, w ∈ lw_tbl := fun w h => show w ∈ k2_sels lw_privs ++ tables_1 from List.mem_append_right (k2_sels lw_privs) (show w ∈ tables_1 from List.mem_append_right _ (List.mem_append_right _ (List.mem_append_right _ (List.mem_append_right _ (List.mem_append_left _ h)))))
theorem lw_m6 : ∀ w ∈ tables_1_6, w ∈ lw_tbl := fun w h => show w ∈ k2_sels lw_privs ++ tables_1 from List.mem_append_right (k2_sels lw_privs) (show w ∈ tables_1 from List.mem_append_right _ (List.mem_append_right _ (List.mem_append_right _ (List.mem_append_right _ (List.mem_append_right _ (List.mem_append_left _ h))))))
theorem lw_m7 : ∀ w ∈ tables_1_7, w ∈ lw_tbl := fun w h => show w ∈ k2_sels lw_privs ++ tables_1 from List.mem_append_right (k2_sels lw_privs) (show w ∈ tables_1 from List.mem_append_right _ (List.mem_append_right _ (List.mem_append_right _ (List.mem_append_right _ (List.mem_append_right _ (List.mem_append_right _ h))))))
theorem qs0 : (Cond.selects "PromiseTries$Reader" ⟨"PromiseTries$Reader", "next", "()V"⟩ ⟨"PromiseTries$Reader", "next", "()V"⟩) ∈ lw_all := lw_g (lw_at lw_ms 0 rfl) rfl
theorem qs1 : (Cond.selects "PromiseTries$Reader" ⟨"PromiseTries$Reader", "at", "(I)I"⟩ ⟨"PromiseTries$Reader", "at", "(I)I"⟩) ∈ lw_all := lw_g (lw_at lw_ms 1 rfl) rfl
theorem qs2 : (Cond.selects "PromiseTries$Reader" ⟨"PromiseTries$Reader", "must", "(ZI)V"⟩ ⟨"PromiseTries$Reader", "must", "(ZI)V"⟩) ∈ lw_all := lw_g (lw_at lw_ms 2 rfl) rfl
theorem qs3 : (Cond.selects "java/lang/NullPointerException" ⟨"java/lang/NullPointerException", "getExtendedNPEMessage", "()Ljava/lang/String;"⟩ ⟨"java/lang/NullPointerException", "getExtendedNPEMessage", "()Ljava/lang/String;"⟩) ∈ lw_all := lw_g (lw_at lw_ms 3 rfl) rfl
theorem qs4 : (Cond.selects "java/lang/Throwable" ⟨"java/lang/Throwable", "fillInStackTrace", "(I)Ljava/lang/Throwable;"⟩ ⟨"java/lang/Throwable", "fillInStackTrace", "(I)Ljava/lang/Throwable;"⟩) ∈ lw_all := lw_g (lw_at lw_ms 4 rfl) rfl
theorem qs5 : (Cond.selects "PromiseTries$Reader" ⟨"PromiseTries$Reader", "promiseComes", "()V"⟩ ⟨"PromiseTries$Reader", "promiseComes", "()V"⟩) ∈ lw_all := lw_g (lw_at lw_ms 5 rfl) rfl
theorem qs6 : (Cond.selects "PromiseTries$Reader" ⟨"PromiseTries$Reader", "isSign", "(I)Z"⟩ ⟨"PromiseTries$Reader", "isSign", "(I)Z"⟩) ∈ lw_all := lw_g (lw_at lw_ms 6 rfl) rfl
theorem qs7 : (Cond.selects "PromiseTries$Reader" ⟨"PromiseTries$Reader", "side", "(LPromiseTries$Side;)V"⟩ ⟨"PromiseTries$Reader", "side", "(LPromiseTries$Side;)V"⟩) ∈ lw_all := lw_g (lw_at lw_ms 7 rfl) rfl
theorem qs8 : (Cond.selects "PromiseTries$Reader" ⟨"PromiseTries$Reader", "sequence", "()LPromiseTries$Node;"⟩ ⟨"PromiseTries$Reader", "sequence", "()LPromiseTries$Node;"⟩) ∈ lw_all := lw_g (lw_at lw_ms 8 rfl) rfl
theorem qs9 : (Cond.selects "PromiseTries$Reader" ⟨"PromiseTries$Reader", "thens", "()LPromiseTries$Node;"⟩ ⟨"PromiseTries$Reader", "thens", "()LPromiseTries$Node;"⟩) ∈ lw_all := lw_g (lw_at lw_ms 9 rfl) rfl
theorem qs10 : (Cond.selects "PromiseTries$Reader" ⟨"PromiseTries$Reader", "repeated", "()LPromiseTries$Node;"⟩ ⟨"PromiseTries$Reader", "repeated", "()LPromiseTries$Node;"⟩) ∈ lw_all := lw_g (lw_at lw_ms 10 rfl) rfl
theorem qs11 : (Cond.selects "PromiseTries$Reader" ⟨"PromiseTries$Reader", "atom", "()LPromiseTries$Node;"⟩ ⟨"PromiseTries$Reader", "atom", "()LPromiseTries$Node;"⟩) ∈ lw_all := lw_g (lw_at lw_ms 11 rfl) rfl
theorem qs12 : (Cond.selects "PromiseTries$Reader" ⟨"PromiseTries$Reader", "opens", "()V"⟩ ⟨"PromiseTries$Reader", "opens", "()V"⟩) ∈ lw_all := lw_g (lw_at lw_ms 12 rfl) rfl
theorem qs13 : (Cond.selects "PromiseTries$Reader" ⟨"PromiseTries$Reader", "closes", "(I)V"⟩ ⟨"PromiseTries$Reader", "closes", "(I)V"⟩) ∈ lw_all := lw_g (lw_at lw_ms 13 rfl) rfl
theorem qs14 : (Cond.selects "PromiseTries$Reader" ⟨"PromiseTries$Reader", "condition", "()LPromiseTries$Holds;"⟩ ⟨"PromiseTries$Reader", "condition", "()LPromiseTries$Holds;"⟩) ∈ lw_all := lw_g (lw_at lw_ms 14 rfl) rfl
theorem qs15 : (Cond.selects "PromiseTries$Reader" ⟨"PromiseTries$Reader", "wire", "()LPromiseTries$Holds;"⟩ ⟨"PromiseTries$Reader", "wire", "()LPromiseTries$Holds;"⟩) ∈ lw_all := lw_g (lw_at lw_ms 15 rfl) rfl
theorem qs16 : (Cond.selects "PromiseTries$Reader" ⟨"PromiseTries$Reader", "bracket", "()LPromiseTries$Holds;"⟩ ⟨"PromiseTries$Reader", "bracket", "()LPromiseTries$Holds;"⟩) ∈ lw_all := lw_g (lw_at lw_ms 16 rfl) rfl
theorem qs17 : (Cond.selects "PromiseTries$Reader" ⟨"PromiseTries$Reader", "ors", "()LPromiseTries$Holds;"⟩ ⟨"PromiseTries$Reader", "ors", "()LPromiseTries$Holds;"⟩) ∈ lw_all := lw_g (lw_at lw_ms 17 rfl) rfl
theorem qs18 : (Cond.selects "PromiseTries$Reader" ⟨"PromiseTries$Reader", "ands", "()LPromiseTries$Holds;"⟩ ⟨"PromiseTries$Reader", "ands", "()LPromiseTries$Holds;"⟩) ∈ lw_all := lw_g (lw_at lw_ms 18 rfl) rfl
theorem qs19 : (Cond.selects "PromiseTries$Reader" ⟨"PromiseTries$Reader", "number", "(II)I"⟩ ⟨"PromiseTries$Reader", "number", "(II)I"⟩) ∈ lw_all := lw_g (lw_at lw_ms 19 rfl) rfl
theorem qs20 : (Cond.selects "PromiseTries$Machine" ⟨"PromiseTries$Machine", "findsMore", "()V"⟩ ⟨"PromiseTries$Machine", "findsMore", "()V"⟩) ∈ lw_all := lw_g (lw_at lw_ms 20 rfl) rfl
theorem qs21 : (Cond.selects "PromiseTries$Machine" ⟨"PromiseTries$Machine", "isLeading", "(J)Z"⟩ ⟨"PromiseTries$Machine", "isLeading", "(J)Z"⟩) ∈ lw_all := lw_g (lw_at lw_ms 21 rfl) rfl
theorem qs22 : (Cond.selects "PromiseTries" ⟨"PromiseTries", "countedAll", "(I)I"⟩ ⟨"PromiseTries", "countedAll", "(I)I"⟩) ∈ lw_all := lw_g (lw_at lw_ms 22 rfl) rfl
theorem qs23 : (Cond.selects "PromiseTries" ⟨"PromiseTries", "runsAll", "()V"⟩ ⟨"PromiseTries", "runsAll", "()V"⟩) ∈ lw_all := lw_g (lw_at lw_ms 23 rfl) rfl
theorem qs24 : (Cond.selects "PromiseTries" ⟨"PromiseTries", "runs", "(LPromiseTries$Side;)V"⟩ ⟨"PromiseTries", "runs", "(LPromiseTries$Side;)V"⟩) ∈ lw_all := lw_g (lw_at lw_ms 24 rfl) rfl
theorem qs25 : (Cond.selects "PromiseTries" ⟨"PromiseTries", "judges", "(I)V"⟩ ⟨"PromiseTries", "judges", "(I)V"⟩) ∈ lw_all := lw_g (lw_at lw_ms 25 rfl) rfl
theorem qs26 : (Cond.selects "PromiseTries" ⟨"PromiseTries", "dutyOf", "(LPromiseTries$Promise;I)I"⟩ ⟨"PromiseTries", "dutyOf", "(LPromiseTries$Promise;I)I"⟩) ∈ lw_all := lw_g (lw_at lw_ms 26 rfl) rfl
theorem qs27 : (Cond.selects "PromiseTries" ⟨"PromiseTries", "firstEnd", "(LPromiseTries$Side;I)I"⟩ ⟨"PromiseTries", "firstEnd", "(LPromiseTries$Side;I)I"⟩) ∈ lw_all := lw_g (lw_at lw_ms 27 rfl) rfl
theorem qs28 : (Cond.selects "PromiseTries" ⟨"PromiseTries", "firstLost", "(LPromiseTries$Side;II)I"⟩ ⟨"PromiseTries", "firstLost", "(LPromiseTries$Side;II)I"⟩) ∈ lw_all := lw_g (lw_at lw_ms 28 rfl) rfl
theorem qs29 : (Cond.selects "PromiseTries" ⟨"PromiseTries", "judged", "(LPromiseTries$Promise;II[I)I"⟩ ⟨"PromiseTries", "judged", "(LPromiseTries$Promise;II[I)I"⟩) ∈ lw_all := lw_g (lw_at lw_ms 29 rfl) rfl
theorem qs30 : (Cond.selects "PromiseTries" ⟨"PromiseTries", "isDuty", "(LPromiseTries$Promise;II)Z"⟩ ⟨"PromiseTries", "isDuty", "(LPromiseTries$Promise;II)Z"⟩) ∈ lw_all := lw_g (lw_at lw_ms 30 rfl) rfl
theorem qs31 : (Cond.selects "PromiseTries" ⟨"PromiseTries", "counted", "(II)I"⟩ ⟨"PromiseTries", "counted", "(II)I"⟩) ∈ lw_all := lw_g (lw_at lw_ms 31 rfl) rfl
theorem qs32 : (Cond.selects "PromiseTries" ⟨"PromiseTries", "dutiesOf", "(II)I"⟩ ⟨"PromiseTries", "dutiesOf", "(II)I"⟩) ∈ lw_all := lw_g (lw_at lw_ms 32 rfl) rfl
theorem qs33 : (Cond.selects "PromiseTries" ⟨"PromiseTries", "isPromise", "(I)Z"⟩ ⟨"PromiseTries", "isPromise", "(I)Z"⟩) ∈ lw_all := lw_g (lw_at lw_ms 33 rfl) rfl
theorem qs34 : (Cond.selects "PromiseTries" ⟨"PromiseTries", "conditionOf", "(III)LPromiseTries$Holds;"⟩ ⟨"PromiseTries", "conditionOf", "(III)LPromiseTries$Holds;"⟩) ∈ lw_all := lw_g (lw_at lw_ms 34 rfl) rfl
theorem qs35 : (Cond.selects "PromiseTries" ⟨"PromiseTries", "isSide", "(III)Z"⟩ ⟨"PromiseTries", "isSide", "(III)Z"⟩) ∈ lw_all := lw_g (lw_at lw_ms 35 rfl) rfl
theorem qs36 : (Cond.selects "PromiseTries" ⟨"PromiseTries", "comes", "(I)V"⟩ ⟨"PromiseTries", "comes", "(I)V"⟩) ∈ lw_all := lw_g (lw_at lw_ms 36 rfl) rfl
theorem qs37 : (Cond.selects "PromiseTries" ⟨"PromiseTries", "failedBy", "(I)I"⟩ ⟨"PromiseTries", "failedBy", "(I)I"⟩) ∈ lw_all := lw_g (lw_at lw_ms 37 rfl) rfl
theorem qs38 : (Cond.selects "PromiseTries" ⟨"PromiseTries", "isTick", "(I)Z"⟩ ⟨"PromiseTries", "isTick", "(I)Z"⟩) ∈ lw_all := lw_g (lw_at lw_ms 38 rfl) rfl
theorem qs39 : (Cond.selects "PromiseTries" ⟨"PromiseTries", "got", "()I"⟩ ⟨"PromiseTries", "got", "()I"⟩) ∈ lw_all := lw_g (lw_at lw_ms 39 rfl) rfl
theorem qs40 : (Cond.selects "PromiseTries" ⟨"PromiseTries", "dutyAt", "(III)I"⟩ ⟨"PromiseTries", "dutyAt", "(III)I"⟩) ∈ lw_all := lw_g (lw_at lw_ms 40 rfl) rfl
theorem qs41 : (Cond.selects "PromiseTries" ⟨"PromiseTries", "comesBy", "(Ljava/lang/Object;LPromiseTries$Cells;II)I"⟩ ⟨"PromiseTries", "comesBy", "(Ljava/lang/Object;LPromiseTries$Cells;II)I"⟩) ∈ lw_all := lw_g (lw_at lw_ms 41 rfl) rfl
theorem qs42 : (Cond.selects "PromiseTriesModel" ⟨"PromiseTriesModel", "reads", "()V"⟩ ⟨"PromiseTriesModel", "reads", "()V"⟩) ∈ lw_all := lw_g (lw_at lw_ms 42 rfl) rfl
theorem qs43 : (Cond.selects "PromiseTriesModel" ⟨"PromiseTriesModel", "byteAt", "(I)I"⟩ ⟨"PromiseTriesModel", "byteAt", "(I)I"⟩) ∈ lw_all := lw_g (lw_at lw_ms 43 rfl) rfl
theorem qs44 : (Cond.selects "PromiseTriesModel" ⟨"PromiseTriesModel", "requires", "(ZI)V"⟩ ⟨"PromiseTriesModel", "requires", "(ZI)V"⟩) ∈ lw_all := lw_g (lw_at lw_ms 44 rfl) rfl
theorem qs45 : (Cond.selects "PromiseTriesModel" ⟨"PromiseTriesModel", "readPromise", "(I)V"⟩ ⟨"PromiseTriesModel", "readPromise", "(I)V"⟩) ∈ lw_all := lw_g (lw_at lw_ms 45 rfl) rfl
theorem qs46 : (Cond.selects "PromiseTriesModel" ⟨"PromiseTriesModel", "isBegin", "()Z"⟩ ⟨"PromiseTriesModel", "isBegin", "()Z"⟩) ∈ lw_all := lw_g (lw_at lw_ms 46 rfl) rfl
theorem qs47 : (Cond.selects "PromiseTriesModel" ⟨"PromiseTriesModel", "isSign", "(I)Z"⟩ ⟨"PromiseTriesModel", "isSign", "(I)Z"⟩) ∈ lw_all := lw_g (lw_at lw_ms 47 rfl) rfl
theorem qs48 : (Cond.selects "PromiseTriesModel" ⟨"PromiseTriesModel", "readSequence", "(I)V"⟩ ⟨"PromiseTriesModel", "readSequence", "(I)V"⟩) ∈ lw_all := lw_g (lw_at lw_ms 48 rfl) rfl
theorem qs49 : (Cond.selects "PromiseTriesModel" ⟨"PromiseTriesModel", "opensSequence", "()V"⟩ ⟨"PromiseTriesModel", "opensSequence", "()V"⟩) ∈ lw_all := lw_g (lw_at lw_ms 49 rfl) rfl
theorem qs50 : (Cond.selects "PromiseTriesModel" ⟨"PromiseTriesModel", "readBegin", "()V"⟩ ⟨"PromiseTriesModel", "readBegin", "()V"⟩) ∈ lw_all := lw_g (lw_at lw_ms 50 rfl) rfl
theorem qs51 : (Cond.selects "PromiseTriesModel" ⟨"PromiseTriesModel", "nests", "()V"⟩ ⟨"PromiseTriesModel", "nests", "()V"⟩) ∈ lw_all := lw_g (lw_at lw_ms 51 rfl) rfl
theorem qs52 : (Cond.selects "PromiseTriesModel" ⟨"PromiseTriesModel", "readCondition", "(Z)V"⟩ ⟨"PromiseTriesModel", "readCondition", "(Z)V"⟩) ∈ lw_all := lw_g (lw_at lw_ms 52 rfl) rfl
theorem qs53 : (Cond.selects "PromiseTriesModel" ⟨"PromiseTriesModel", "opensDepth", "()V"⟩ ⟨"PromiseTriesModel", "opensDepth", "()V"⟩) ∈ lw_all := lw_g (lw_at lw_ms 53 rfl) rfl
theorem qs54 : (Cond.selects "PromiseTriesModel" ⟨"PromiseTriesModel", "readOperand", "()V"⟩ ⟨"PromiseTriesModel", "readOperand", "()V"⟩) ∈ lw_all := lw_g (lw_at lw_ms 54 rfl) rfl
theorem qs55 : (Cond.selects "PromiseTriesModel" ⟨"PromiseTriesModel", "wires", "(I)V"⟩ ⟨"PromiseTriesModel", "wires", "(I)V"⟩) ∈ lw_all := lw_g (lw_at lw_ms 55 rfl) rfl
theorem qs56 : (Cond.selects "PromiseTriesModel" ⟨"PromiseTriesModel", "joinsAnds", "()V"⟩ ⟨"PromiseTriesModel", "joinsAnds", "()V"⟩) ∈ lw_all := lw_g (lw_at lw_ms 56 rfl) rfl
theorem qs57 : (Cond.selects "PromiseTriesModel" ⟨"PromiseTriesModel", "joinsOrs", "()V"⟩ ⟨"PromiseTriesModel", "joinsOrs", "()V"⟩) ∈ lw_all := lw_g (lw_at lw_ms 57 rfl) rfl
theorem qs58 : (Cond.selects "PromiseTriesModel" ⟨"PromiseTriesModel", "onePlace", "()V"⟩ ⟨"PromiseTriesModel", "onePlace", "()V"⟩) ∈ lw_all := lw_g (lw_at lw_ms 58 rfl) rfl
theorem qs59 : (Cond.selects "PromiseTriesModel" ⟨"PromiseTriesModel", "readEnds", "()V"⟩ ⟨"PromiseTriesModel", "readEnds", "()V"⟩) ∈ lw_all := lw_g (lw_at lw_ms 59 rfl) rfl
theorem qs60 : (Cond.selects "PromiseTriesModel" ⟨"PromiseTriesModel", "readTimes", "()V"⟩ ⟨"PromiseTriesModel", "readTimes", "()V"⟩) ∈ lw_all := lw_g (lw_at lw_ms 60 rfl) rfl
theorem qs61 : (Cond.selects "PromiseTriesModel" ⟨"PromiseTriesModel", "readNumber", "(II)I"⟩ ⟨"PromiseTriesModel", "readNumber", "(II)I"⟩) ∈ lw_all := lw_g (lw_at lw_ms 61 rfl) rfl
theorem qs62 : (Cond.selects "PromiseTriesModel" ⟨"PromiseTriesModel", "repeats", "(II)V"⟩ ⟨"PromiseTriesModel", "repeats", "(II)V"⟩) ∈ lw_all := lw_g (lw_at lw_ms 62 rfl) rfl
theorem qs63 : (Cond.selects "PromiseTriesModel" ⟨"PromiseTriesModel", "placesNow", "()I"⟩ ⟨"PromiseTriesModel", "placesNow", "()I"⟩) ∈ lw_all := lw_g (lw_at lw_ms 63 rfl) rfl
theorem qs64 : (Cond.selects "PromiseTriesModel" ⟨"PromiseTriesModel", "follows", "(JJ)V"⟩ ⟨"PromiseTriesModel", "follows", "(JJ)V"⟩) ∈ lw_all := lw_g (lw_at lw_ms 64 rfl) rfl
theorem qs65 : (Cond.selects "PromiseTriesModel" ⟨"PromiseTriesModel", "chains", "(II)V"⟩ ⟨"PromiseTriesModel", "chains", "(II)V"⟩) ∈ lw_all := lw_g (lw_at lw_ms 65 rfl) rfl
theorem qs66 : (Cond.selects "PromiseTriesModel" ⟨"PromiseTriesModel", "takes", "(II)V"⟩ ⟨"PromiseTriesModel", "takes", "(II)V"⟩) ∈ lw_all := lw_g (lw_at lw_ms 66 rfl) rfl
theorem qs67 : (Cond.selects "PromiseTriesModel" ⟨"PromiseTriesModel", "chooses", "(II)V"⟩ ⟨"PromiseTriesModel", "chooses", "(II)V"⟩) ∈ lw_all := lw_g (lw_at lw_ms 67 rfl) rfl
theorem qs68 : (Cond.selects "PromiseTriesModel" ⟨"PromiseTriesModel", "ends", "(I)V"⟩ ⟨"PromiseTriesModel", "ends", "(I)V"⟩) ∈ lw_all := lw_g (lw_at lw_ms 68 rfl) rfl
theorem qs69 : (Cond.selects "PromiseTriesModel" ⟨"PromiseTriesModel", "isFulfillable", "(II)Z"⟩ ⟨"PromiseTriesModel", "isFulfillable", "(II)Z"⟩) ∈ lw_all := lw_g (lw_at lw_ms 69 rfl) rfl
theorem qs70 : (Cond.selects "PromiseTriesModel" ⟨"PromiseTriesModel", "isConditionAsked", "(III)Z"⟩ ⟨"PromiseTriesModel", "isConditionAsked", "(III)Z"⟩) ∈ lw_all := lw_g (lw_at lw_ms 70 rfl) rfl
theorem qs71 : (Cond.selects "PromiseTriesModel" ⟨"PromiseTriesModel", "isPromise", "(I)Z"⟩ ⟨"PromiseTriesModel", "isPromise", "(I)Z"⟩) ∈ lw_all := lw_g (lw_at lw_ms 71 rfl) rfl
theorem qs72 : (Cond.selects "PromiseTriesModel" ⟨"PromiseTriesModel", "fulfilsOff", "(II)Z"⟩ ⟨"PromiseTriesModel", "fulfilsOff", "(II)Z"⟩) ∈ lw_all := lw_g (lw_at lw_ms 72 rfl) rfl
theorem qs73 : (Cond.selects "PromiseTriesModel" ⟨"PromiseTriesModel", "fulfilsOne", "(III)Z"⟩ ⟨"PromiseTriesModel", "fulfilsOne", "(III)Z"⟩) ∈ lw_all := lw_g (lw_at lw_ms 73 rfl) rfl
theorem qs74 : (Cond.selects "PromiseTriesModel" ⟨"PromiseTriesModel", "findsFulfilling", "(I)V"⟩ ⟨"PromiseTriesModel", "findsFulfilling", "(I)V"⟩) ∈ lw_all := lw_g (lw_at lw_ms 74 rfl) rfl
theorem qs75 : (Cond.selects "PromiseTriesModel" ⟨"PromiseTriesModel", "firstOf", "(I)J"⟩ ⟨"PromiseTriesModel", "firstOf", "(I)J"⟩) ∈ lw_all := lw_g (lw_at lw_ms 75 rfl) rfl
theorem qs76 : (Cond.selects "PromiseTriesModel" ⟨"PromiseTriesModel", "nextOf", "(IJ)J"⟩ ⟨"PromiseTriesModel", "nextOf", "(IJ)J"⟩) ∈ lw_all := lw_g (lw_at lw_ms 76 rfl) rfl
theorem qs77 : (Cond.selects "PromiseTriesModel" ⟨"PromiseTriesModel", "isEnd", "(IJ)Z"⟩ ⟨"PromiseTriesModel", "isEnd", "(IJ)Z"⟩) ∈ lw_all := lw_g (lw_at lw_ms 77 rfl) rfl
theorem qs78 : (Cond.selects "PromiseTriesModel" ⟨"PromiseTriesModel", "canEnd", "(IJ)Z"⟩ ⟨"PromiseTriesModel", "canEnd", "(IJ)Z"⟩) ∈ lw_all := lw_g (lw_at lw_ms 78 rfl) rfl
theorem qs79 : (Cond.selects "PromiseTriesModel" ⟨"PromiseTriesModel", "isTry", "(II)Z"⟩ ⟨"PromiseTriesModel", "isTry", "(II)Z"⟩) ∈ lw_all := lw_g (lw_at lw_ms 79 rfl) rfl
theorem qs80 : (Cond.selects "PromiseTriesModel" ⟨"PromiseTriesModel", "isTick", "(I)Z"⟩ ⟨"PromiseTriesModel", "isTick", "(I)Z"⟩) ∈ lw_all := lw_g (lw_at lw_ms 80 rfl) rfl
theorem qs81 : (Cond.selects "PromiseTriesModel" ⟨"PromiseTriesModel", "goesThrough", "(II)V"⟩ ⟨"PromiseTriesModel", "goesThrough", "(II)V"⟩) ∈ lw_all := lw_g (lw_at lw_ms 81 rfl) rfl
theorem qs82 : (Cond.selects "PromiseTriesModel" ⟨"PromiseTriesModel", "goesOn", "(III)V"⟩ ⟨"PromiseTriesModel", "goesOn", "(III)V"⟩) ∈ lw_all := lw_g (lw_at lw_ms 82 rfl) rfl
theorem qs83 : (Cond.selects "PromiseTriesModel" ⟨"PromiseTriesModel", "dies", "(III)V"⟩ ⟨"PromiseTriesModel", "dies", "(III)V"⟩) ∈ lw_all := lw_g (lw_at lw_ms 83 rfl) rfl
theorem qs84 : (Cond.selects "PromiseTriesModel" ⟨"PromiseTriesModel", "begins", "(II)V"⟩ ⟨"PromiseTriesModel", "begins", "(II)V"⟩) ∈ lw_all := lw_g (lw_at lw_ms 84 rfl) rfl
theorem qs85 : (Cond.selects "PromiseTriesModel" ⟨"PromiseTriesModel", "verdictBy", "(IIIJ)I"⟩ ⟨"PromiseTriesModel", "verdictBy", "(IIIJ)I"⟩) ∈ lw_all := lw_g (lw_at lw_ms 85 rfl) rfl
theorem qs86 : (Cond.selects "PromiseTriesModel" ⟨"PromiseTriesModel", "isAny", "(III)Z"⟩ ⟨"PromiseTriesModel", "isAny", "(III)Z"⟩) ∈ lw_all := lw_g (lw_at lw_ms 86 rfl) rfl
theorem qs87 : (Cond.selects "PromiseTriesModel" ⟨"PromiseTriesModel", "dutiesFrom", "(I)I"⟩ ⟨"PromiseTriesModel", "dutiesFrom", "(I)I"⟩) ∈ lw_all := lw_g (lw_at lw_ms 87 rfl) rfl
theorem qs88 : (Cond.selects "PromiseTriesModel" ⟨"PromiseTriesModel", "triesOf", "(II)I"⟩ ⟨"PromiseTriesModel", "triesOf", "(II)I"⟩) ∈ lw_all := lw_g (lw_at lw_ms 88 rfl) rfl
theorem qs89 : (Cond.selects "PromiseTriesModel" ⟨"PromiseTriesModel", "allDuties", "()I"⟩ ⟨"PromiseTriesModel", "allDuties", "()I"⟩) ∈ lw_all := lw_g (lw_at lw_ms 89 rfl) rfl
theorem qs90 : (Cond.selects "PromiseTriesModel" ⟨"PromiseTriesModel", "allTries", "(I)I"⟩ ⟨"PromiseTriesModel", "allTries", "(I)I"⟩) ∈ lw_all := lw_g (lw_at lw_ms 90 rfl) rfl
theorem qs91 : (Cond.selects "PromiseTriesModel" ⟨"PromiseTriesModel", "failedBy", "(I)I"⟩ ⟨"PromiseTriesModel", "failedBy", "(I)I"⟩) ∈ lw_all := lw_g (lw_at lw_ms 91 rfl) rfl
theorem qs92 : (Cond.selects "PromiseTriesModel" ⟨"PromiseTriesModel", "gets", "()I"⟩ ⟨"PromiseTriesModel", "gets", "()I"⟩) ∈ lw_all := lw_g (lw_at lw_ms 92 rfl) rfl
