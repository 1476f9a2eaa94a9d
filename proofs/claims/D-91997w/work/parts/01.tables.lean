/-- a private method of a class that the tables say can be made, by its rows of tables_1 -/
def lw_okq (q : MethodName × Nat) : Prop := (q.1.cls ≠ "java/lang/invoke/MethodHandle" ∧ q.1.cls ≠ "java/lang/invoke/VarHandle") ∧ Cond.instantiable q.1.cls q.2 ∈ tables_1 ∧ Cond.privateMethod q.1 ∈ tables_1 ∧ Cond.instanceMethod q.1 ∈ tables_1
set_option maxRecDepth 100000
theorem lw_t1 {w : Cond} (h : w ∈ tables_1_1) : w ∈ tables_1 := List.mem_append_left _ h
theorem lw_t2 {w : Cond} (h : w ∈ tables_1_2) : w ∈ tables_1 := List.mem_append_right _ (List.mem_append_left _ h)
theorem lw_t3 {w : Cond} (h : w ∈ tables_1_3) : w ∈ tables_1 := List.mem_append_right _ (List.mem_append_right _ (List.mem_append_left _ h))
theorem lw_t4 {w : Cond} (h : w ∈ tables_1_4) : w ∈ tables_1 := List.mem_append_right _ (List.mem_append_right _ (List.mem_append_right _ (List.mem_append_left _ h)))
theorem lw_t5 {w : Cond} (h : w ∈ tables_1_5) : w ∈ tables_1 := List.mem_append_right _ (List.mem_append_right _ (List.mem_append_right _ (List.mem_append_right _ (List.mem_append_left _ h))))
theorem lw_t6 {w : Cond} (h : w ∈ tables_1_6) : w ∈ tables_1 := List.mem_append_right _ (List.mem_append_right _ (List.mem_append_right _ (List.mem_append_right _ (List.mem_append_right _ (List.mem_append_left _ h)))))
theorem lw_t7 {w : Cond} (h : w ∈ tables_1_7) : w ∈ tables_1 := List.mem_append_right _ (List.mem_append_right _ (List.mem_append_right _ (List.mem_append_right _ (List.mem_append_right _ (List.mem_append_right _ (List.mem_append_left _ h))))))
theorem lw_t8 {w : Cond} (h : w ∈ tables_1_8) : w ∈ tables_1 := List.mem_append_right _ (List.mem_append_right _ (List.mem_append_right _ (List.mem_append_right _ (List.mem_append_right _ (List.mem_append_right _ (List.mem_append_right _ (List.mem_append_left _ h)))))))
theorem lw_t9 {w : Cond} (h : w ∈ tables_1_9) : w ∈ tables_1 := List.mem_append_right _ (List.mem_append_right _ (List.mem_append_right _ (List.mem_append_right _ (List.mem_append_right _ (List.mem_append_right _ (List.mem_append_right _ (List.mem_append_right _ h)))))))
theorem lw_p0 : lw_okq (⟨"SaidSo", "put", "(I)V"⟩, 21) := ⟨⟨by decide +kernel, by decide +kernel⟩, lw_t1 (List.mem_of_getElem? (i := 38) rfl), lw_t1 (List.mem_of_getElem? (i := 221) rfl), lw_t1 (List.mem_of_getElem? (i := 222) rfl)⟩
theorem lw_p1 : lw_okq (⟨"SaidSo$Reader", "next", "()V"⟩, 8) := ⟨⟨by decide +kernel, by decide +kernel⟩, lw_t1 (List.mem_of_getElem? (i := 46) rfl), lw_t1 (List.mem_of_getElem? (i := 239) rfl), lw_t2 (List.mem_of_getElem? (i := 0) rfl)⟩
theorem lw_p2 : lw_okq (⟨"SaidSo$Reader", "here", "()I"⟩, 8) := ⟨⟨by decide +kernel, by decide +kernel⟩, lw_t1 (List.mem_of_getElem? (i := 46) rfl), lw_t2 (List.mem_of_getElem? (i := 3) rfl), lw_t2 (List.mem_of_getElem? (i := 4) rfl)⟩
theorem lw_p3 : lw_okq (⟨"SaidSo$Reader", "word", "()I"⟩, 8) := ⟨⟨by decide +kernel, by decide +kernel⟩, lw_t1 (List.mem_of_getElem? (i := 46) rfl), lw_t2 (List.mem_of_getElem? (i := 8) rfl), lw_t2 (List.mem_of_getElem? (i := 9) rfl)⟩
theorem lw_p4 : lw_okq (⟨"SaidSo$Reader", "name", "()V"⟩, 8) := ⟨⟨by decide +kernel, by decide +kernel⟩, lw_t1 (List.mem_of_getElem? (i := 46) rfl), lw_t2 (List.mem_of_getElem? (i := 62) rfl), lw_t2 (List.mem_of_getElem? (i := 63) rfl)⟩
theorem lw_p5 : lw_okq (⟨"SaidSo$Reader", "sign", "()V"⟩, 8) := ⟨⟨by decide +kernel, by decide +kernel⟩, lw_t1 (List.mem_of_getElem? (i := 46) rfl), lw_t2 (List.mem_of_getElem? (i := 66) rfl), lw_t2 (List.mem_of_getElem? (i := 67) rfl)⟩
theorem lw_p6 : lw_okq (⟨"SaidSo$Reader", "line", "()V"⟩, 8) := ⟨⟨by decide +kernel, by decide +kernel⟩, lw_t1 (List.mem_of_getElem? (i := 46) rfl), lw_t2 (List.mem_of_getElem? (i := 130) rfl), lw_t2 (List.mem_of_getElem? (i := 131) rfl)⟩
theorem lw_p7 : lw_okq (⟨"SaidSo$Reader", "isWord", "(II)Z"⟩, 8) := ⟨⟨by decide +kernel, by decide +kernel⟩, lw_t1 (List.mem_of_getElem? (i := 46) rfl), lw_t2 (List.mem_of_getElem? (i := 134) rfl), lw_t2 (List.mem_of_getElem? (i := 135) rfl)⟩
theorem lw_p8 : lw_okq (⟨"SaidSo$Reader", "wrong", "(I)LSaidSo$Fault;"⟩, 8) := ⟨⟨by decide +kernel, by decide +kernel⟩, lw_t1 (List.mem_of_getElem? (i := 46) rfl), lw_t2 (List.mem_of_getElem? (i := 138) rfl), lw_t2 (List.mem_of_getElem? (i := 139) rfl)⟩
theorem lw_p9 : lw_okq (⟨"java/lang/Throwable", "fillInStackTrace", "(I)Ljava/lang/Throwable;"⟩, 6) := ⟨⟨by decide +kernel, by decide +kernel⟩, lw_t2 (List.mem_of_getElem? (i := 180) rfl), lw_t2 (List.mem_of_getElem? (i := 178) rfl), lw_t2 (List.mem_of_getElem? (i := 179) rfl)⟩
theorem lw_p10 : lw_okq (⟨"SaidSo$Reader", "thing", "()V"⟩, 8) := ⟨⟨by decide +kernel, by decide +kernel⟩, lw_t1 (List.mem_of_getElem? (i := 46) rfl), lw_t2 (List.mem_of_getElem? (i := 217) rfl), lw_t2 (List.mem_of_getElem? (i := 218) rfl)⟩
theorem lw_p11 : lw_okq (⟨"SaidSo$Reader", "fresh", "(Z)I"⟩, 8) := ⟨⟨by decide +kernel, by decide +kernel⟩, lw_t1 (List.mem_of_getElem? (i := 46) rfl), lw_t2 (List.mem_of_getElem? (i := 221) rfl), lw_t2 (List.mem_of_getElem? (i := 222) rfl)⟩
theorem lw_p12 : lw_okq (⟨"SaidSo$Reader", "number", "(II)I"⟩, 8) := ⟨⟨by decide +kernel, by decide +kernel⟩, lw_t1 (List.mem_of_getElem? (i := 46) rfl), lw_t3 (List.mem_of_getElem? (i := 8) rfl), lw_t3 (List.mem_of_getElem? (i := 9) rfl)⟩
theorem lw_p13 : lw_okq (⟨"SaidSo$Reader", "wants", "(I)V"⟩, 8) := ⟨⟨by decide +kernel, by decide +kernel⟩, lw_t1 (List.mem_of_getElem? (i := 46) rfl), lw_t3 (List.mem_of_getElem? (i := 12) rfl), lw_t3 (List.mem_of_getElem? (i := 13) rfl)⟩
theorem lw_p14 : lw_okq (⟨"java/util/ArrayList", "add", "(Ljava/lang/Object;[Ljava/lang/Object;I)V"⟩, 3) := ⟨⟨by decide +kernel, by decide +kernel⟩, lw_t1 (List.mem_of_getElem? (i := 84) rfl), lw_t3 (List.mem_of_getElem? (i := 51) rfl), lw_t3 (List.mem_of_getElem? (i := 52) rfl)⟩
theorem lw_p15 : lw_okq (⟨"java/util/ArrayList", "grow", "()[Ljava/lang/Object;"⟩, 3) := ⟨⟨by decide +kernel, by decide +kernel⟩, lw_t1 (List.mem_of_getElem? (i := 84) rfl), lw_t3 (List.mem_of_getElem? (i := 55) rfl), lw_t3 (List.mem_of_getElem? (i := 56) rfl)⟩
def lw_privs_1 : List (MethodName × Nat) := [(⟨"SaidSo", "put", "(I)V"⟩, 21), (⟨"SaidSo$Reader", "next", "()V"⟩, 8), (⟨"SaidSo$Reader", "here", "()I"⟩, 8), (⟨"SaidSo$Reader", "word", "()I"⟩, 8), (⟨"SaidSo$Reader", "name", "()V"⟩, 8), (⟨"SaidSo$Reader", "sign", "()V"⟩, 8), (⟨"SaidSo$Reader", "line", "()V"⟩, 8), (⟨"SaidSo$Reader", "isWord", "(II)Z"⟩, 8), (⟨"SaidSo$Reader", "wrong", "(I)LSaidSo$Fault;"⟩, 8), (⟨"java/lang/Throwable", "fillInStackTrace", "(I)Ljava/lang/Throwable;"⟩, 6), (⟨"SaidSo$Reader", "thing", "()V"⟩, 8), (⟨"SaidSo$Reader", "fresh", "(Z)I"⟩, 8), (⟨"SaidSo$Reader", "number", "(II)I"⟩, 8), (⟨"SaidSo$Reader", "wants", "(I)V"⟩, 8), (⟨"java/util/ArrayList", "add", "(Ljava/lang/Object;[Ljava/lang/Object;I)V"⟩, 3), (⟨"java/util/ArrayList", "grow", "()[Ljava/lang/Object;"⟩, 3)]
theorem lw_r1 : ∀ q ∈ lw_privs_1, lw_okq q := List.forall_mem_cons.mpr ⟨lw_p0, List.forall_mem_cons.mpr ⟨lw_p1, List.forall_mem_cons.mpr ⟨lw_p2, List.forall_mem_cons.mpr ⟨lw_p3, List.forall_mem_cons.mpr ⟨lw_p4, List.forall_mem_cons.mpr ⟨lw_p5, List.forall_mem_cons.mpr ⟨lw_p6, List.forall_mem_cons.mpr ⟨lw_p7, List.forall_mem_cons.mpr ⟨lw_p8, List.forall_mem_cons.mpr ⟨lw_p9, List.forall_mem_cons.mpr ⟨lw_p10, List.forall_mem_cons.mpr ⟨lw_p11, List.forall_mem_cons.mpr ⟨lw_p12, List.forall_mem_cons.mpr ⟨lw_p13, List.forall_mem_cons.mpr ⟨lw_p14, List.forall_mem_cons.mpr ⟨lw_p15, fun _ h => absurd h List.not_mem_nil⟩⟩⟩⟩⟩⟩⟩⟩⟩⟩⟩⟩⟩⟩⟩⟩
theorem lw_p16 : lw_okq (⟨"java/util/ArrayList", "grow", "(I)[Ljava/lang/Object;"⟩, 3) := ⟨⟨by decide +kernel, by decide +kernel⟩, lw_t1 (List.mem_of_getElem? (i := 84) rfl), lw_t3 (List.mem_of_getElem? (i := 59) rfl), lw_t3 (List.mem_of_getElem? (i := 60) rfl)⟩
theorem lw_p17 : lw_okq (⟨"SaidSo$Reader", "teller", "()V"⟩, 8) := ⟨⟨by decide +kernel, by decide +kernel⟩, lw_t1 (List.mem_of_getElem? (i := 46) rfl), lw_t3 (List.mem_of_getElem? (i := 109) rfl), lw_t3 (List.mem_of_getElem? (i := 110) rfl)⟩
theorem lw_p18 : lw_okq (⟨"SaidSo$Reader", "talk", "(Z)V"⟩, 8) := ⟨⟨by decide +kernel, by decide +kernel⟩, lw_t1 (List.mem_of_getElem? (i := 46) rfl), lw_t3 (List.mem_of_getElem? (i := 145) rfl), lw_t3 (List.mem_of_getElem? (i := 146) rfl)⟩
theorem lw_p19 : lw_okq (⟨"SaidSo$Reader", "told", "(Z)I"⟩, 8) := ⟨⟨by decide +kernel, by decide +kernel⟩, lw_t1 (List.mem_of_getElem? (i := 46) rfl), lw_t3 (List.mem_of_getElem? (i := 149) rfl), lw_t3 (List.mem_of_getElem? (i := 150) rfl)⟩
theorem lw_p20 : lw_okq (⟨"SaidSo$Reader", "page", "()V"⟩, 8) := ⟨⟨by decide +kernel, by decide +kernel⟩, lw_t1 (List.mem_of_getElem? (i := 46) rfl), lw_t3 (List.mem_of_getElem? (i := 225) rfl), lw_t3 (List.mem_of_getElem? (i := 226) rfl)⟩
theorem lw_p21 : lw_okq (⟨"SaidSo$Reader", "or", "()LSaidSo$Part;"⟩, 8) := ⟨⟨by decide +kernel, by decide +kernel⟩, lw_t1 (List.mem_of_getElem? (i := 46) rfl), lw_t4 (List.mem_of_getElem? (i := 8) rfl), lw_t4 (List.mem_of_getElem? (i := 9) rfl)⟩
theorem lw_p22 : lw_okq (⟨"SaidSo$Reader", "and", "()LSaidSo$Part;"⟩, 8) := ⟨⟨by decide +kernel, by decide +kernel⟩, lw_t1 (List.mem_of_getElem? (i := 46) rfl), lw_t4 (List.mem_of_getElem? (i := 12) rfl), lw_t4 (List.mem_of_getElem? (i := 13) rfl)⟩
theorem lw_p23 : lw_okq (⟨"SaidSo$Reader", "not", "()LSaidSo$Part;"⟩, 8) := ⟨⟨by decide +kernel, by decide +kernel⟩, lw_t1 (List.mem_of_getElem? (i := 46) rfl), lw_t4 (List.mem_of_getElem? (i := 16) rfl), lw_t4 (List.mem_of_getElem? (i := 17) rfl)⟩
theorem lw_p24 : lw_okq (⟨"SaidSo$Reader", "compare", "()LSaidSo$Part;"⟩, 8) := ⟨⟨by decide +kernel, by decide +kernel⟩, lw_t1 (List.mem_of_getElem? (i := 46) rfl), lw_t4 (List.mem_of_getElem? (i := 20) rfl), lw_t4 (List.mem_of_getElem? (i := 21) rfl)⟩
theorem lw_p25 : lw_okq (⟨"SaidSo$Reader", "sum", "()LSaidSo$Part;"⟩, 8) := ⟨⟨by decide +kernel, by decide +kernel⟩, lw_t1 (List.mem_of_getElem? (i := 46) rfl), lw_t4 (List.mem_of_getElem? (i := 24) rfl), lw_t4 (List.mem_of_getElem? (i := 25) rfl)⟩
theorem lw_p26 : lw_okq (⟨"SaidSo$Reader", "product", "()LSaidSo$Part;"⟩, 8) := ⟨⟨by decide +kernel, by decide +kernel⟩, lw_t1 (List.mem_of_getElem? (i := 46) rfl), lw_t4 (List.mem_of_getElem? (i := 28) rfl), lw_t4 (List.mem_of_getElem? (i := 29) rfl)⟩
theorem lw_p27 : lw_okq (⟨"SaidSo$Reader", "one", "()LSaidSo$Part;"⟩, 8) := ⟨⟨by decide +kernel, by decide +kernel⟩, lw_t1 (List.mem_of_getElem? (i := 46) rfl), lw_t4 (List.mem_of_getElem? (i := 32) rfl), lw_t4 (List.mem_of_getElem? (i := 33) rfl)⟩
theorem lw_p28 : lw_okq (⟨"SaidSo$Reader", "isSign", "(I)Z"⟩, 8) := ⟨⟨by decide +kernel, by decide +kernel⟩, lw_t1 (List.mem_of_getElem? (i := 46) rfl), lw_t4 (List.mem_of_getElem? (i := 36) rfl), lw_t4 (List.mem_of_getElem? (i := 37) rfl)⟩
theorem lw_p29 : lw_okq (⟨"SaidSo$Reader", "knot", "()V"⟩, 8) := ⟨⟨by decide +kernel, by decide +kernel⟩, lw_t1 (List.mem_of_getElem? (i := 46) rfl), lw_t4 (List.mem_of_getElem? (i := 40) rfl), lw_t4 (List.mem_of_getElem? (i := 41) rfl)⟩
theorem lw_p30 : lw_okq (⟨"SaidSo$Reader", "sign2", "()I"⟩, 8) := ⟨⟨by decide +kernel, by decide +kernel⟩, lw_t1 (List.mem_of_getElem? (i := 46) rfl), lw_t4 (List.mem_of_getElem? (i := 67) rfl), lw_t4 (List.mem_of_getElem? (i := 68) rfl)⟩
theorem lw_p31 : lw_okq (⟨"SaidSo", "isTeller", "(I)Z"⟩, 21) := ⟨⟨by decide +kernel, by decide +kernel⟩, lw_t1 (List.mem_of_getElem? (i := 38) rfl), lw_t4 (List.mem_of_getElem? (i := 111) rfl), lw_t4 (List.mem_of_getElem? (i := 112) rfl)⟩
def lw_privs_2 : List (MethodName × Nat) := [(⟨"java/util/ArrayList", "grow", "(I)[Ljava/lang/Object;"⟩, 3), (⟨"SaidSo$Reader", "teller", "()V"⟩, 8), (⟨"SaidSo$Reader", "talk", "(Z)V"⟩, 8), (⟨"SaidSo$Reader", "told", "(Z)I"⟩, 8), (⟨"SaidSo$Reader", "page", "()V"⟩, 8), (⟨"SaidSo$Reader", "or", "()LSaidSo$Part;"⟩, 8), (⟨"SaidSo$Reader", "and", "()LSaidSo$Part;"⟩, 8), (⟨"SaidSo$Reader", "not", "()LSaidSo$Part;"⟩, 8), (⟨"SaidSo$Reader", "compare", "()LSaidSo$Part;"⟩, 8), (⟨"SaidSo$Reader", "sum", "()LSaidSo$Part;"⟩, 8), (⟨"SaidSo$Reader", "product", "()LSaidSo$Part;"⟩, 8), (⟨"SaidSo$Reader", "one", "()LSaidSo$Part;"⟩, 8), (⟨"SaidSo$Reader", "isSign", "(I)Z"⟩, 8), (⟨"SaidSo$Reader", "knot", "()V"⟩, 8), (⟨"SaidSo$Reader", "sign2", "()I"⟩, 8), (⟨"SaidSo", "isTeller", "(I)Z"⟩, 21)]
theorem lw_r2 : ∀ q ∈ lw_privs_2, lw_okq q := List.forall_mem_cons.mpr ⟨lw_p16, List.forall_mem_cons.mpr ⟨lw_p17, List.forall_mem_cons.mpr ⟨lw_p18, List.forall_mem_cons.mpr ⟨lw_p19, List.forall_mem_cons.mpr ⟨lw_p20, List.forall_mem_cons.mpr ⟨lw_p21, List.forall_mem_cons.mpr ⟨lw_p22, List.forall_mem_cons.mpr ⟨lw_p23, List.forall_mem_cons.mpr ⟨lw_p24, List.forall_mem_cons.mpr ⟨lw_p25, List.forall_mem_cons.mpr ⟨lw_p26, List.forall_mem_cons.mpr ⟨lw_p27, List.forall_mem_cons.mpr ⟨lw_p28, List.forall_mem_cons.mpr ⟨lw_p29, List.forall_mem_cons.mpr ⟨lw_p30, List.forall_mem_cons.mpr ⟨lw_p31, fun _ h => absurd h List.not_mem_nil⟩⟩⟩⟩⟩⟩⟩⟩⟩⟩⟩⟩⟩⟩⟩⟩
theorem lw_p32 : lw_okq (⟨"SaidSo", "isHeard", "(I)Z"⟩, 21) := ⟨⟨by decide +kernel, by decide +kernel⟩, lw_t1 (List.mem_of_getElem? (i := 38) rfl), lw_t4 (List.mem_of_getElem? (i := 122) rfl), lw_t4 (List.mem_of_getElem? (i := 123) rfl)⟩
theorem lw_p33 : lw_okq (⟨"SaidSo", "isThing", "(I)Z"⟩, 21) := ⟨⟨by decide +kernel, by decide +kernel⟩, lw_t1 (List.mem_of_getElem? (i := 38) rfl), lw_t4 (List.mem_of_getElem? (i := 139) rfl), lw_t4 (List.mem_of_getElem? (i := 140) rfl)⟩
theorem lw_p34 : lw_okq (⟨"java/util/ArrayList", "fastRemove", "([Ljava/lang/Object;I)V"⟩, 3) := ⟨⟨by decide +kernel, by decide +kernel⟩, lw_t1 (List.mem_of_getElem? (i := 84) rfl), lw_t4 (List.mem_of_getElem? (i := 158) rfl), lw_t4 (List.mem_of_getElem? (i := 159) rfl)⟩
theorem lw_p35 : lw_okq (⟨"SaidSo", "aWord", "(I)LSaidSo$Word;"⟩, 21) := ⟨⟨by decide +kernel, by decide +kernel⟩, lw_t1 (List.mem_of_getElem? (i := 38) rfl), lw_t4 (List.mem_of_getElem? (i := 175) rfl), lw_t4 (List.mem_of_getElem? (i := 176) rfl)⟩
theorem lw_p36 : lw_okq (⟨"SaidSo", "bitsOf", "(I)I"⟩, 21) := ⟨⟨by decide +kernel, by decide +kernel⟩, lw_t1 (List.mem_of_getElem? (i := 38) rfl), lw_t4 (List.mem_of_getElem? (i := 179) rfl), lw_t4 (List.mem_of_getElem? (i := 180) rfl)⟩
theorem lw_p37 : lw_okq (⟨"SaidSo", "isFirst", "(IZ)Z"⟩, 21) := ⟨⟨by decide +kernel, by decide +kernel⟩, lw_t1 (List.mem_of_getElem? (i := 38) rfl), lw_t4 (List.mem_of_getElem? (i := 187) rfl), lw_t4 (List.mem_of_getElem? (i := 188) rfl)⟩
theorem lw_p38 : lw_okq (⟨"SaidSo", "word", "(III)LSaidSo$Word;"⟩, 21) := ⟨⟨by decide +kernel, by decide +kernel⟩, lw_t1 (List.mem_of_getElem? (i := 38) rfl), lw_t4 (List.mem_of_getElem? (i := 191) rfl), lw_t4 (List.mem_of_getElem? (i := 192) rfl)⟩
theorem lw_p39 : lw_okq (⟨"SaidSo", "heard", "(III)LSaidSo$Line;"⟩, 21) := ⟨⟨by decide +kernel, by decide +kernel⟩, lw_t1 (List.mem_of_getElem? (i := 38) rfl), lw_t4 (List.mem_of_getElem? (i := 195) rfl), lw_t4 (List.mem_of_getElem? (i := 196) rfl)⟩
theorem lw_p40 : lw_okq (⟨"SaidSo", "counts", "(LSaidSo$Line;Z)Z"⟩, 21) := ⟨⟨by decide +kernel, by decide +kernel⟩, lw_t1 (List.mem_of_getElem? (i := 38) rfl), lw_t4 (List.mem_of_getElem? (i := 199) rfl), lw_t4 (List.mem_of_getElem? (i := 200) rfl)⟩
theorem lw_p41 : lw_okq (⟨"SaidSo", "ledBy", "(I)I"⟩, 21) := ⟨⟨by decide +kernel, by decide +kernel⟩, lw_t1 (List.mem_of_getElem? (i := 38) rfl), lw_t4 (List.mem_of_getElem? (i := 207) rfl), lw_t4 (List.mem_of_getElem? (i := 208) rfl)⟩
theorem lw_p42 : lw_okq (⟨"SaidSo", "weigh", "(JJ)V"⟩, 21) := ⟨⟨by decide +kernel, by decide +kernel⟩, lw_t1 (List.mem_of_getElem? (i := 38) rfl), lw_t5 (List.mem_of_getElem? (i := 26) rfl), lw_t5 (List.mem_of_getElem? (i := 27) rfl)⟩
theorem lw_p43 : lw_okq (⟨"SaidSo", "weigh", "(LSaidSo$Thing;Z)V"⟩, 21) := ⟨⟨by decide +kernel, by decide +kernel⟩, lw_t1 (List.mem_of_getElem? (i := 38) rfl), lw_t5 (List.mem_of_getElem? (i := 33) rfl), lw_t5 (List.mem_of_getElem? (i := 34) rfl)⟩
theorem lw_p44 : lw_okq (⟨"SaidSo", "firstPage", "(II)LSaidSo$Page;"⟩, 21) := ⟨⟨by decide +kernel, by decide +kernel⟩, lw_t1 (List.mem_of_getElem? (i := 38) rfl), lw_t5 (List.mem_of_getElem? (i := 38) rfl), lw_t5 (List.mem_of_getElem? (i := 39) rfl)⟩
theorem lw_p45 : lw_okq (⟨"SaidSo", "kindOf", "(LSaidSo$Page;)I"⟩, 21) := ⟨⟨by decide +kernel, by decide +kernel⟩, lw_t1 (List.mem_of_getElem? (i := 38) rfl), lw_t5 (List.mem_of_getElem? (i := 47) rfl), lw_t5 (List.mem_of_getElem? (i := 48) rfl)⟩
theorem lw_p46 : lw_okq (⟨"SaidSo", "latest", "(II)LSaidSo$Word;"⟩, 21) := ⟨⟨by decide +kernel, by decide +kernel⟩, lw_t1 (List.mem_of_getElem? (i := 38) rfl), lw_t5 (List.mem_of_getElem? (i := 51) rfl), lw_t5 (List.mem_of_getElem? (i := 52) rfl)⟩
theorem lw_p47 : lw_okq (⟨"SaidSo", "said", "(III)I"⟩, 21) := ⟨⟨by decide +kernel, by decide +kernel⟩, lw_t1 (List.mem_of_getElem? (i := 38) rfl), lw_t5 (List.mem_of_getElem? (i := 55) rfl), lw_t5 (List.mem_of_getElem? (i := 56) rfl)⟩
def lw_privs_3 : List (MethodName × Nat) := [(⟨"SaidSo", "isHeard", "(I)Z"⟩, 21), (⟨"SaidSo", "isThing", "(I)Z"⟩, 21), (⟨"java/util/ArrayList", "fastRemove", "([Ljava/lang/Object;I)V"⟩, 3), (⟨"SaidSo", "aWord", "(I)LSaidSo$Word;"⟩, 21), (⟨"SaidSo", "bitsOf", "(I)I"⟩, 21), (⟨"SaidSo", "isFirst", "(IZ)Z"⟩, 21), (⟨"SaidSo", "word", "(III)LSaidSo$Word;"⟩, 21), (⟨"SaidSo", "heard", "(III)LSaidSo$Line;"⟩, 21), (⟨"SaidSo", "counts", "(LSaidSo$Line;Z)Z"⟩, 21), (⟨"SaidSo", "ledBy", "(I)I"⟩, 21), (⟨"SaidSo", "weigh", "(JJ)V"⟩, 21), (⟨"SaidSo", "weigh", "(LSaidSo$Thing;Z)V"⟩, 21), (⟨"SaidSo", "firstPage", "(II)LSaidSo$Page;"⟩, 21), (⟨"SaidSo", "kindOf", "(LSaidSo$Page;)I"⟩, 21), (⟨"SaidSo", "latest", "(II)LSaidSo$Word;"⟩, 21), (⟨"SaidSo", "said", "(III)I"⟩, 21)]
theorem lw_r3 : ∀ q ∈ lw_privs_3, lw_okq q := List.forall_mem_cons.mpr ⟨lw_p32, List.forall_mem_cons.mpr ⟨lw_p33, List.forall_mem_cons.mpr ⟨lw_p34, List.forall_mem_cons.mpr ⟨lw_p35, List.forall_mem_cons.mpr ⟨lw_p36, List.forall_mem_cons.mpr ⟨lw_p37, List.forall_mem_cons.mpr ⟨lw_p38, List.forall_mem_cons.mpr ⟨lw_p39, List.forall_mem_cons.mpr ⟨lw_p40, List.forall_mem_cons.mpr ⟨lw_p41, List.forall_mem_cons.mpr ⟨lw_p42, List.forall_mem_cons.mpr ⟨lw_p43, List.forall_mem_cons.mpr ⟨lw_p44, List.forall_mem_cons.mpr ⟨lw_p45, List.forall_mem_cons.mpr ⟨lw_p46, List.forall_mem_cons.mpr ⟨lw_p47, fun _ h => absurd h List.not_mem_nil⟩⟩⟩⟩⟩⟩⟩⟩⟩⟩⟩⟩⟩⟩⟩⟩
theorem lw_p48 : lw_okq (⟨"SaidSo", "hasPage", "(III)Z"⟩, 21) := ⟨⟨by decide +kernel, by decide +kernel⟩, lw_t1 (List.mem_of_getElem? (i := 38) rfl), lw_t5 (List.mem_of_getElem? (i := 63) rfl), lw_t5 (List.mem_of_getElem? (i := 64) rfl)⟩
theorem lw_p49 : lw_okq (⟨"SaidSo", "storyOf", "(II)I"⟩, 21) := ⟨⟨by decide +kernel, by decide +kernel⟩, lw_t1 (List.mem_of_getElem? (i := 38) rfl), lw_t5 (List.mem_of_getElem? (i := 76) rfl), lw_t5 (List.mem_of_getElem? (i := 77) rfl)⟩
theorem lw_p50 : lw_okq (⟨"SaidSo", "clashes", "(II)I"⟩, 21) := ⟨⟨by decide +kernel, by decide +kernel⟩, lw_t1 (List.mem_of_getElem? (i := 38) rfl), lw_t5 (List.mem_of_getElem? (i := 84) rfl), lw_t5 (List.mem_of_getElem? (i := 85) rfl)⟩
theorem lw_p51 : lw_okq (⟨"SaidSo", "lawAt", "(I)I"⟩, 21) := ⟨⟨by decide +kernel, by decide +kernel⟩, lw_t1 (List.mem_of_getElem? (i := 38) rfl), lw_t5 (List.mem_of_getElem? (i := 111) rfl), lw_t5 (List.mem_of_getElem? (i := 112) rfl)⟩
theorem lw_p52 : lw_okq (⟨"SaidSo", "nothing", "(LSaidSo$Teller;)V"⟩, 21) := ⟨⟨by decide +kernel, by decide +kernel⟩, lw_t1 (List.mem_of_getElem? (i := 38) rfl), lw_t5 (List.mem_of_getElem? (i := 116) rfl), lw_t5 (List.mem_of_getElem? (i := 117) rfl)⟩
theorem lw_p53 : lw_okq (⟨"SaidSo", "countAsks", "(IIZ)V"⟩, 21) := ⟨⟨by decide +kernel, by decide +kernel⟩, lw_t1 (List.mem_of_getElem? (i := 38) rfl), lw_t5 (List.mem_of_getElem? (i := 126) rfl), lw_t5 (List.mem_of_getElem? (i := 127) rfl)⟩
theorem lw_p54 : lw_okq (⟨"SaidSo", "putAhead", "(I)I"⟩, 21) := ⟨⟨by decide +kernel, by decide +kernel⟩, lw_t1 (List.mem_of_getElem? (i := 38) rfl), lw_t5 (List.mem_of_getElem? (i := 176) rfl), lw_t5 (List.mem_of_getElem? (i := 177) rfl)⟩
theorem lw_p55 : lw_okq (⟨"SaidSo", "next", "(I)I"⟩, 21) := ⟨⟨by decide +kernel, by decide +kernel⟩, lw_t1 (List.mem_of_getElem? (i := 38) rfl), lw_t5 (List.mem_of_getElem? (i := 180) rfl), lw_t5 (List.mem_of_getElem? (i := 181) rfl)⟩
theorem lw_p56 : lw_okq (⟨"SaidSo", "isBarred", "(I)Z"⟩, 21) := ⟨⟨by decide +kernel, by decide +kernel⟩, lw_t1 (List.mem_of_getElem? (i := 38) rfl), lw_t5 (List.mem_of_getElem? (i := 190) rfl), lw_t5 (List.mem_of_getElem? (i := 191) rfl)⟩
theorem lw_p57 : lw_okq (⟨"SaidSo", "hearTalk", "(IZ)V"⟩, 21) := ⟨⟨by decide +kernel, by decide +kernel⟩, lw_t1 (List.mem_of_getElem? (i := 38) rfl), lw_t5 (List.mem_of_getElem? (i := 194) rfl), lw_t5 (List.mem_of_getElem? (i := 195) rfl)⟩
theorem lw_p58 : lw_okq (⟨"SaidSo", "countWords", "(IZ)V"⟩, 21) := ⟨⟨by decide +kernel, by decide +kernel⟩, lw_t1 (List.mem_of_getElem? (i := 38) rfl), lw_t5 (List.mem_of_getElem? (i := 198) rfl), lw_t5 (List.mem_of_getElem? (i := 199) rfl)⟩
theorem lw_p59 : lw_okq (⟨"SaidSo", "holds", "(I)Z"⟩, 21) := ⟨⟨by decide +kernel, by decide +kernel⟩, lw_t1 (List.mem_of_getElem? (i := 38) rfl), lw_t5 (List.mem_of_getElem? (i := 202) rfl), lw_t5 (List.mem_of_getElem? (i := 203) rfl)⟩
theorem lw_p60 : lw_okq (⟨"SaidSo", "finds", "(II)Z"⟩, 21) := ⟨⟨by decide +kernel, by decide +kernel⟩, lw_t1 (List.mem_of_getElem? (i := 38) rfl), lw_t5 (List.mem_of_getElem? (i := 210) rfl), lw_t5 (List.mem_of_getElem? (i := 211) rfl)⟩
theorem lw_p61 : lw_okq (⟨"SaidSo", "hearPage", "(I)V"⟩, 21) := ⟨⟨by decide +kernel, by decide +kernel⟩, lw_t1 (List.mem_of_getElem? (i := 38) rfl), lw_t5 (List.mem_of_getElem? (i := 214) rfl), lw_t5 (List.mem_of_getElem? (i := 215) rfl)⟩
theorem lw_p62 : lw_okq (⟨"SaidSoModel", "plain", "()V"⟩, 66) := ⟨⟨by decide +kernel, by decide +kernel⟩, lw_t6 (List.mem_of_getElem? (i := 65) rfl), lw_t6 (List.mem_of_getElem? (i := 71) rfl), lw_t6 (List.mem_of_getElem? (i := 72) rfl)⟩
theorem lw_p63 : lw_okq (⟨"SaidSoModel", "keep", "()V"⟩, 66) := ⟨⟨by decide +kernel, by decide +kernel⟩, lw_t6 (List.mem_of_getElem? (i := 65) rfl), lw_t6 (List.mem_of_getElem? (i := 75) rfl), lw_t6 (List.mem_of_getElem? (i := 76) rfl)⟩
def lw_privs_4 : List (MethodName × Nat) := [(⟨"SaidSo", "hasPage", "(III)Z"⟩, 21), (⟨"SaidSo", "storyOf", "(II)I"⟩, 21), (⟨"SaidSo", "clashes", "(II)I"⟩, 21), (⟨"SaidSo", "lawAt", "(I)I"⟩, 21), (⟨"SaidSo", "nothing", "(LSaidSo$Teller;)V"⟩, 21), (⟨"SaidSo", "countAsks", "(IIZ)V"⟩, 21), (⟨"SaidSo", "putAhead", "(I)I"⟩, 21), (⟨"SaidSo", "next", "(I)I"⟩, 21), (⟨"SaidSo", "isBarred", "(I)Z"⟩, 21), (⟨"SaidSo", "hearTalk", "(IZ)V"⟩, 21), (⟨"SaidSo", "countWords", "(IZ)V"⟩, 21), (⟨"SaidSo", "holds", "(I)Z"⟩, 21), (⟨"SaidSo", "finds", "(II)Z"⟩, 21), (⟨"SaidSo", "hearPage", "(I)V"⟩, 21), (⟨"SaidSoModel", "plain", "()V"⟩, 66), (⟨"SaidSoModel", "keep", "()V"⟩, 66)]
theorem lw_r4 : ∀ q ∈ lw_privs_4, lw_okq q := List.forall_mem_cons.mpr ⟨lw_p48, List.forall_mem_cons.mpr ⟨lw_p49, List.forall_mem_cons.mpr ⟨lw_p50, List.forall_mem_cons.mpr ⟨lw_p51, List.forall_mem_cons.mpr ⟨lw_p52, List.forall_mem_cons.mpr ⟨lw_p53, List.forall_mem_cons.mpr ⟨lw_p54, List.forall_mem_cons.mpr ⟨lw_p55, List.forall_mem_cons.mpr ⟨lw_p56, List.forall_mem_cons.mpr ⟨lw_p57, List.forall_mem_cons.mpr ⟨lw_p58, List.forall_mem_cons.mpr ⟨lw_p59, List.forall_mem_cons.mpr ⟨lw_p60, List.forall_mem_cons.mpr ⟨lw_p61, List.forall_mem_cons.mpr ⟨lw_p62, List.forall_mem_cons.mpr ⟨lw_p63, fun _ h => absurd h List.not_mem_nil⟩⟩⟩⟩⟩⟩⟩⟩⟩⟩⟩⟩⟩⟩⟩⟩
theorem lw_p64 : lw_okq (⟨"SaidSoModel", "copies", "(II)V"⟩, 66) := ⟨⟨by decide +kernel, by decide +kernel⟩, lw_t6 (List.mem_of_getElem? (i := 65) rfl), lw_t6 (List.mem_of_getElem? (i := 79) rfl), lw_t6 (List.mem_of_getElem? (i := 80) rfl)⟩
theorem lw_p65 : lw_okq (⟨"SaidSoModel", "take", "()V"⟩, 66) := ⟨⟨by decide +kernel, by decide +kernel⟩, lw_t6 (List.mem_of_getElem? (i := 65) rfl), lw_t7 (List.mem_of_getElem? (i := 55) rfl), lw_t7 (List.mem_of_getElem? (i := 56) rfl)⟩
theorem lw_p66 : lw_okq (⟨"SaidSoModel", "isSmall", "(I)Z"⟩, 66) := ⟨⟨by decide +kernel, by decide +kernel⟩, lw_t6 (List.mem_of_getElem? (i := 65) rfl), lw_t7 (List.mem_of_getElem? (i := 59) rfl), lw_t7 (List.mem_of_getElem? (i := 60) rfl)⟩
theorem lw_p67 : lw_okq (⟨"SaidSoModel", "wordAt", "(II)I"⟩, 66) := ⟨⟨by decide +kernel, by decide +kernel⟩, lw_t6 (List.mem_of_getElem? (i := 65) rfl), lw_t7 (List.mem_of_getElem? (i := 63) rfl), lw_t7 (List.mem_of_getElem? (i := 64) rfl)⟩
theorem lw_p68 : lw_okq (⟨"SaidSoModel", "packed", "(II)I"⟩, 66) := ⟨⟨by decide +kernel, by decide +kernel⟩, lw_t6 (List.mem_of_getElem? (i := 65) rfl), lw_t7 (List.mem_of_getElem? (i := 67) rfl), lw_t7 (List.mem_of_getElem? (i := 68) rfl)⟩
theorem lw_p69 : lw_okq (⟨"SaidSoModel", "isDigit", "(I)Z"⟩, 66) := ⟨⟨by decide +kernel, by decide +kernel⟩, lw_t6 (List.mem_of_getElem? (i := 65) rfl), lw_t7 (List.mem_of_getElem? (i := 71) rfl), lw_t7 (List.mem_of_getElem? (i := 72) rfl)⟩
theorem lw_p70 : lw_okq (⟨"SaidSoModel", "takeSign", "()V"⟩, 66) := ⟨⟨by decide +kernel, by decide +kernel⟩, lw_t6 (List.mem_of_getElem? (i := 65) rfl), lw_t7 (List.mem_of_getElem? (i := 75) rfl), lw_t7 (List.mem_of_getElem? (i := 76) rfl)⟩
theorem lw_p71 : lw_okq (⟨"SaidSoModel", "lineRead", "()Z"⟩, 66) := ⟨⟨by decide +kernel, by decide +kernel⟩, lw_t6 (List.mem_of_getElem? (i := 65) rfl), lw_t7 (List.mem_of_getElem? (i := 79) rfl), lw_t7 (List.mem_of_getElem? (i := 80) rfl)⟩
theorem lw_p72 : lw_okq (⟨"SaidSoModel", "wrong", "(I)Z"⟩, 66) := ⟨⟨by decide +kernel, by decide +kernel⟩, lw_t6 (List.mem_of_getElem? (i := 65) rfl), lw_t7 (List.mem_of_getElem? (i := 83) rfl), lw_t7 (List.mem_of_getElem? (i := 84) rfl)⟩
theorem lw_p73 : lw_okq (⟨"SaidSoModel", "thingLine", "()Z"⟩, 66) := ⟨⟨by decide +kernel, by decide +kernel⟩, lw_t6 (List.mem_of_getElem? (i := 65) rfl), lw_t7 (List.mem_of_getElem? (i := 87) rfl), lw_t7 (List.mem_of_getElem? (i := 88) rfl)⟩
theorem lw_p74 : lw_okq (⟨"SaidSoModel", "newName", "([III)Z"⟩, 66) := ⟨⟨by decide +kernel, by decide +kernel⟩, lw_t6 (List.mem_of_getElem? (i := 65) rfl), lw_t7 (List.mem_of_getElem? (i := 91) rfl), lw_t7 (List.mem_of_getElem? (i := 92) rfl)⟩
theorem lw_p75 : lw_okq (⟨"SaidSoModel", "find", "([IIII)I"⟩, 66) := ⟨⟨by decide +kernel, by decide +kernel⟩, lw_t6 (List.mem_of_getElem? (i := 65) rfl), lw_t7 (List.mem_of_getElem? (i := 95) rfl), lw_t7 (List.mem_of_getElem? (i := 96) rfl)⟩
theorem lw_p76 : lw_okq (⟨"SaidSoModel", "numberRead", "(II)Z"⟩, 66) := ⟨⟨by decide +kernel, by decide +kernel⟩, lw_t6 (List.mem_of_getElem? (i := 65) rfl), lw_t7 (List.mem_of_getElem? (i := 99) rfl), lw_t7 (List.mem_of_getElem? (i := 100) rfl)⟩
theorem lw_p77 : lw_okq (⟨"SaidSoModel", "keyRead", "(I)Z"⟩, 66) := ⟨⟨by decide +kernel, by decide +kernel⟩, lw_t6 (List.mem_of_getElem? (i := 65) rfl), lw_t7 (List.mem_of_getElem? (i := 103) rfl), lw_t7 (List.mem_of_getElem? (i := 104) rfl)⟩
theorem lw_p78 : lw_okq (⟨"SaidSoModel", "isKey", "(I)Z"⟩, 66) := ⟨⟨by decide +kernel, by decide +kernel⟩, lw_t6 (List.mem_of_getElem? (i := 65) rfl), lw_t7 (List.mem_of_getElem? (i := 107) rfl), lw_t7 (List.mem_of_getElem? (i := 108) rfl)⟩
theorem lw_p79 : lw_okq (⟨"SaidSoModel", "tellerLine", "()Z"⟩, 66) := ⟨⟨by decide +kernel, by decide +kernel⟩, lw_t6 (List.mem_of_getElem? (i := 65) rfl), lw_t7 (List.mem_of_getElem? (i := 111) rfl), lw_t7 (List.mem_of_getElem? (i := 112) rfl)⟩
def lw_privs_5 : List (MethodName × Nat) := [(⟨"SaidSoModel", "copies", "(II)V"⟩, 66), (⟨"SaidSoModel", "take", "()V"⟩, 66), (⟨"SaidSoModel", "isSmall", "(I)Z"⟩, 66), (⟨"SaidSoModel", "wordAt", "(II)I"⟩, 66), (⟨"SaidSoModel", "packed", "(II)I"⟩, 66), (⟨"SaidSoModel", "isDigit", "(I)Z"⟩, 66), (⟨"SaidSoModel", "takeSign", "()V"⟩, 66), (⟨"SaidSoModel", "lineRead", "()Z"⟩, 66), (⟨"SaidSoModel", "wrong", "(I)Z"⟩, 66), (⟨"SaidSoModel", "thingLine", "()Z"⟩, 66), (⟨"SaidSoModel", "newName", "([III)Z"⟩, 66), (⟨"SaidSoModel", "find", "([IIII)I"⟩, 66), (⟨"SaidSoModel", "numberRead", "(II)Z"⟩, 66), (⟨"SaidSoModel", "keyRead", "(I)Z"⟩, 66), (⟨"SaidSoModel", "isKey", "(I)Z"⟩, 66), (⟨"SaidSoModel", "tellerLine", "()Z"⟩, 66)]
theorem lw_r5 : ∀ q ∈ lw_privs_5, lw_okq q := List.forall_mem_cons.mpr ⟨lw_p64, List.forall_mem_cons.mpr ⟨lw_p65, List.forall_mem_cons.mpr ⟨lw_p66, List.forall_mem_cons.mpr ⟨lw_p67, List.forall_mem_cons.mpr ⟨lw_p68, List.forall_mem_cons.mpr ⟨lw_p69, List.forall_mem_cons.mpr ⟨lw_p70, List.forall_mem_cons.mpr ⟨lw_p71, List.forall_mem_cons.mpr ⟨lw_p72, List.forall_mem_cons.mpr ⟨lw_p73, List.forall_mem_cons.mpr ⟨lw_p74, List.forall_mem_cons.mpr ⟨lw_p75, List.forall_mem_cons.mpr ⟨lw_p76, List.forall_mem_cons.mpr ⟨lw_p77, List.forall_mem_cons.mpr ⟨lw_p78, List.forall_mem_cons.mpr ⟨lw_p79, fun _ h => absurd h List.not_mem_nil⟩⟩⟩⟩⟩⟩⟩⟩⟩⟩⟩⟩⟩⟩⟩⟩
theorem lw_p80 : lw_okq (⟨"SaidSoModel", "talkLine", "(Z)Z"⟩, 66) := ⟨⟨by decide +kernel, by decide +kernel⟩, lw_t6 (List.mem_of_getElem? (i := 65) rfl), lw_t7 (List.mem_of_getElem? (i := 115) rfl), lw_t7 (List.mem_of_getElem? (i := 116) rfl)⟩
theorem lw_p81 : lw_okq (⟨"SaidSoModel", "there", "([III)Z"⟩, 66) := ⟨⟨by decide +kernel, by decide +kernel⟩, lw_t6 (List.mem_of_getElem? (i := 65) rfl), lw_t7 (List.mem_of_getElem? (i := 119) rfl), lw_t7 (List.mem_of_getElem? (i := 120) rfl)⟩
theorem lw_p82 : lw_okq (⟨"SaidSoModel", "latestHour", "(III)I"⟩, 66) := ⟨⟨by decide +kernel, by decide +kernel⟩, lw_t6 (List.mem_of_getElem? (i := 65) rfl), lw_t7 (List.mem_of_getElem? (i := 123) rfl), lw_t7 (List.mem_of_getElem? (i := 124) rfl)⟩
theorem lw_p83 : lw_okq (⟨"SaidSoModel", "pageLine", "()Z"⟩, 66) := ⟨⟨by decide +kernel, by decide +kernel⟩, lw_t6 (List.mem_of_getElem? (i := 65) rfl), lw_t7 (List.mem_of_getElem? (i := 127) rfl), lw_t7 (List.mem_of_getElem? (i := 128) rfl)⟩
theorem lw_p84 : lw_okq (⟨"SaidSoModel", "sumLine", "()Z"⟩, 66) := ⟨⟨by decide +kernel, by decide +kernel⟩, lw_t6 (List.mem_of_getElem? (i := 65) rfl), lw_t7 (List.mem_of_getElem? (i := 131) rfl), lw_t7 (List.mem_of_getElem? (i := 132) rfl)⟩
theorem lw_p85 : lw_okq (⟨"SaidSoModel", "isSign", "(I)Z"⟩, 66) := ⟨⟨by decide +kernel, by decide +kernel⟩, lw_t6 (List.mem_of_getElem? (i := 65) rfl), lw_t7 (List.mem_of_getElem? (i := 135) rfl), lw_t7 (List.mem_of_getElem? (i := 136) rfl)⟩
theorem lw_p86 : lw_okq (⟨"SaidSoModel", "leafRead", "()Z"⟩, 66) := ⟨⟨by decide +kernel, by decide +kernel⟩, lw_t6 (List.mem_of_getElem? (i := 65) rfl), lw_t7 (List.mem_of_getElem? (i := 139) rfl), lw_t7 (List.mem_of_getElem? (i := 140) rfl)⟩
theorem lw_p87 : lw_okq (⟨"SaidSoModel", "waitsFor", "(I)V"⟩, 66) := ⟨⟨by decide +kernel, by decide +kernel⟩, lw_t6 (List.mem_of_getElem? (i := 65) rfl), lw_t7 (List.mem_of_getElem? (i := 143) rfl), lw_t7 (List.mem_of_getElem? (i := 144) rfl)⟩
theorem lw_p88 : lw_okq (⟨"SaidSoModel", "isCounted", "()Z"⟩, 66) := ⟨⟨by decide +kernel, by decide +kernel⟩, lw_t6 (List.mem_of_getElem? (i := 65) rfl), lw_t7 (List.mem_of_getElem? (i := 147) rfl), lw_t7 (List.mem_of_getElem? (i := 148) rfl)⟩
theorem lw_p89 : lw_okq (⟨"SaidSoModel", "grown", "(III)V"⟩, 66) := ⟨⟨by decide +kernel, by decide +kernel⟩, lw_t6 (List.mem_of_getElem? (i := 65) rfl), lw_t7 (List.mem_of_getElem? (i := 151) rfl), lw_t7 (List.mem_of_getElem? (i := 152) rfl)⟩
theorem lw_p90 : lw_okq (⟨"SaidSoModel", "signs", "()Z"⟩, 66) := ⟨⟨by decide +kernel, by decide +kernel⟩, lw_t6 (List.mem_of_getElem? (i := 65) rfl), lw_t7 (List.mem_of_getElem? (i := 155) rfl), lw_t7 (List.mem_of_getElem? (i := 156) rfl)⟩
theorem lw_p91 : lw_okq (⟨"SaidSoModel", "bind", "(I)V"⟩, 66) := ⟨⟨by decide +kernel, by decide +kernel⟩, lw_t6 (List.mem_of_getElem? (i := 65) rfl), lw_t7 (List.mem_of_getElem? (i := 159) rfl), lw_t7 (List.mem_of_getElem? (i := 160) rfl)⟩
theorem lw_p92 : lw_okq (⟨"SaidSoModel", "drop", "()I"⟩, 66) := ⟨⟨by decide +kernel, by decide +kernel⟩, lw_t6 (List.mem_of_getElem? (i := 65) rfl), lw_t7 (List.mem_of_getElem? (i := 166) rfl), lw_t7 (List.mem_of_getElem? (i := 167) rfl)⟩
theorem lw_p93 : lw_okq (⟨"SaidSoModel", "isThing", "(I)Z"⟩, 66) := ⟨⟨by decide +kernel, by decide +kernel⟩, lw_t6 (List.mem_of_getElem? (i := 65) rfl), lw_t7 (List.mem_of_getElem? (i := 182) rfl), lw_t7 (List.mem_of_getElem? (i := 183) rfl)⟩
theorem lw_p94 : lw_okq (⟨"SaidSoModel", "fails", "(I)I"⟩, 66) := ⟨⟨by decide +kernel, by decide +kernel⟩, lw_t6 (List.mem_of_getElem? (i := 65) rfl), lw_t7 (List.mem_of_getElem? (i := 186) rfl), lw_t7 (List.mem_of_getElem? (i := 187) rfl)⟩
theorem lw_p95 : lw_okq (⟨"SaidSoModel", "isTeller", "(I)Z"⟩, 66) := ⟨⟨by decide +kernel, by decide +kernel⟩, lw_t6 (List.mem_of_getElem? (i := 65) rfl), lw_t7 (List.mem_of_getElem? (i := 194) rfl), lw_t7 (List.mem_of_getElem? (i := 195) rfl)⟩
def lw_privs_6 : List (MethodName × Nat) := [(⟨"SaidSoModel", "talkLine", "(Z)Z"⟩, 66), (⟨"SaidSoModel", "there", "([III)Z"⟩, 66), (⟨"SaidSoModel", "latestHour", "(III)I"⟩, 66), (⟨"SaidSoModel", "pageLine", "()Z"⟩, 66), (⟨"SaidSoModel", "sumLine", "()Z"⟩, 66), (⟨"SaidSoModel", "isSign", "(I)Z"⟩, 66), (⟨"SaidSoModel", "leafRead", "()Z"⟩, 66), (⟨"SaidSoModel", "waitsFor", "(I)V"⟩, 66), (⟨"SaidSoModel", "isCounted", "()Z"⟩, 66), (⟨"SaidSoModel", "grown", "(III)V"⟩, 66), (⟨"SaidSoModel", "signs", "()Z"⟩, 66), (⟨"SaidSoModel", "bind", "(I)V"⟩, 66), (⟨"SaidSoModel", "drop", "()I"⟩, 66), (⟨"SaidSoModel", "isThing", "(I)Z"⟩, 66), (⟨"SaidSoModel", "fails", "(I)I"⟩, 66), (⟨"SaidSoModel", "isTeller", "(I)Z"⟩, 66)]
theorem lw_r6 : ∀ q ∈ lw_privs_6, lw_okq q := List.forall_mem_cons.mpr ⟨lw_p80, List.forall_mem_cons.mpr ⟨lw_p81, List.forall_mem_cons.mpr ⟨lw_p82, List.forall_mem_cons.mpr ⟨lw_p83, List.forall_mem_cons.mpr ⟨lw_p84, List.forall_mem_cons.mpr ⟨lw_p85, List.forall_mem_cons.mpr ⟨lw_p86, List.forall_mem_cons.mpr ⟨lw_p87, List.forall_mem_cons.mpr ⟨lw_p88, List.forall_mem_cons.mpr ⟨lw_p89, List.forall_mem_cons.mpr ⟨lw_p90, List.forall_mem_cons.mpr ⟨lw_p91, List.forall_mem_cons.mpr ⟨lw_p92, List.forall_mem_cons.mpr ⟨lw_p93, List.forall_mem_cons.mpr ⟨lw_p94, List.forall_mem_cons.mpr ⟨lw_p95, fun _ h => absurd h List.not_mem_nil⟩⟩⟩⟩⟩⟩⟩⟩⟩⟩⟩⟩⟩⟩⟩⟩
theorem lw_p96 : lw_okq (⟨"SaidSoModel", "isHeard", "(I)Z"⟩, 66) := ⟨⟨by decide +kernel, by decide +kernel⟩, lw_t6 (List.mem_of_getElem? (i := 65) rfl), lw_t7 (List.mem_of_getElem? (i := 202) rfl), lw_t7 (List.mem_of_getElem? (i := 203) rfl)⟩
theorem lw_p97 : lw_okq (⟨"SaidSoModel", "heardMany", "()I"⟩, 66) := ⟨⟨by decide +kernel, by decide +kernel⟩, lw_t6 (List.mem_of_getElem? (i := 65) rfl), lw_t7 (List.mem_of_getElem? (i := 221) rfl), lw_t7 (List.mem_of_getElem? (i := 222) rfl)⟩
theorem lw_p98 : lw_okq (⟨"SaidSoModel", "isHeardWord", "(I)Z"⟩, 66) := ⟨⟨by decide +kernel, by decide +kernel⟩, lw_t6 (List.mem_of_getElem? (i := 65) rfl), lw_t7 (List.mem_of_getElem? (i := 229) rfl), lw_t7 (List.mem_of_getElem? (i := 230) rfl)⟩
theorem lw_p99 : lw_okq (⟨"SaidSoModel", "whatIs", "(I)I"⟩, 66) := ⟨⟨by decide +kernel, by decide +kernel⟩, lw_t6 (List.mem_of_getElem? (i := 65) rfl), lw_t7 (List.mem_of_getElem? (i := 233) rfl), lw_t7 (List.mem_of_getElem? (i := 234) rfl)⟩
theorem lw_p100 : lw_okq (⟨"SaidSoModel", "isRight", "(I)Z"⟩, 66) := ⟨⟨by decide +kernel, by decide +kernel⟩, lw_t6 (List.mem_of_getElem? (i := 65) rfl), lw_t7 (List.mem_of_getElem? (i := 237) rfl), lw_t7 (List.mem_of_getElem? (i := 238) rfl)⟩
theorem lw_p101 : lw_okq (⟨"SaidSoModel", "isFirst", "(I)Z"⟩, 66) := ⟨⟨by decide +kernel, by decide +kernel⟩, lw_t6 (List.mem_of_getElem? (i := 65) rfl), lw_t8 (List.mem_of_getElem? (i := 4) rfl), lw_t8 (List.mem_of_getElem? (i := 5) rfl)⟩
theorem lw_p102 : lw_okq (⟨"SaidSoModel", "says", "(III)Z"⟩, 66) := ⟨⟨by decide +kernel, by decide +kernel⟩, lw_t6 (List.mem_of_getElem? (i := 65) rfl), lw_t8 (List.mem_of_getElem? (i := 8) rfl), lw_t8 (List.mem_of_getElem? (i := 9) rfl)⟩
theorem lw_p103 : lw_okq (⟨"SaidSoModel", "ledBy", "(I)I"⟩, 66) := ⟨⟨by decide +kernel, by decide +kernel⟩, lw_t6 (List.mem_of_getElem? (i := 65) rfl), lw_t8 (List.mem_of_getElem? (i := 12) rfl), lw_t8 (List.mem_of_getElem? (i := 13) rfl)⟩
theorem lw_p104 : lw_okq (⟨"SaidSoModel", "asks", "(II)Z"⟩, 66) := ⟨⟨by decide +kernel, by decide +kernel⟩, lw_t6 (List.mem_of_getElem? (i := 65) rfl), lw_t8 (List.mem_of_getElem? (i := 16) rfl), lw_t8 (List.mem_of_getElem? (i := 17) rfl)⟩
theorem lw_p105 : lw_okq (⟨"SaidSoModel", "isOff", "(I)Z"⟩, 66) := ⟨⟨by decide +kernel, by decide +kernel⟩, lw_t6 (List.mem_of_getElem? (i := 65) rfl), lw_t8 (List.mem_of_getElem? (i := 20) rfl), lw_t8 (List.mem_of_getElem? (i := 21) rfl)⟩
theorem lw_p106 : lw_okq (⟨"SaidSoModel", "latestOff", "(II)I"⟩, 66) := ⟨⟨by decide +kernel, by decide +kernel⟩, lw_t6 (List.mem_of_getElem? (i := 65) rfl), lw_t8 (List.mem_of_getElem? (i := 24) rfl), lw_t8 (List.mem_of_getElem? (i := 25) rfl)⟩
theorem lw_p107 : lw_okq (⟨"SaidSoModel", "least", "()V"⟩, 66) := ⟨⟨by decide +kernel, by decide +kernel⟩, lw_t6 (List.mem_of_getElem? (i := 65) rfl), lw_t8 (List.mem_of_getElem? (i := 49) rfl), lw_t8 (List.mem_of_getElem? (i := 50) rfl)⟩
theorem lw_p108 : lw_okq (⟨"SaidSoModel", "isFirstLine", "(I)Z"⟩, 66) := ⟨⟨by decide +kernel, by decide +kernel⟩, lw_t6 (List.mem_of_getElem? (i := 65) rfl), lw_t8 (List.mem_of_getElem? (i := 56) rfl), lw_t8 (List.mem_of_getElem? (i := 57) rfl)⟩
theorem lw_p109 : lw_okq (⟨"SaidSoModel", "weighs", "(IZ)V"⟩, 66) := ⟨⟨by decide +kernel, by decide +kernel⟩, lw_t6 (List.mem_of_getElem? (i := 65) rfl), lw_t8 (List.mem_of_getElem? (i := 60) rfl), lw_t8 (List.mem_of_getElem? (i := 61) rfl)⟩
theorem lw_p110 : lw_okq (⟨"SaidSoModel", "pageIs", "(I)I"⟩, 66) := ⟨⟨by decide +kernel, by decide +kernel⟩, lw_t6 (List.mem_of_getElem? (i := 65) rfl), lw_t8 (List.mem_of_getElem? (i := 69) rfl), lw_t8 (List.mem_of_getElem? (i := 70) rfl)⟩
theorem lw_p111 : lw_okq (⟨"SaidSoModel", "latestWord", "(II)I"⟩, 66) := ⟨⟨by decide +kernel, by decide +kernel⟩, lw_t6 (List.mem_of_getElem? (i := 65) rfl), lw_t8 (List.mem_of_getElem? (i := 73) rfl), lw_t8 (List.mem_of_getElem? (i := 74) rfl)⟩
def lw_privs_7 : List (MethodName × Nat) := [(⟨"SaidSoModel", "isHeard", "(I)Z"⟩, 66), (⟨"SaidSoModel", "heardMany", "()I"⟩, 66), (⟨"SaidSoModel", "isHeardWord", "(I)Z"⟩, 66), (⟨"SaidSoModel", "whatIs", "(I)I"⟩, 66), (⟨"SaidSoModel", "isRight", "(I)Z"⟩, 66), (⟨"SaidSoModel", "isFirst", "(I)Z"⟩, 66), (⟨"SaidSoModel", "says", "(III)Z"⟩, 66), (⟨"SaidSoModel", "ledBy", "(I)I"⟩, 66), (⟨"SaidSoModel", "asks", "(II)Z"⟩, 66), (⟨"SaidSoModel", "isOff", "(I)Z"⟩, 66), (⟨"SaidSoModel", "latestOff", "(II)I"⟩, 66), (⟨"SaidSoModel", "least", "()V"⟩, 66), (⟨"SaidSoModel", "isFirstLine", "(I)Z"⟩, 66), (⟨"SaidSoModel", "weighs", "(IZ)V"⟩, 66), (⟨"SaidSoModel", "pageIs", "(I)I"⟩, 66), (⟨"SaidSoModel", "latestWord", "(II)I"⟩, 66)]
theorem lw_r7 : ∀ q ∈ lw_privs_7, lw_okq q := List.forall_mem_cons.mpr ⟨lw_p96, List.forall_mem_cons.mpr ⟨lw_p97, List.forall_mem_cons.mpr ⟨lw_p98, List.forall_mem_cons.mpr ⟨lw_p99, List.forall_mem_cons.mpr ⟨lw_p100, List.forall_mem_cons.mpr ⟨lw_p101, List.forall_mem_cons.mpr ⟨lw_p102, List.forall_mem_cons.mpr ⟨lw_p103, List.forall_mem_cons.mpr ⟨lw_p104, List.forall_mem_cons.mpr ⟨lw_p105, List.forall_mem_cons.mpr ⟨lw_p106, List.forall_mem_cons.mpr ⟨lw_p107, List.forall_mem_cons.mpr ⟨lw_p108, List.forall_mem_cons.mpr ⟨lw_p109, List.forall_mem_cons.mpr ⟨lw_p110, List.forall_mem_cons.mpr ⟨lw_p111, fun _ h => absurd h List.not_mem_nil⟩⟩⟩⟩⟩⟩⟩⟩⟩⟩⟩⟩⟩⟩⟩⟩
theorem lw_p112 : lw_okq (⟨"SaidSoModel", "firstSaid", "(III)I"⟩, 66) := ⟨⟨by decide +kernel, by decide +kernel⟩, lw_t6 (List.mem_of_getElem? (i := 65) rfl), lw_t8 (List.mem_of_getElem? (i := 77) rfl), lw_t8 (List.mem_of_getElem? (i := 78) rfl)⟩
theorem lw_p113 : lw_okq (⟨"SaidSoModel", "isOnPage", "(III)Z"⟩, 66) := ⟨⟨by decide +kernel, by decide +kernel⟩, lw_t6 (List.mem_of_getElem? (i := 65) rfl), lw_t8 (List.mem_of_getElem? (i := 85) rfl), lw_t8 (List.mem_of_getElem? (i := 86) rfl)⟩
theorem lw_p114 : lw_okq (⟨"SaidSoModel", "storyOf", "(II)I"⟩, 66) := ⟨⟨by decide +kernel, by decide +kernel⟩, lw_t6 (List.mem_of_getElem? (i := 65) rfl), lw_t8 (List.mem_of_getElem? (i := 97) rfl), lw_t8 (List.mem_of_getElem? (i := 98) rfl)⟩
theorem lw_p115 : lw_okq (⟨"SaidSoModel", "clashes", "(II)I"⟩, 66) := ⟨⟨by decide +kernel, by decide +kernel⟩, lw_t6 (List.mem_of_getElem? (i := 65) rfl), lw_t8 (List.mem_of_getElem? (i := 105) rfl), lw_t8 (List.mem_of_getElem? (i := 106) rfl)⟩
theorem lw_p116 : lw_okq (⟨"SaidSoModel", "isSet", "(I)Z"⟩, 66) := ⟨⟨by decide +kernel, by decide +kernel⟩, lw_t6 (List.mem_of_getElem? (i := 65) rfl), lw_t8 (List.mem_of_getElem? (i := 123) rfl), lw_t8 (List.mem_of_getElem? (i := 124) rfl)⟩
theorem lw_p117 : lw_okq (⟨"SaidSoModel", "isTaped", "(I)Z"⟩, 66) := ⟨⟨by decide +kernel, by decide +kernel⟩, lw_t6 (List.mem_of_getElem? (i := 65) rfl), lw_t8 (List.mem_of_getElem? (i := 131) rfl), lw_t8 (List.mem_of_getElem? (i := 132) rfl)⟩
theorem lw_p118 : lw_okq (⟨"SaidSoModel", "wasAsked", "(I)Z"⟩, 66) := ⟨⟨by decide +kernel, by decide +kernel⟩, lw_t6 (List.mem_of_getElem? (i := 65) rfl), lw_t8 (List.mem_of_getElem? (i := 135) rfl), lw_t8 (List.mem_of_getElem? (i := 136) rfl)⟩
theorem lw_p119 : lw_okq (⟨"SaidSoModel", "lawAt", "(I)I"⟩, 66) := ⟨⟨by decide +kernel, by decide +kernel⟩, lw_t6 (List.mem_of_getElem? (i := 65) rfl), lw_t8 (List.mem_of_getElem? (i := 143) rfl), lw_t8 (List.mem_of_getElem? (i := 144) rfl)⟩
theorem lw_p120 : lw_okq (⟨"SaidSoModel", "hasLine", "(I)Z"⟩, 66) := ⟨⟨by decide +kernel, by decide +kernel⟩, lw_t6 (List.mem_of_getElem? (i := 65) rfl), lw_t8 (List.mem_of_getElem? (i := 147) rfl), lw_t8 (List.mem_of_getElem? (i := 148) rfl)⟩
theorem lw_p121 : lw_okq (⟨"SaidSoModel", "noNames", "(I)V"⟩, 66) := ⟨⟨by decide +kernel, by decide +kernel⟩, lw_t6 (List.mem_of_getElem? (i := 65) rfl), lw_t8 (List.mem_of_getElem? (i := 151) rfl), lw_t8 (List.mem_of_getElem? (i := 152) rfl)⟩
theorem lw_p122 : lw_okq (⟨"SaidSoModel", "offUpTo", "(II)I"⟩, 66) := ⟨⟨by decide +kernel, by decide +kernel⟩, lw_t6 (List.mem_of_getElem? (i := 65) rfl), lw_t8 (List.mem_of_getElem? (i := 155) rfl), lw_t8 (List.mem_of_getElem? (i := 156) rfl)⟩
theorem lw_p123 : lw_okq (⟨"SaidSoModel", "sumOf", "(I)J"⟩, 66) := ⟨⟨by decide +kernel, by decide +kernel⟩, lw_t6 (List.mem_of_getElem? (i := 65) rfl), lw_t8 (List.mem_of_getElem? (i := 159) rfl), lw_t8 (List.mem_of_getElem? (i := 160) rfl)⟩
theorem lw_p124 : lw_okq (⟨"SaidSoModel", "worthOf", "(I)J"⟩, 66) := ⟨⟨by decide +kernel, by decide +kernel⟩, lw_t6 (List.mem_of_getElem? (i := 65) rfl), lw_t8 (List.mem_of_getElem? (i := 163) rfl), lw_t8 (List.mem_of_getElem? (i := 164) rfl)⟩
theorem lw_p125 : lw_okq (⟨"SaidSoModel", "bounded", "(J)J"⟩, 66) := ⟨⟨by decide +kernel, by decide +kernel⟩, lw_t6 (List.mem_of_getElem? (i := 65) rfl), lw_t8 (List.mem_of_getElem? (i := 167) rfl), lw_t8 (List.mem_of_getElem? (i := 168) rfl)⟩
theorem lw_p126 : lw_okq (⟨"SaidSoModel", "times", "(JJ)J"⟩, 66) := ⟨⟨by decide +kernel, by decide +kernel⟩, lw_t6 (List.mem_of_getElem? (i := 65) rfl), lw_t8 (List.mem_of_getElem? (i := 173) rfl), lw_t8 (List.mem_of_getElem? (i := 174) rfl)⟩
theorem lw_p127 : lw_okq (⟨"SaidSoModel", "isFirstOf", "(II)Z"⟩, 66) := ⟨⟨by decide +kernel, by decide +kernel⟩, lw_t6 (List.mem_of_getElem? (i := 65) rfl), lw_t8 (List.mem_of_getElem? (i := 185) rfl), lw_t8 (List.mem_of_getElem? (i := 186) rfl)⟩
def lw_privs_8 : List (MethodName × Nat) := [(⟨"SaidSoModel", "firstSaid", "(III)I"⟩, 66), (⟨"SaidSoModel", "isOnPage", "(III)Z"⟩, 66), (⟨"SaidSoModel", "storyOf", "(II)I"⟩, 66), (⟨"SaidSoModel", "clashes", "(II)I"⟩, 66), (⟨"SaidSoModel", "isSet", "(I)Z"⟩, 66), (⟨"SaidSoModel", "isTaped", "(I)Z"⟩, 66), (⟨"SaidSoModel", "wasAsked", "(I)Z"⟩, 66), (⟨"SaidSoModel", "lawAt", "(I)I"⟩, 66), (⟨"SaidSoModel", "hasLine", "(I)Z"⟩, 66), (⟨"SaidSoModel", "noNames", "(I)V"⟩, 66), (⟨"SaidSoModel", "offUpTo", "(II)I"⟩, 66), (⟨"SaidSoModel", "sumOf", "(I)J"⟩, 66), (⟨"SaidSoModel", "worthOf", "(I)J"⟩, 66), (⟨"SaidSoModel", "bounded", "(J)J"⟩, 66), (⟨"SaidSoModel", "times", "(JJ)J"⟩, 66), (⟨"SaidSoModel", "isFirstOf", "(II)Z"⟩, 66)]
theorem lw_r8 : ∀ q ∈ lw_privs_8, lw_okq q := List.forall_mem_cons.mpr ⟨lw_p112, List.forall_mem_cons.mpr ⟨lw_p113, List.forall_mem_cons.mpr ⟨lw_p114, List.forall_mem_cons.mpr ⟨lw_p115, List.forall_mem_cons.mpr ⟨lw_p116, List.forall_mem_cons.mpr ⟨lw_p117, List.forall_mem_cons.mpr ⟨lw_p118, List.forall_mem_cons.mpr ⟨lw_p119, List.forall_mem_cons.mpr ⟨lw_p120, List.forall_mem_cons.mpr ⟨lw_p121, List.forall_mem_cons.mpr ⟨lw_p122, List.forall_mem_cons.mpr ⟨lw_p123, List.forall_mem_cons.mpr ⟨lw_p124, List.forall_mem_cons.mpr ⟨lw_p125, List.forall_mem_cons.mpr ⟨lw_p126, List.forall_mem_cons.mpr ⟨lw_p127, fun _ h => absurd h List.not_mem_nil⟩⟩⟩⟩⟩⟩⟩⟩⟩⟩⟩⟩⟩⟩⟩⟩
theorem lw_p128 : lw_okq (⟨"SaidSoModel", "putAhead", "(I)I"⟩, 66) := ⟨⟨by decide +kernel, by decide +kernel⟩, lw_t6 (List.mem_of_getElem? (i := 65) rfl), lw_t8 (List.mem_of_getElem? (i := 189) rfl), lw_t8 (List.mem_of_getElem? (i := 190) rfl)⟩
theorem lw_p129 : lw_okq (⟨"SaidSoModel", "drawn", "(I)I"⟩, 66) := ⟨⟨by decide +kernel, by decide +kernel⟩, lw_t6 (List.mem_of_getElem? (i := 65) rfl), lw_t8 (List.mem_of_getElem? (i := 193) rfl), lw_t8 (List.mem_of_getElem? (i := 194) rfl)⟩
theorem lw_p130 : lw_okq (⟨"SaidSoModel", "isBarred", "(I)Z"⟩, 66) := ⟨⟨by decide +kernel, by decide +kernel⟩, lw_t6 (List.mem_of_getElem? (i := 65) rfl), lw_t8 (List.mem_of_getElem? (i := 205) rfl), lw_t8 (List.mem_of_getElem? (i := 206) rfl)⟩
theorem lw_p131 : lw_okq (⟨"SaidSoModel", "namesByBoth", "(I)V"⟩, 66) := ⟨⟨by decide +kernel, by decide +kernel⟩, lw_t6 (List.mem_of_getElem? (i := 65) rfl), lw_t8 (List.mem_of_getElem? (i := 209) rfl), lw_t8 (List.mem_of_getElem? (i := 210) rfl)⟩
theorem lw_p132 : lw_okq (⟨"SaidSoModel", "namesByTalk", "(IZ)V"⟩, 66) := ⟨⟨by decide +kernel, by decide +kernel⟩, lw_t6 (List.mem_of_getElem? (i := 65) rfl), lw_t8 (List.mem_of_getElem? (i := 213) rfl), lw_t8 (List.mem_of_getElem? (i := 214) rfl)⟩
theorem lw_p133 : lw_okq (⟨"SaidSoModel", "isIn1", "(IIZ)Z"⟩, 66) := ⟨⟨by decide +kernel, by decide +kernel⟩, lw_t6 (List.mem_of_getElem? (i := 65) rfl), lw_t8 (List.mem_of_getElem? (i := 217) rfl), lw_t8 (List.mem_of_getElem? (i := 218) rfl)⟩
theorem lw_p134 : lw_okq (⟨"SaidSoModel", "isFirstIn", "(IIZ)Z"⟩, 66) := ⟨⟨by decide +kernel, by decide +kernel⟩, lw_t6 (List.mem_of_getElem? (i := 65) rfl), lw_t8 (List.mem_of_getElem? (i := 221) rfl), lw_t8 (List.mem_of_getElem? (i := 222) rfl)⟩
theorem lw_p135 : lw_okq (⟨"SaidSoModel", "holds", "(I)Z"⟩, 66) := ⟨⟨by decide +kernel, by decide +kernel⟩, lw_t6 (List.mem_of_getElem? (i := 65) rfl), lw_t8 (List.mem_of_getElem? (i := 225) rfl), lw_t8 (List.mem_of_getElem? (i := 226) rfl)⟩
theorem lw_p136 : lw_okq (⟨"SaidSoModel", "finds", "(II)Z"⟩, 66) := ⟨⟨by decide +kernel, by decide +kernel⟩, lw_t6 (List.mem_of_getElem? (i := 65) rfl), lw_t8 (List.mem_of_getElem? (i := 233) rfl), lw_t8 (List.mem_of_getElem? (i := 234) rfl)⟩
theorem lw_p137 : lw_okq (⟨"SaidSoModel", "namesByPage", "(I)V"⟩, 66) := ⟨⟨by decide +kernel, by decide +kernel⟩, lw_t6 (List.mem_of_getElem? (i := 65) rfl), lw_t8 (List.mem_of_getElem? (i := 237) rfl), lw_t8 (List.mem_of_getElem? (i := 238) rfl)⟩
def lw_privs_9 : List (MethodName × Nat) := [(⟨"SaidSoModel", "putAhead", "(I)I"⟩, 66), (⟨"SaidSoModel", "drawn", "(I)I"⟩, 66), (⟨"SaidSoModel", "isBarred", "(I)Z"⟩, 66), (⟨"SaidSoModel", "namesByBoth", "(I)V"⟩, 66), (⟨"SaidSoModel", "namesByTalk", "(IZ)V"⟩, 66), (⟨"SaidSoModel", "isIn1", "(IIZ)Z"⟩, 66), (⟨"SaidSoModel", "isFirstIn", "(IIZ)Z"⟩, 66), (⟨"SaidSoModel", "holds", "(I)Z"⟩, 66), (⟨"SaidSoModel", "finds", "(II)Z"⟩, 66), (⟨"SaidSoModel", "namesByPage", "(I)V"⟩, 66)]
theorem lw_r9 : ∀ q ∈ lw_privs_9, lw_okq q := List.forall_mem_cons.mpr ⟨lw_p128, List.forall_mem_cons.mpr ⟨lw_p129, List.forall_mem_cons.mpr ⟨lw_p130, List.forall_mem_cons.mpr ⟨lw_p131, List.forall_mem_cons.mpr ⟨lw_p132, List.forall_mem_cons.mpr ⟨lw_p133, List.forall_mem_cons.mpr ⟨lw_p134, List.forall_mem_cons.mpr ⟨lw_p135, List.forall_mem_cons.mpr ⟨lw_p136, List.forall_mem_cons.mpr ⟨lw_p137, fun _ h => absurd h List.not_mem_nil⟩⟩⟩⟩⟩⟩⟩⟩⟩⟩
def lw_privs : List (MethodName × Nat) := lw_privs_1 ++ (lw_privs_2 ++ (lw_privs_3 ++ (lw_privs_4 ++ (lw_privs_5 ++ (lw_privs_6 ++ (lw_privs_7 ++ (lw_privs_8 ++ (lw_privs_9))))))))
def lw_tbl : List Cond := k2_sels lw_privs ++ tables_1
theorem lw_privs_ok : ∀ q ∈ lw_privs, lw_okq q := by
  show ∀ q ∈ lw_privs_1 ++ (lw_privs_2 ++ (lw_privs_3 ++ (lw_privs_4 ++ (lw_privs_5 ++ (lw_privs_6 ++ (lw_privs_7 ++ (lw_privs_8 ++ (lw_privs_9)))))))), lw_okq q
  exact List.forall_mem_append.mpr ⟨lw_r1, List.forall_mem_append.mpr ⟨lw_r2, List.forall_mem_append.mpr ⟨lw_r3, List.forall_mem_append.mpr ⟨lw_r4, List.forall_mem_append.mpr ⟨lw_r5, List.forall_mem_append.mpr ⟨lw_r6, List.forall_mem_append.mpr ⟨lw_r7, List.forall_mem_append.mpr ⟨lw_r8, lw_r9⟩⟩⟩⟩⟩⟩⟩⟩
-- ===== ONE list of words for every method: the tables' words that hold all through a run =====
def lw_all : List Cond := lw_tbl.filter goodWord
/-- a word of the tables by its place: claim/WORDS.tsv -/
theorem lw_w {w : Cond} (i : Nat) (h : lw_tbl[i]? = some w) (g : goodWord w = true) : w ∈ lw_all := List.mem_filter.mpr ⟨List.mem_of_getElem? h, g⟩
theorem lw_all_tbl {w : Cond} (h : w ∈ lw_all) : w ∈ lw_tbl := (List.mem_filter.mp h).1
theorem lw_self : GoodIn lw_all lw_all := fun w h => ⟨h, good_of_word (List.mem_filter.mp h).2⟩
/-- a class's field words, by their places -/
theorem lw_in (ws : List Cond) (ps : List Nat) (hp : ws = ps.filterMap (fun i => lw_tbl[i]?)) (hg : ws.all goodWord = true) : ∀ w ∈ ws, w ∈ lw_all := by
  intro w h
  have h1 := List.all_eq_true.mp hg w h
  rw [hp] at h
  obtain ⟨i, -, hi⟩ := List.mem_filterMap.mp h
  exact lw_w i hi h1
/-- the words of a contract for the method y with code b, L locals, answer r -/
abbrev ws_ (y : MethodName) (b : ByteArray) (L : Nat) (r : Option FieldType) : List Cond := Cond.code y b L r :: lw_all
theorem lw_meth {y : MethodName} {b : ByteArray} {L : Nat} {r : Option FieldType} (h : Cond.code y b L r ∈ lw_all) : GoodIn lw_all (ws_ y b L r) := by
  intro w hw
  rcases List.mem_cons.mp hw with e | e
  · rw [e]
    exact lw_self _ h
  · exact lw_self _ e
theorem lw_app {a c : List Cond} (ha : ∀ w ∈ a, w ∈ lw_all) (hc : GoodIn lw_all c) : GoodIn lw_all (a ++ c) := by
  intro w hw
  rcases List.mem_append.mp hw with e | e
  · exact lw_self w (ha w e)
  · exact hc w e
/-- what a call through an object asks: cwV n hts (lw_V ..) -/
theorem lw_V {own : String} {idx : Nat} {C : String} {y : MethodName} {b : ByteArray} {L : Nat} {r : Option FieldType} (h1 : Cond.methodLink own idx y ∈ lw_all) (h2 : Cond.instanceMethod y ∈ lw_all) (h3 : Cond.selects C y y ∈ lw_all) (h4 : Cond.initialized C ∈ lw_all) (h5 : Cond.code y b L r ∈ lw_all) : GoodIn lw_all (wsV own idx C y (ws_ y b L r)) := by
  refine lw_app ?_ (lw_meth h5)
  intro w hw
  simp only [List.mem_cons, List.not_mem_nil, or_false] at hw
  rcases hw with e | e | e | e
  · rw [e]; exact h1
  · rw [e]; exact h2
  · rw [e]; exact h3
  · rw [e]; exact h4
/-- what a static call asks: va_cwS n hts (lw_S ..) -/
theorem lw_S {own : String} {idx : Nat} {y : MethodName} {b : ByteArray} {L : Nat} {r : Option FieldType} (h1 : Cond.methodLink own idx y ∈ lw_all) (h2 : Cond.static y ∈ lw_all) (h3 : Cond.initialized y.cls ∈ lw_all) (h4 : Cond.code y b L r ∈ lw_all) : GoodIn lw_all (va_wsS own idx y (ws_ y b L r)) := by
  refine lw_app ?_ (lw_meth h4)
  intro w hw
  simp only [List.mem_cons, List.not_mem_nil, or_false] at hw
  rcases hw with e | e | e
  · rw [e]; exact h1
  · rw [e]; exact h2
  · rw [e]; exact h3
/-- the words of a contract for a method WITH HANDLERS (hh: its table) -/
abbrev wsW_ (y : MethodName) (b : ByteArray) (L : Nat) (r : Option FieldType) (hh : List (Nat × Nat × Nat × Nat)) : List Cond := Cond.codeWith y b L r hh :: lw_all
theorem lw_methW {y : MethodName} {b : ByteArray} {L : Nat} {r : Option FieldType} {hh : List (Nat × Nat × Nat × Nat)} (h : Cond.codeWith y b L r hh ∈ lw_all) : GoodIn lw_all (wsW_ y b L r hh) := by
  intro w hw
  rcases List.mem_cons.mp hw with e | e
  · rw [e]
    exact lw_self _ h
  · exact lw_self _ e
/-- any list of words by their places (lw_in), good -/
theorem lw_good {ws : List Cond} (h : ∀ w ∈ ws, w ∈ lw_all) : GoodIn lw_all ws := fun w hw => lw_self w (h w hw)
/-- what a call of a method with handlers asks: vx_cwVW n hts (lw_VW ..), vx_cwSW n hts (lw_SW ..) -/
theorem lw_VW {own : String} {idx : Nat} {C : String} {y : MethodName} {b : ByteArray} {L : Nat} {r : Option FieldType} {hh : List (Nat × Nat × Nat × Nat)} (h1 : Cond.methodLink own idx y ∈ lw_all) (h2 : Cond.instanceMethod y ∈ lw_all) (h3 : Cond.selects C y y ∈ lw_all) (h4 : Cond.initialized C ∈ lw_all) (h5 : Cond.codeWith y b L r hh ∈ lw_all) : GoodIn lw_all (wsV own idx C y (wsW_ y b L r hh)) := by
  refine lw_app ?_ (lw_methW h5)
  intro w hw
  simp only [List.mem_cons, List.not_mem_nil, or_false] at hw
  rcases hw with e | e | e | e
  · rw [e]; exact h1
  · rw [e]; exact h2
  · rw [e]; exact h3
  · rw [e]; exact h4
theorem lw_SW {own : String} {idx : Nat} {y : MethodName} {b : ByteArray} {L : Nat} {r : Option FieldType} {hh : List (Nat × Nat × Nat × Nat)} (h1 : Cond.methodLink own idx y ∈ lw_all) (h2 : Cond.static y ∈ lw_all) (h3 : Cond.initialized y.cls ∈ lw_all) (h4 : Cond.codeWith y b L r hh ∈ lw_all) : GoodIn lw_all (va_wsS own idx y (wsW_ y b L r hh)) := by
  refine lw_app ?_ (lw_methW h4)
  intro w hw
  simp only [List.mem_cons, List.not_mem_nil, or_false] at hw
  rcases hw with e | e | e
  · rw [e]; exact h1
  · rw [e]; exact h2
  · rw [e]; exact h3
/-- a word by its place in its run of the tables -/
theorem lw_at {r : List Cond} (hr : ∀ w ∈ r, w ∈ lw_tbl) {w : Cond} (i : Nat) (h : r[i]? = some w) : w ∈ lw_tbl := hr w (List.mem_of_getElem? h)
theorem lw_g {w : Cond} (h : w ∈ lw_tbl) (g : goodWord w = true) : w ∈ lw_all := List.mem_filter.mpr ⟨h, g⟩
theorem lw_ms : ∀ w ∈ k2_sels lw_privs, w ∈ lw_tbl := fun w h => show w ∈ k2_sels lw_privs ++ tables_1 from List.mem_append_left _ h
theorem lw_m1 : ∀ w ∈ tables_1_1, w ∈ lw_tbl := fun w h => show w ∈ k2_sels lw_privs ++ tables_1 from List.mem_append_right (k2_sels lw_privs) (show w ∈ tables_1 from List.mem_append_left _ h)
theorem lw_m2 : ∀ w ∈ tables_1_2, w ∈ lw_tbl := fun w h => show w ∈ k2_sels lw_privs ++ tables_1 from List.mem_append_right (k2_sels lw_privs) (show w ∈ tables_1 from List.mem_append_right _ (List.mem_append_left _ h))
theorem lw_m3 : ∀ w ∈ tables_1_3, w ∈ lw_tbl := fun w h => show w ∈ k2_sels lw_privs ++ tables_1 from List.mem_append_right (k2_sels lw_privs) (show w ∈ tables_1 from List.mem_append_right _ (List.mem_append_right _ (List.mem_append_left _ h)))
theorem lw_m4 : ∀ w ∈ tables_1_4, w ∈ lw_tbl := fun w h => show w ∈ k2_sels lw_privs ++ tables_1 from List.mem_append_right (k2_sels lw_privs) (show w ∈ tables_1 from List.mem_append_right _ (List.mem_append_right _ (List.mem_append_right _ (List.mem_append_left _ h))))
theorem lw_m5 : ∀ w ∈ tables_1_5, w ∈ lw_tbl := fun w h => show w ∈ k2_sels lw_privs ++ tables_1 from List.mem_append_right (k2_sels lw_privs) (show w ∈ tables_1 from List.mem_append_right _ (List.mem_append_right _ (List.mem_append_right _ (List.mem_append_right _ (List.mem_append_left _ h)))))
theorem lw_m6 : ∀ w ∈ tables_1_6, w ∈ lw_tbl := fun w h => show w ∈ k2_sels lw_privs ++ tables_1 from List.mem_append_right (k2_sels lw_privs) (show w ∈ tables_1 from List.mem_append_right _ (List.mem_append_right _ (List.mem_append_right _ (List.mem_append_right _ (List.mem_append_right _ (List.mem_append_left _ h))))))
theorem lw_m7 : ∀ w ∈ tables_1_7, w ∈ lw_tbl := fun w h => show w ∈ k2_sels lw_privs ++ tables_1 from List.mem_append_right (k2_sels lw_privs) (show w ∈ tables_1 from List.mem_append_right _ (List.mem_append_right _ (List.mem_append_right _ (List.mem_append_right _ (List.mem_append_right _ (List.mem_append_right _ (List.mem_append_left _ h)))))))
theorem lw_m8 : ∀ w ∈ tables_1_8, w ∈ lw_tbl := fun w h => show w ∈ k2_sels lw_privs ++ tables_1 from List.mem_append_right (k2_sels lw_privs) (show w ∈ tables_1 from List.mem_append_right _ (List.mem_append_right _ (List.mem_append_right _ (List.mem_append_right _ (List.mem_append_right _ (List.mem_append_right _ (List.mem_append_right _ (List.mem_append_left _ h))))))))
theorem lw_m9 : ∀ w ∈ tables_1_9, w ∈ lw_tbl := fun w h => show w ∈ k2_sels lw_privs ++ tables_1 from List.mem_append_right (k2_sels lw_privs) (show w ∈ tables_1 from List.mem_append_right _ (List.mem_append_right _ (List.mem_append_right _ (List.mem_append_right _ (List.mem_append_right _ (List.mem_append_right _ (List.mem_append_right _ (List.mem_append_right _ h))))))))
theorem qs0 : (Cond.selects "SaidSo" ⟨"SaidSo", "put", "(I)V"⟩ ⟨"SaidSo", "put", "(I)V"⟩) ∈ lw_all := lw_g (lw_at lw_ms 0 rfl) rfl
theorem qs1 : (Cond.selects "SaidSo$Reader" ⟨"SaidSo$Reader", "next", "()V"⟩ ⟨"SaidSo$Reader", "next", "()V"⟩) ∈ lw_all := lw_g (lw_at lw_ms 1 rfl) rfl
theorem qs2 : (Cond.selects "SaidSo$Reader" ⟨"SaidSo$Reader", "here", "()I"⟩ ⟨"SaidSo$Reader", "here", "()I"⟩) ∈ lw_all := lw_g (lw_at lw_ms 2 rfl) rfl
theorem qs3 : (Cond.selects "SaidSo$Reader" ⟨"SaidSo$Reader", "word", "()I"⟩ ⟨"SaidSo$Reader", "word", "()I"⟩) ∈ lw_all := lw_g (lw_at lw_ms 3 rfl) rfl
theorem qs4 : (Cond.selects "SaidSo$Reader" ⟨"SaidSo$Reader", "name", "()V"⟩ ⟨"SaidSo$Reader", "name", "()V"⟩) ∈ lw_all := lw_g (lw_at lw_ms 4 rfl) rfl
theorem qs5 : (Cond.selects "SaidSo$Reader" ⟨"SaidSo$Reader", "sign", "()V"⟩ ⟨"SaidSo$Reader", "sign", "()V"⟩) ∈ lw_all := lw_g (lw_at lw_ms 5 rfl) rfl
theorem qs6 : (Cond.selects "SaidSo$Reader" ⟨"SaidSo$Reader", "line", "()V"⟩ ⟨"SaidSo$Reader", "line", "()V"⟩) ∈ lw_all := lw_g (lw_at lw_ms 6 rfl) rfl
theorem qs7 : (Cond.selects "SaidSo$Reader" ⟨"SaidSo$Reader", "isWord", "(II)Z"⟩ ⟨"SaidSo$Reader", "isWord", "(II)Z"⟩) ∈ lw_all := lw_g (lw_at lw_ms 7 rfl) rfl
theorem qs8 : (Cond.selects "SaidSo$Reader" ⟨"SaidSo$Reader", "wrong", "(I)LSaidSo$Fault;"⟩ ⟨"SaidSo$Reader", "wrong", "(I)LSaidSo$Fault;"⟩) ∈ lw_all := lw_g (lw_at lw_ms 8 rfl) rfl
theorem qs9 : (Cond.selects "java/lang/Throwable" ⟨"java/lang/Throwable", "fillInStackTrace", "(I)Ljava/lang/Throwable;"⟩ ⟨"java/lang/Throwable", "fillInStackTrace", "(I)Ljava/lang/Throwable;"⟩) ∈ lw_all := lw_g (lw_at lw_ms 9 rfl) rfl
theorem qs10 : (Cond.selects "SaidSo$Reader" ⟨"SaidSo$Reader", "thing", "()V"⟩ ⟨"SaidSo$Reader", "thing", "()V"⟩) ∈ lw_all := lw_g (lw_at lw_ms 10 rfl) rfl
theorem qs11 : (Cond.selects "SaidSo$Reader" ⟨"SaidSo$Reader", "fresh", "(Z)I"⟩ ⟨"SaidSo$Reader", "fresh", "(Z)I"⟩) ∈ lw_all := lw_g (lw_at lw_ms 11 rfl) rfl
theorem qs12 : (Cond.selects "SaidSo$Reader" ⟨"SaidSo$Reader", "number", "(II)I"⟩ ⟨"SaidSo$Reader", "number", "(II)I"⟩) ∈ lw_all := lw_g (lw_at lw_ms 12 rfl) rfl
theorem qs13 : (Cond.selects "SaidSo$Reader" ⟨"SaidSo$Reader", "wants", "(I)V"⟩ ⟨"SaidSo$Reader", "wants", "(I)V"⟩) ∈ lw_all := lw_g (lw_at lw_ms 13 rfl) rfl
theorem qs14 : (Cond.selects "java/util/ArrayList" ⟨"java/util/ArrayList", "add", "(Ljava/lang/Object;[Ljava/lang/Object;I)V"⟩ ⟨"java/util/ArrayList", "add", "(Ljava/lang/Object;[Ljava/lang/Object;I)V"⟩) ∈ lw_all := lw_g (lw_at lw_ms 14 rfl) rfl
theorem qs15 : (Cond.selects "java/util/ArrayList" ⟨"java/util/ArrayList", "grow", "()[Ljava/lang/Object;"⟩ ⟨"java/util/ArrayList", "grow", "()[Ljava/lang/Object;"⟩) ∈ lw_all := lw_g (lw_at lw_ms 15 rfl) rfl
theorem qs16 : (Cond.selects "java/util/ArrayList" ⟨"java/util/ArrayList", "grow", "(I)[Ljava/lang/Object;"⟩ ⟨"java/util/ArrayList", "grow", "(I)[Ljava/lang/Object;"⟩) ∈ lw_all := lw_g (lw_at lw_ms 16 rfl) rfl
theorem qs17 : (Cond.selects "SaidSo$Reader" ⟨"SaidSo$Reader", "teller", "()V"⟩ ⟨"SaidSo$Reader", "teller", "()V"⟩) ∈ lw_all := lw_g (lw_at lw_ms 17 rfl) rfl
theorem qs18 : (Cond.selects "SaidSo$Reader" ⟨"SaidSo$Reader", "talk", "(Z)V"⟩ ⟨"SaidSo$Reader", "talk", "(Z)V"⟩) ∈ lw_all := lw_g (lw_at lw_ms 18 rfl) rfl
theorem qs19 : (Cond.selects "SaidSo$Reader" ⟨"SaidSo$Reader", "told", "(Z)I"⟩ ⟨"SaidSo$Reader", "told", "(Z)I"⟩) ∈ lw_all := lw_g (lw_at lw_ms 19 rfl) rfl
theorem qs20 : (Cond.selects "SaidSo$Reader" ⟨"SaidSo$Reader", "page", "()V"⟩ ⟨"SaidSo$Reader", "page", "()V"⟩) ∈ lw_all := lw_g (lw_at lw_ms 20 rfl) rfl
theorem qs21 : (Cond.selects "SaidSo$Reader" ⟨"SaidSo$Reader", "or", "()LSaidSo$Part;"⟩ ⟨"SaidSo$Reader", "or", "()LSaidSo$Part;"⟩) ∈ lw_all := lw_g (lw_at lw_ms 21 rfl) rfl
theorem qs22 : (Cond.selects "SaidSo$Reader" ⟨"SaidSo$Reader", "and", "()LSaidSo$Part;"⟩ ⟨"SaidSo$Reader", "and", "()LSaidSo$Part;"⟩) ∈ lw_all := lw_g (lw_at lw_ms 22 rfl) rfl
theorem qs23 : (Cond.selects "SaidSo$Reader" ⟨"SaidSo$Reader", "not", "()LSaidSo$Part;"⟩ ⟨"SaidSo$Reader", "not", "()LSaidSo$Part;"⟩) ∈ lw_all := lw_g (lw_at lw_ms 23 rfl) rfl
theorem qs24 : (Cond.selects "SaidSo$Reader" ⟨"SaidSo$Reader", "compare", "()LSaidSo$Part;"⟩ ⟨"SaidSo$Reader", "compare", "()LSaidSo$Part;"⟩) ∈ lw_all := lw_g (lw_at lw_ms 24 rfl) rfl
theorem qs25 : (Cond.selects "SaidSo$Reader" ⟨"SaidSo$Reader", "sum", "()LSaidSo$Part;"⟩ ⟨"SaidSo$Reader", "sum", "()LSaidSo$Part;"⟩) ∈ lw_all := lw_g (lw_at lw_ms 25 rfl) rfl
theorem qs26 : (Cond.selects "SaidSo$Reader" ⟨"SaidSo$Reader", "product", "()LSaidSo$Part;"⟩ ⟨"SaidSo$Reader", "product", "()LSaidSo$Part;"⟩) ∈ lw_all := lw_g (lw_at lw_ms 26 rfl) rfl
theorem qs27 : (Cond.selects "SaidSo$Reader" ⟨"SaidSo$Reader", "one", "()LSaidSo$Part;"⟩ ⟨"SaidSo$Reader", "one", "()LSaidSo$Part;"⟩) ∈ lw_all := lw_g (lw_at lw_ms 27 rfl) rfl
theorem qs28 : (Cond.selects "SaidSo$Reader" ⟨"SaidSo$Reader", "isSign", "(I)Z"⟩ ⟨"SaidSo$Reader", "isSign", "(I)Z"⟩) ∈ lw_all := lw_g (lw_at lw_ms 28 rfl) rfl
theorem qs29 : (Cond.selects "SaidSo$Reader" ⟨"SaidSo$Reader", "knot", "()V"⟩ ⟨"SaidSo$Reader", "knot", "()V"⟩) ∈ lw_all := lw_g (lw_at lw_ms 29 rfl) rfl
theorem qs30 : (Cond.selects "SaidSo$Reader" ⟨"SaidSo$Reader", "sign2", "()I"⟩ ⟨"SaidSo$Reader", "sign2", "()I"⟩) ∈ lw_all := lw_g (lw_at lw_ms 30 rfl) rfl
theorem qs31 : (Cond.selects "SaidSo" ⟨"SaidSo", "isTeller", "(I)Z"⟩ ⟨"SaidSo", "isTeller", "(I)Z"⟩) ∈ lw_all := lw_g (lw_at lw_ms 31 rfl) rfl
theorem qs32 : (Cond.selects "SaidSo" ⟨"SaidSo", "isHeard", "(I)Z"⟩ ⟨"SaidSo", "isHeard", "(I)Z"⟩) ∈ lw_all := lw_g (lw_at lw_ms 32 rfl) rfl
theorem qs33 : (Cond.selects "SaidSo" ⟨"SaidSo", "isThing", "(I)Z"⟩ ⟨"SaidSo", "isThing", "(I)Z"⟩) ∈ lw_all := lw_g (lw_at lw_ms 33 rfl) rfl
theorem qs34 : (Cond.selects "java/util/ArrayList" ⟨"java/util/ArrayList", "fastRemove", "([Ljava/lang/Object;I)V"⟩ ⟨"java/util/ArrayList", "fastRemove", "([Ljava/lang/Object;I)V"⟩) ∈ lw_all := lw_g (lw_at lw_ms 34 rfl) rfl
theorem qs35 : (Cond.selects "SaidSo" ⟨"SaidSo", "aWord", "(I)LSaidSo$Word;"⟩ ⟨"SaidSo", "aWord", "(I)LSaidSo$Word;"⟩) ∈ lw_all := lw_g (lw_at lw_ms 35 rfl) rfl
theorem qs36 : (Cond.selects "SaidSo" ⟨"SaidSo", "bitsOf", "(I)I"⟩ ⟨"SaidSo", "bitsOf", "(I)I"⟩) ∈ lw_all := lw_g (lw_at lw_ms 36 rfl) rfl
theorem qs37 : (Cond.selects "SaidSo" ⟨"SaidSo", "isFirst", "(IZ)Z"⟩ ⟨"SaidSo", "isFirst", "(IZ)Z"⟩) ∈ lw_all := lw_g (lw_at lw_ms 37 rfl) rfl
theorem qs38 : (Cond.selects "SaidSo" ⟨"SaidSo", "word", "(III)LSaidSo$Word;"⟩ ⟨"SaidSo", "word", "(III)LSaidSo$Word;"⟩) ∈ lw_all := lw_g (lw_at lw_ms 38 rfl) rfl
theorem qs39 : (Cond.selects "SaidSo" ⟨"SaidSo", "heard", "(III)LSaidSo$Line;"⟩ ⟨"SaidSo", "heard", "(III)LSaidSo$Line;"⟩) ∈ lw_all := lw_g (lw_at lw_ms 39 rfl) rfl
theorem qs40 : (Cond.selects "SaidSo" ⟨"SaidSo", "counts", "(LSaidSo$Line;Z)Z"⟩ ⟨"SaidSo", "counts", "(LSaidSo$Line;Z)Z"⟩) ∈ lw_all := lw_g (lw_at lw_ms 40 rfl) rfl
theorem qs41 : (Cond.selects "SaidSo" ⟨"SaidSo", "ledBy", "(I)I"⟩ ⟨"SaidSo", "ledBy", "(I)I"⟩) ∈ lw_all := lw_g (lw_at lw_ms 41 rfl) rfl
theorem qs42 : (Cond.selects "SaidSo" ⟨"SaidSo", "weigh", "(JJ)V"⟩ ⟨"SaidSo", "weigh", "(JJ)V"⟩) ∈ lw_all := lw_g (lw_at lw_ms 42 rfl) rfl
theorem qs43 : (Cond.selects "SaidSo" ⟨"SaidSo", "weigh", "(LSaidSo$Thing;Z)V"⟩ ⟨"SaidSo", "weigh", "(LSaidSo$Thing;Z)V"⟩) ∈ lw_all := lw_g (lw_at lw_ms 43 rfl) rfl
theorem qs44 : (Cond.selects "SaidSo" ⟨"SaidSo", "firstPage", "(II)LSaidSo$Page;"⟩ ⟨"SaidSo", "firstPage", "(II)LSaidSo$Page;"⟩) ∈ lw_all := lw_g (lw_at lw_ms 44 rfl) rfl
theorem qs45 : (Cond.selects "SaidSo" ⟨"SaidSo", "kindOf", "(LSaidSo$Page;)I"⟩ ⟨"SaidSo", "kindOf", "(LSaidSo$Page;)I"⟩) ∈ lw_all := lw_g (lw_at lw_ms 45 rfl) rfl
theorem qs46 : (Cond.selects "SaidSo" ⟨"SaidSo", "latest", "(II)LSaidSo$Word;"⟩ ⟨"SaidSo", "latest", "(II)LSaidSo$Word;"⟩) ∈ lw_all := lw_g (lw_at lw_ms 46 rfl) rfl
theorem qs47 : (Cond.selects "SaidSo" ⟨"SaidSo", "said", "(III)I"⟩ ⟨"SaidSo", "said", "(III)I"⟩) ∈ lw_all := lw_g (lw_at lw_ms 47 rfl) rfl
theorem qs48 : (Cond.selects "SaidSo" ⟨"SaidSo", "hasPage", "(III)Z"⟩ ⟨"SaidSo", "hasPage", "(III)Z"⟩) ∈ lw_all := lw_g (lw_at lw_ms 48 rfl) rfl
theorem qs49 : (Cond.selects "SaidSo" ⟨"SaidSo", "storyOf", "(II)I"⟩ ⟨"SaidSo", "storyOf", "(II)I"⟩) ∈ lw_all := lw_g (lw_at lw_ms 49 rfl) rfl
theorem qs50 : (Cond.selects "SaidSo" ⟨"SaidSo", "clashes", "(II)I"⟩ ⟨"SaidSo", "clashes", "(II)I"⟩) ∈ lw_all := lw_g (lw_at lw_ms 50 rfl) rfl
theorem qs51 : (Cond.selects "SaidSo" ⟨"SaidSo", "lawAt", "(I)I"⟩ ⟨"SaidSo", "lawAt", "(I)I"⟩) ∈ lw_all := lw_g (lw_at lw_ms 51 rfl) rfl
theorem qs52 : (Cond.selects "SaidSo" ⟨"SaidSo", "nothing", "(LSaidSo$Teller;)V"⟩ ⟨"SaidSo", "nothing", "(LSaidSo$Teller;)V"⟩) ∈ lw_all := lw_g (lw_at lw_ms 52 rfl) rfl
theorem qs53 : (Cond.selects "SaidSo" ⟨"SaidSo", "countAsks", "(IIZ)V"⟩ ⟨"SaidSo", "countAsks", "(IIZ)V"⟩) ∈ lw_all := lw_g (lw_at lw_ms 53 rfl) rfl
theorem qs54 : (Cond.selects "SaidSo" ⟨"SaidSo", "putAhead", "(I)I"⟩ ⟨"SaidSo", "putAhead", "(I)I"⟩) ∈ lw_all := lw_g (lw_at lw_ms 54 rfl) rfl
theorem qs55 : (Cond.selects "SaidSo" ⟨"SaidSo", "next", "(I)I"⟩ ⟨"SaidSo", "next", "(I)I"⟩) ∈ lw_all := lw_g (lw_at lw_ms 55 rfl) rfl
theorem qs56 : (Cond.selects "SaidSo" ⟨"SaidSo", "isBarred", "(I)Z"⟩ ⟨"SaidSo", "isBarred", "(I)Z"⟩) ∈ lw_all := lw_g (lw_at lw_ms 56 rfl) rfl
theorem qs57 : (Cond.selects "SaidSo" ⟨"SaidSo", "hearTalk", "(IZ)V"⟩ ⟨"SaidSo", "hearTalk", "(IZ)V"⟩) ∈ lw_all := lw_g (lw_at lw_ms 57 rfl) rfl
theorem qs58 : (Cond.selects "SaidSo" ⟨"SaidSo", "countWords", "(IZ)V"⟩ ⟨"SaidSo", "countWords", "(IZ)V"⟩) ∈ lw_all := lw_g (lw_at lw_ms 58 rfl) rfl
theorem qs59 : (Cond.selects "SaidSo" ⟨"SaidSo", "holds", "(I)Z"⟩ ⟨"SaidSo", "holds", "(I)Z"⟩) ∈ lw_all := lw_g (lw_at lw_ms 59 rfl) rfl
theorem qs60 : (Cond.selects "SaidSo" ⟨"SaidSo", "finds", "(II)Z"⟩ ⟨"SaidSo", "finds", "(II)Z"⟩) ∈ lw_all := lw_g (lw_at lw_ms 60 rfl) rfl
theorem qs61 : (Cond.selects "SaidSo" ⟨"SaidSo", "hearPage", "(I)V"⟩ ⟨"SaidSo", "hearPage", "(I)V"⟩) ∈ lw_all := lw_g (lw_at lw_ms 61 rfl) rfl
theorem qs62 : (Cond.selects "SaidSoModel" ⟨"SaidSoModel", "plain", "()V"⟩ ⟨"SaidSoModel", "plain", "()V"⟩) ∈ lw_all := lw_g (lw_at lw_ms 62 rfl) rfl
theorem qs63 : (Cond.selects "SaidSoModel" ⟨"SaidSoModel", "keep", "()V"⟩ ⟨"SaidSoModel", "keep", "()V"⟩) ∈ lw_all := lw_g (lw_at lw_ms 63 rfl) rfl
theorem qs64 : (Cond.selects "SaidSoModel" ⟨"SaidSoModel", "copies", "(II)V"⟩ ⟨"SaidSoModel", "copies", "(II)V"⟩) ∈ lw_all := lw_g (lw_at lw_ms 64 rfl) rfl
theorem qs65 : (Cond.selects "SaidSoModel" ⟨"SaidSoModel", "take", "()V"⟩ ⟨"SaidSoModel", "take", "()V"⟩) ∈ lw_all := lw_g (lw_at lw_ms 65 rfl) rfl
theorem qs66 : (Cond.selects "SaidSoModel" ⟨"SaidSoModel", "isSmall", "(I)Z"⟩ ⟨"SaidSoModel", "isSmall", "(I)Z"⟩) ∈ lw_all := lw_g (lw_at lw_ms 66 rfl) rfl
theorem qs67 : (Cond.selects "SaidSoModel" ⟨"SaidSoModel", "wordAt", "(II)I"⟩ ⟨"SaidSoModel", "wordAt", "(II)I"⟩) ∈ lw_all := lw_g (lw_at lw_ms 67 rfl) rfl
theorem qs68 : (Cond.selects "SaidSoModel" ⟨"SaidSoModel", "packed", "(II)I"⟩ ⟨"SaidSoModel", "packed", "(II)I"⟩) ∈ lw_all := lw_g (lw_at lw_ms 68 rfl) rfl
theorem qs69 : (Cond.selects "SaidSoModel" ⟨"SaidSoModel", "isDigit", "(I)Z"⟩ ⟨"SaidSoModel", "isDigit", "(I)Z"⟩) ∈ lw_all := lw_g (lw_at lw_ms 69 rfl) rfl
theorem qs70 : (Cond.selects "SaidSoModel" ⟨"SaidSoModel", "takeSign", "()V"⟩ ⟨"SaidSoModel", "takeSign", "()V"⟩) ∈ lw_all := lw_g (lw_at lw_ms 70 rfl) rfl
theorem qs71 : (Cond.selects "SaidSoModel" ⟨"SaidSoModel", "lineRead", "()Z"⟩ ⟨"SaidSoModel", "lineRead", "()Z"⟩) ∈ lw_all := lw_g (lw_at lw_ms 71 rfl) rfl
theorem qs72 : (Cond.selects "SaidSoModel" ⟨"SaidSoModel", "wrong", "(I)Z"⟩ ⟨"SaidSoModel", "wrong", "(I)Z"⟩) ∈ lw_all := lw_g (lw_at lw_ms 72 rfl) rfl
theorem qs73 : (Cond.selects "SaidSoModel" ⟨"SaidSoModel", "thingLine", "()Z"⟩ ⟨"SaidSoModel", "thingLine", "()Z"⟩) ∈ lw_all := lw_g (lw_at lw_ms 73 rfl) rfl
theorem qs74 : (Cond.selects "SaidSoModel" ⟨"SaidSoModel", "newName", "([III)Z"⟩ ⟨"SaidSoModel", "newName", "([III)Z"⟩) ∈ lw_all := lw_g (lw_at lw_ms 74 rfl) rfl
theorem qs75 : (Cond.selects "SaidSoModel" ⟨"SaidSoModel", "find", "([IIII)I"⟩ ⟨"SaidSoModel", "find", "([IIII)I"⟩) ∈ lw_all := lw_g (lw_at lw_ms 75 rfl) rfl
theorem qs76 : (Cond.selects "SaidSoModel" ⟨"SaidSoModel", "numberRead", "(II)Z"⟩ ⟨"SaidSoModel", "numberRead", "(II)Z"⟩) ∈ lw_all := lw_g (lw_at lw_ms 76 rfl) rfl
theorem qs77 : (Cond.selects "SaidSoModel" ⟨"SaidSoModel", "keyRead", "(I)Z"⟩ ⟨"SaidSoModel", "keyRead", "(I)Z"⟩) ∈ lw_all := lw_g (lw_at lw_ms 77 rfl) rfl
theorem qs78 : (Cond.selects "SaidSoModel" ⟨"SaidSoModel", "isKey", "(I)Z"⟩ ⟨"SaidSoModel", "isKey", "(I)Z"⟩) ∈ lw_all := lw_g (lw_at lw_ms 78 rfl) rfl
theorem qs79 : (Cond.selects "SaidSoModel" ⟨"SaidSoModel", "tellerLine", "()Z"⟩ ⟨"SaidSoModel", "tellerLine", "()Z"⟩) ∈ lw_all := lw_g (lw_at lw_ms 79 rfl) rfl
theorem qs80 : (Cond.selects "SaidSoModel" ⟨"SaidSoModel", "talkLine", "(Z)Z"⟩ ⟨"SaidSoModel", "talkLine", "(Z)Z"⟩) ∈ lw_all := lw_g (lw_at lw_ms 80 rfl) rfl
theorem qs81 : (Cond.selects "SaidSoModel" ⟨"SaidSoModel", "there", "([III)Z"⟩ ⟨"SaidSoModel", "there", "([III)Z"⟩) ∈ lw_all := lw_g (lw_at lw_ms 81 rfl) rfl
theorem qs82 : (Cond.selects "SaidSoModel" ⟨"SaidSoModel", "latestHour", "(III)I"⟩ ⟨"SaidSoModel", "latestHour", "(III)I"⟩) ∈ lw_all := lw_g (lw_at lw_ms 82 rfl) rfl
theorem qs83 : (Cond.selects "SaidSoModel" ⟨"SaidSoModel", "pageLine", "()Z"⟩ ⟨"SaidSoModel", "pageLine", "()Z"⟩) ∈ lw_all := lw_g (lw_at lw_ms 83 rfl) rfl
theorem qs84 : (Cond.selects "SaidSoModel" ⟨"SaidSoModel", "sumLine", "()Z"⟩ ⟨"SaidSoModel", "sumLine", "()Z"⟩) ∈ lw_all := lw_g (lw_at lw_ms 84 rfl) rfl
theorem qs85 : (Cond.selects "SaidSoModel" ⟨"SaidSoModel", "isSign", "(I)Z"⟩ ⟨"SaidSoModel", "isSign", "(I)Z"⟩) ∈ lw_all := lw_g (lw_at lw_ms 85 rfl) rfl
theorem qs86 : (Cond.selects "SaidSoModel" ⟨"SaidSoModel", "leafRead", "()Z"⟩ ⟨"SaidSoModel", "leafRead", "()Z"⟩) ∈ lw_all := lw_g (lw_at lw_ms 86 rfl) rfl
theorem qs87 : (Cond.selects "SaidSoModel" ⟨"SaidSoModel", "waitsFor", "(I)V"⟩ ⟨"SaidSoModel", "waitsFor", "(I)V"⟩) ∈ lw_all := lw_g (lw_at lw_ms 87 rfl) rfl
theorem qs88 : (Cond.selects "SaidSoModel" ⟨"SaidSoModel", "isCounted", "()Z"⟩ ⟨"SaidSoModel", "isCounted", "()Z"⟩) ∈ lw_all := lw_g (lw_at lw_ms 88 rfl) rfl
theorem qs89 : (Cond.selects "SaidSoModel" ⟨"SaidSoModel", "grown", "(III)V"⟩ ⟨"SaidSoModel", "grown", "(III)V"⟩) ∈ lw_all := lw_g (lw_at lw_ms 89 rfl) rfl
theorem qs90 : (Cond.selects "SaidSoModel" ⟨"SaidSoModel", "signs", "()Z"⟩ ⟨"SaidSoModel", "signs", "()Z"⟩) ∈ lw_all := lw_g (lw_at lw_ms 90 rfl) rfl
theorem qs91 : (Cond.selects "SaidSoModel" ⟨"SaidSoModel", "bind", "(I)V"⟩ ⟨"SaidSoModel", "bind", "(I)V"⟩) ∈ lw_all := lw_g (lw_at lw_ms 91 rfl) rfl
theorem qs92 : (Cond.selects "SaidSoModel" ⟨"SaidSoModel", "drop", "()I"⟩ ⟨"SaidSoModel", "drop", "()I"⟩) ∈ lw_all := lw_g (lw_at lw_ms 92 rfl) rfl
theorem qs93 : (Cond.selects "SaidSoModel" ⟨"SaidSoModel", "isThing", "(I)Z"⟩ ⟨"SaidSoModel", "isThing", "(I)Z"⟩) ∈ lw_all := lw_g (lw_at lw_ms 93 rfl) rfl
theorem qs94 : (Cond.selects "SaidSoModel" ⟨"SaidSoModel", "fails", "(I)I"⟩ ⟨"SaidSoModel", "fails", "(I)I"⟩) ∈ lw_all := lw_g (lw_at lw_ms 94 rfl) rfl
theorem qs95 : (Cond.selects "SaidSoModel" ⟨"SaidSoModel", "isTeller", "(I)Z"⟩ ⟨"SaidSoModel", "isTeller", "(I)Z"⟩) ∈ lw_all := lw_g (lw_at lw_ms 95 rfl) rfl
theorem qs96 : (Cond.selects "SaidSoModel" ⟨"SaidSoModel", "isHeard", "(I)Z"⟩ ⟨"SaidSoModel", "isHeard", "(I)Z"⟩) ∈ lw_all := lw_g (lw_at lw_ms 96 rfl) rfl
theorem qs97 : (Cond.selects "SaidSoModel" ⟨"SaidSoModel", "heardMany", "()I"⟩ ⟨"SaidSoModel", "heardMany", "()I"⟩) ∈ lw_all := lw_g (lw_at lw_ms 97 rfl) rfl
theorem qs98 : (Cond.selects "SaidSoModel" ⟨"SaidSoModel", "isHeardWord", "(I)Z"⟩ ⟨"SaidSoModel", "isHeardWord", "(I)Z"⟩) ∈ lw_all := lw_g (lw_at lw_ms 98 rfl) rfl
theorem qs99 : (Cond.selects "SaidSoModel" ⟨"SaidSoModel", "whatIs", "(I)I"⟩ ⟨"SaidSoModel", "whatIs", "(I)I"⟩) ∈ lw_all := lw_g (lw_at lw_ms 99 rfl) rfl
theorem qs100 : (Cond.selects "SaidSoModel" ⟨"SaidSoModel", "isRight", "(I)Z"⟩ ⟨"SaidSoModel", "isRight", "(I)Z"⟩) ∈ lw_all := lw_g (lw_at lw_ms 100 rfl) rfl
theorem qs101 : (Cond.selects "SaidSoModel" ⟨"SaidSoModel", "isFirst", "(I)Z"⟩ ⟨"SaidSoModel", "isFirst", "(I)Z"⟩) ∈ lw_all := lw_g (lw_at lw_ms 101 rfl) rfl
theorem qs102 : (Cond.selects "SaidSoModel" ⟨"SaidSoModel", "says", "(III)Z"⟩ ⟨"SaidSoModel", "says", "(III)Z"⟩) ∈ lw_all := lw_g (lw_at lw_ms 102 rfl) rfl
theorem qs103 : (Cond.selects "SaidSoModel" ⟨"SaidSoModel", "ledBy", "(I)I"⟩ ⟨"SaidSoModel", "ledBy", "(I)I"⟩) ∈ lw_all := lw_g (lw_at lw_ms 103 rfl) rfl
theorem qs104 : (Cond.selects "SaidSoModel" ⟨"SaidSoModel", "asks", "(II)Z"⟩ ⟨"SaidSoModel", "asks", "(II)Z"⟩) ∈ lw_all := lw_g (lw_at lw_ms 104 rfl) rfl
theorem qs105 : (Cond.selects "SaidSoModel" ⟨"SaidSoModel", "isOff", "(I)Z"⟩ ⟨"SaidSoModel", "isOff", "(I)Z"⟩) ∈ lw_all := lw_g (lw_at lw_ms 105 rfl) rfl
theorem qs106 : (Cond.selects "SaidSoModel" ⟨"SaidSoModel", "latestOff", "(II)I"⟩ ⟨"SaidSoModel", "latestOff", "(II)I"⟩) ∈ lw_all := lw_g (lw_at lw_ms 106 rfl) rfl
theorem qs107 : (Cond.selects "SaidSoModel" ⟨"SaidSoModel", "least", "()V"⟩ ⟨"SaidSoModel", "least", "()V"⟩) ∈ lw_all := lw_g (lw_at lw_ms 107 rfl) rfl
theorem qs108 : (Cond.selects "SaidSoModel" ⟨"SaidSoModel", "isFirstLine", "(I)Z"⟩ ⟨"SaidSoModel", "isFirstLine", "(I)Z"⟩) ∈ lw_all := lw_g (lw_at lw_ms 108 rfl) rfl
theorem qs109 : (Cond.selects "SaidSoModel" ⟨"SaidSoModel", "weighs", "(IZ)V"⟩ ⟨"SaidSoModel", "weighs", "(IZ)V"⟩) ∈ lw_all := lw_g (lw_at lw_ms 109 rfl) rfl
theorem qs110 : (Cond.selects "SaidSoModel" ⟨"SaidSoModel", "pageIs", "(I)I"⟩ ⟨"SaidSoModel", "pageIs", "(I)I"⟩) ∈ lw_all := lw_g (lw_at lw_ms 110 rfl) rfl
theorem qs111 : (Cond.selects "SaidSoModel" ⟨"SaidSoModel", "latestWord", "(II)I"⟩ ⟨"SaidSoModel", "latestWord", "(II)I"⟩) ∈ lw_all := lw_g (lw_at lw_ms 111 rfl) rfl
theorem qs112 : (Cond.selects "SaidSoModel" ⟨"SaidSoModel", "firstSaid", "(III)I"⟩ ⟨"SaidSoModel", "firstSaid", "(III)I"⟩) ∈ lw_all := lw_g (lw_at lw_ms 112 rfl) rfl
theorem qs113 : (Cond.selects "SaidSoModel" ⟨"SaidSoModel", "isOnPage", "(III)Z"⟩ ⟨"SaidSoModel", "isOnPage", "(III)Z"⟩) ∈ lw_all := lw_g (lw_at lw_ms 113 rfl) rfl
theorem qs114 : (Cond.selects "SaidSoModel" ⟨"SaidSoModel", "storyOf", "(II)I"⟩ ⟨"SaidSoModel", "storyOf", "(II)I"⟩) ∈ lw_all := lw_g (lw_at lw_ms 114 rfl) rfl
theorem qs115 : (Cond.selects "SaidSoModel" ⟨"SaidSoModel", "clashes", "(II)I"⟩ ⟨"SaidSoModel", "clashes", "(II)I"⟩) ∈ lw_all := lw_g (lw_at lw_ms 115 rfl) rfl
theorem qs116 : (Cond.selects "SaidSoModel" ⟨"SaidSoModel", "isSet", "(I)Z"⟩ ⟨"SaidSoModel", "isSet", "(I)Z"⟩) ∈ lw_all := lw_g (lw_at lw_ms 116 rfl) rfl
theorem qs117 : (Cond.selects "SaidSoModel" ⟨"SaidSoModel", "isTaped", "(I)Z"⟩ ⟨"SaidSoModel", "isTaped", "(I)Z"⟩) ∈ lw_all := lw_g (lw_at lw_ms 117 rfl) rfl
theorem qs118 : (Cond.selects "SaidSoModel" ⟨"SaidSoModel", "wasAsked", "(I)Z"⟩ ⟨"SaidSoModel", "wasAsked", "(I)Z"⟩) ∈ lw_all := lw_g (lw_at lw_ms 118 rfl) rfl
theorem qs119 : (Cond.selects "SaidSoModel" ⟨"SaidSoModel", "lawAt", "(I)I"⟩ ⟨"SaidSoModel", "lawAt", "(I)I"⟩) ∈ lw_all := lw_g (lw_at lw_ms 119 rfl) rfl
theorem qs120 : (Cond.selects "SaidSoModel" ⟨"SaidSoModel", "hasLine", "(I)Z"⟩ ⟨"SaidSoModel", "hasLine", "(I)Z"⟩) ∈ lw_all := lw_g (lw_at lw_ms 120 rfl) rfl
theorem qs121 : (Cond.selects "SaidSoModel" ⟨"SaidSoModel", "noNames", "(I)V"⟩ ⟨"SaidSoModel", "noNames", "(I)V"⟩) ∈ lw_all := lw_g (lw_at lw_ms 121 rfl) rfl
theorem qs122 : (Cond.selects "SaidSoModel" ⟨"SaidSoModel", "offUpTo", "(II)I"⟩ ⟨"SaidSoModel", "offUpTo", "(II)I"⟩) ∈ lw_all := lw_g (lw_at lw_ms 122 rfl) rfl
theorem qs123 : (Cond.selects "SaidSoModel" ⟨"SaidSoModel", "sumOf", "(I)J"⟩ ⟨"SaidSoModel", "sumOf", "(I)J"⟩) ∈ lw_all := lw_g (lw_at lw_ms 123 rfl) rfl
theorem qs124 : (Cond.selects "SaidSoModel" ⟨"SaidSoModel", "worthOf", "(I)J"⟩ ⟨"SaidSoModel", "worthOf", "(I)J"⟩) ∈ lw_all := lw_g (lw_at lw_ms 124 rfl) rfl
theorem qs125 : (Cond.selects "SaidSoModel" ⟨"SaidSoModel", "bounded", "(J)J"⟩ ⟨"SaidSoModel", "bounded", "(J)J"⟩) ∈ lw_all := lw_g (lw_at lw_ms 125 rfl) rfl
theorem qs126 : (Cond.selects "SaidSoModel" ⟨"SaidSoModel", "times", "(JJ)J"⟩ ⟨"SaidSoModel", "times", "(JJ)J"⟩) ∈ lw_all := lw_g (lw_at lw_ms 126 rfl) rfl
theorem qs127 : (Cond.selects "SaidSoModel" ⟨"SaidSoModel", "isFirstOf", "(II)Z"⟩ ⟨"SaidSoModel", "isFirstOf", "(II)Z"⟩) ∈ lw_all := lw_g (lw_at lw_ms 127 rfl) rfl
theorem qs128 : (Cond.selects "SaidSoModel" ⟨"SaidSoModel", "putAhead", "(I)I"⟩ ⟨"SaidSoModel", "putAhead", "(I)I"⟩) ∈ lw_all := lw_g (lw_at lw_ms 128 rfl) rfl
theorem qs129 : (Cond.selects "SaidSoModel" ⟨"SaidSoModel", "drawn", "(I)I"⟩ ⟨"SaidSoModel", "drawn", "(I)I"⟩) ∈ lw_all := lw_g (lw_at lw_ms 129 rfl) rfl
theorem qs130 : (Cond.selects "SaidSoModel" ⟨"SaidSoModel", "isBarred", "(I)Z"⟩ ⟨"SaidSoModel", "isBarred", "(I)Z"⟩) ∈ lw_all := lw_g (lw_at lw_ms 130 rfl) rfl
theorem qs131 : (Cond.selects "SaidSoModel" ⟨"SaidSoModel", "namesByBoth", "(I)V"⟩ ⟨"SaidSoModel", "namesByBoth", "(I)V"⟩) ∈ lw_all := lw_g (lw_at lw_ms 131 rfl) rfl
theorem qs132 : (Cond.selects "SaidSoModel" ⟨"SaidSoModel", "namesByTalk", "(IZ)V"⟩ ⟨"SaidSoModel", "namesByTalk", "(IZ)V"⟩) ∈ lw_all := lw_g (lw_at lw_ms 132 rfl) rfl
theorem qs133 : (Cond.selects "SaidSoModel" ⟨"SaidSoModel", "isIn1", "(IIZ)Z"⟩ ⟨"SaidSoModel", "isIn1", "(IIZ)Z"⟩) ∈ lw_all := lw_g (lw_at lw_ms 133 rfl) rfl
theorem qs134 : (Cond.selects "SaidSoModel" ⟨"SaidSoModel", "isFirstIn", "(IIZ)Z"⟩ ⟨"SaidSoModel", "isFirstIn", "(IIZ)Z"⟩) ∈ lw_all := lw_g (lw_at lw_ms 134 rfl) rfl
theorem qs135 : (Cond.selects "SaidSoModel" ⟨"SaidSoModel", "holds", "(I)Z"⟩ ⟨"SaidSoModel", "holds", "(I)Z"⟩) ∈ lw_all := lw_g (lw_at lw_ms 135 rfl) rfl
theorem qs136 : (Cond.selects "SaidSoModel" ⟨"SaidSoModel", "finds", "(II)Z"⟩ ⟨"SaidSoModel", "finds", "(II)Z"⟩) ∈ lw_all := lw_g (lw_at lw_ms 136 rfl) rfl
theorem qs137 : (Cond.selects "SaidSoModel" ⟨"SaidSoModel", "namesByPage", "(I)V"⟩ ⟨"SaidSoModel", "namesByPage", "(I)V"⟩) ∈ lw_all := lw_g (lw_at lw_ms 137 rfl) rfl
