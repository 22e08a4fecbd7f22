-- ===== PART A: goes FIRST, ahead of the names: the tables' words, and 'selects' of the private methods out of them =====
/-- a private method of a class that the tables say can be made, by its rows of tables_1 -/
def lw_okq (q : MethodName × Nat) : Prop := (q.1.cls ≠ "java/lang/invoke/MethodHandle" ∧ q.1.cls ≠ "java/lang/invoke/VarHandle") ∧ Cond.instantiable q.1.cls q.2 ∈ tables_1 ∧ Cond.privateMethod q.1 ∈ tables_1 ∧ Cond.instanceMethod q.1 ∈ tables_1
set_option maxRecDepth 100000
theorem lw_t1 {w : Cond} (h : w ∈ tables_1_1) : w ∈ tables_1 := List.mem_append_left _ h
theorem lw_t2 {w : Cond} (h : w ∈ tables_1_2) : w ∈ tables_1 := List.mem_append_right _ (List.mem_append_left _ h)
theorem lw_t3 {w : Cond} (h : w ∈ tables_1_3) : w ∈ tables_1 := List.mem_append_right _ (List.mem_append_right _ (List.mem_append_left _ h))
theorem lw_t4 {w : Cond} (h : w ∈ tables_1_4) : w ∈ tables_1 := List.mem_append_right _ (List.mem_append_right _ (List.mem_append_right _ (List.mem_append_left _ h)))
theorem lw_t5 {w : Cond} (h : w ∈ tables_1_5) : w ∈ tables_1 := List.mem_append_right _ (List.mem_append_right _ (List.mem_append_right _ (List.mem_append_right _ (List.mem_append_left _ h))))
theorem lw_t6 {w : Cond} (h : w ∈ tables_1_6) : w ∈ tables_1 := List.mem_append_right _ (List.mem_append_right _ (List.mem_append_right _ (List.mem_append_right _ (List.mem_append_right _ (List.mem_append_left _ h)))))
theorem lw_t7 {w : Cond} (h : w ∈ tables_1_7) : w ∈ tables_1 := List.mem_append_right _ (List.mem_append_right _ (List.mem_append_right _ (List.mem_append_right _ (List.mem_append_right _ (List.mem_append_right _ (List.mem_append_left _ h))))))
theorem lw_t8 {w : Cond} (h : w ∈ tables_1_8) : w ∈ tables_1 := List.mem_append_right _ (List.mem_append_right _ (List.mem_append_right _ (List.mem_append_right _ (List.mem_append_right _ (List.mem_append_right _ (List.mem_append_right _ (List.mem_append_left _ h)))))))
theorem lw_t9 {w : Cond} (h : w ∈ tables_1_9) : w ∈ tables_1 := List.mem_append_right _ (List.mem_append_right _ (List.mem_append_right _ (List.mem_append_right _ (List.mem_append_right _ (List.mem_append_right _ (List.mem_append_right _ (List.mem_append_right _ h)))))))
theorem lw_p0 : lw_okq (⟨"WindGas", "tellings", "(I)LWindGas$Tellings;"⟩, 42) := ⟨⟨by decide +kernel, by decide +kernel⟩, lw_t1 (List.mem_of_getElem? (i := 38) rfl), lw_t2 (List.mem_of_getElem? (i := 85) rfl), lw_t2 (List.mem_of_getElem? (i := 86) rfl)⟩
theorem lw_p1 : lw_okq (⟨"java/util/ArrayList", "add", "(Ljava/lang/Object;[Ljava/lang/Object;I)V"⟩, 3) := ⟨⟨by decide +kernel, by decide +kernel⟩, lw_t1 (List.mem_of_getElem? (i := 52) rfl), lw_t2 (List.mem_of_getElem? (i := 121) rfl), lw_t2 (List.mem_of_getElem? (i := 122) rfl)⟩
theorem lw_p2 : lw_okq (⟨"java/util/ArrayList", "grow", "()[Ljava/lang/Object;"⟩, 3) := ⟨⟨by decide +kernel, by decide +kernel⟩, lw_t1 (List.mem_of_getElem? (i := 52) rfl), lw_t2 (List.mem_of_getElem? (i := 125) rfl), lw_t2 (List.mem_of_getElem? (i := 126) rfl)⟩
theorem lw_p3 : lw_okq (⟨"java/util/ArrayList", "grow", "(I)[Ljava/lang/Object;"⟩, 3) := ⟨⟨by decide +kernel, by decide +kernel⟩, lw_t1 (List.mem_of_getElem? (i := 52) rfl), lw_t2 (List.mem_of_getElem? (i := 129) rfl), lw_t2 (List.mem_of_getElem? (i := 130) rfl)⟩
theorem lw_p4 : lw_okq (⟨"WindGas", "at", "(I)LWindGas$Rules;"⟩, 42) := ⟨⟨by decide +kernel, by decide +kernel⟩, lw_t1 (List.mem_of_getElem? (i := 38) rfl), lw_t2 (List.mem_of_getElem? (i := 224) rfl), lw_t2 (List.mem_of_getElem? (i := 225) rfl)⟩
theorem lw_p5 : lw_okq (⟨"WindGas", "numberAt", "(I)I"⟩, 42) := ⟨⟨by decide +kernel, by decide +kernel⟩, lw_t1 (List.mem_of_getElem? (i := 38) rfl), lw_t2 (List.mem_of_getElem? (i := 228) rfl), lw_t2 (List.mem_of_getElem? (i := 229) rfl)⟩
theorem lw_p6 : lw_okq (⟨"WindGas", "tapes", "([I)I"⟩, 42) := ⟨⟨by decide +kernel, by decide +kernel⟩, lw_t1 (List.mem_of_getElem? (i := 38) rfl), lw_t2 (List.mem_of_getElem? (i := 238) rfl), lw_t2 (List.mem_of_getElem? (i := 239) rfl)⟩
theorem lw_p7 : lw_okq (⟨"WindGas", "next", "()V"⟩, 42) := ⟨⟨by decide +kernel, by decide +kernel⟩, lw_t1 (List.mem_of_getElem? (i := 38) rfl), lw_t3 (List.mem_of_getElem? (i := 7) rfl), lw_t3 (List.mem_of_getElem? (i := 8) rfl)⟩
theorem lw_p8 : lw_okq (⟨"WindGas", "here", "(I)I"⟩, 42) := ⟨⟨by decide +kernel, by decide +kernel⟩, lw_t1 (List.mem_of_getElem? (i := 38) rfl), lw_t3 (List.mem_of_getElem? (i := 11) rfl), lw_t3 (List.mem_of_getElem? (i := 12) rfl)⟩
theorem lw_p9 : lw_okq (⟨"java/lang/Throwable", "fillInStackTrace", "(I)Ljava/lang/Throwable;"⟩, 6) := ⟨⟨by decide +kernel, by decide +kernel⟩, lw_t3 (List.mem_of_getElem? (i := 233) rfl), lw_t3 (List.mem_of_getElem? (i := 231) rfl), lw_t3 (List.mem_of_getElem? (i := 232) rfl)⟩
theorem lw_p10 : lw_okq (⟨"WindGas", "statement", "(LWindGas$Rules;)V"⟩, 42) := ⟨⟨by decide +kernel, by decide +kernel⟩, lw_t1 (List.mem_of_getElem? (i := 38) rfl), lw_t4 (List.mem_of_getElem? (i := 25) rfl), lw_t4 (List.mem_of_getElem? (i := 26) rfl)⟩
theorem lw_p11 : lw_okq (⟨"WindGas", "any", "()I"⟩, 42) := ⟨⟨by decide +kernel, by decide +kernel⟩, lw_t1 (List.mem_of_getElem? (i := 38) rfl), lw_t4 (List.mem_of_getElem? (i := 99) rfl), lw_t4 (List.mem_of_getElem? (i := 100) rfl)⟩
theorem lw_p12 : lw_okq (⟨"WindGas", "number", "(II)I"⟩, 42) := ⟨⟨by decide +kernel, by decide +kernel⟩, lw_t1 (List.mem_of_getElem? (i := 38) rfl), lw_t4 (List.mem_of_getElem? (i := 104) rfl), lw_t4 (List.mem_of_getElem? (i := 105) rfl)⟩
theorem lw_p13 : lw_okq (⟨"WindGas", "must", "(Z)V"⟩, 42) := ⟨⟨by decide +kernel, by decide +kernel⟩, lw_t1 (List.mem_of_getElem? (i := 38) rfl), lw_t4 (List.mem_of_getElem? (i := 108) rfl), lw_t4 (List.mem_of_getElem? (i := 109) rfl)⟩
theorem lw_p14 : lw_okq (⟨"WindGas", "oneOf", "([Ljava/lang/String;)I"⟩, 42) := ⟨⟨by decide +kernel, by decide +kernel⟩, lw_t1 (List.mem_of_getElem? (i := 38) rfl), lw_t4 (List.mem_of_getElem? (i := 116) rfl), lw_t4 (List.mem_of_getElem? (i := 117) rfl)⟩
theorem lw_p15 : lw_okq (⟨"WindGas", "isWord", "(Ljava/lang/String;)Z"⟩, 42) := ⟨⟨by decide +kernel, by decide +kernel⟩, lw_t1 (List.mem_of_getElem? (i := 38) rfl), lw_t4 (List.mem_of_getElem? (i := 120) rfl), lw_t4 (List.mem_of_getElem? (i := 121) rfl)⟩
def lw_privs_1 : List (MethodName × Nat) := [(⟨"WindGas", "tellings", "(I)LWindGas$Tellings;"⟩, 42), (⟨"java/util/ArrayList", "add", "(Ljava/lang/Object;[Ljava/lang/Object;I)V"⟩, 3), (⟨"java/util/ArrayList", "grow", "()[Ljava/lang/Object;"⟩, 3), (⟨"java/util/ArrayList", "grow", "(I)[Ljava/lang/Object;"⟩, 3), (⟨"WindGas", "at", "(I)LWindGas$Rules;"⟩, 42), (⟨"WindGas", "numberAt", "(I)I"⟩, 42), (⟨"WindGas", "tapes", "([I)I"⟩, 42), (⟨"WindGas", "next", "()V"⟩, 42), (⟨"WindGas", "here", "(I)I"⟩, 42), (⟨"java/lang/Throwable", "fillInStackTrace", "(I)Ljava/lang/Throwable;"⟩, 6), (⟨"WindGas", "statement", "(LWindGas$Rules;)V"⟩, 42), (⟨"WindGas", "any", "()I"⟩, 42), (⟨"WindGas", "number", "(II)I"⟩, 42), (⟨"WindGas", "must", "(Z)V"⟩, 42), (⟨"WindGas", "oneOf", "([Ljava/lang/String;)I"⟩, 42), (⟨"WindGas", "isWord", "(Ljava/lang/String;)Z"⟩, 42)]
theorem lw_r1 : ∀ q ∈ lw_privs_1, lw_okq q := List.forall_mem_cons.mpr ⟨lw_p0, List.forall_mem_cons.mpr ⟨lw_p1, List.forall_mem_cons.mpr ⟨lw_p2, List.forall_mem_cons.mpr ⟨lw_p3, List.forall_mem_cons.mpr ⟨lw_p4, List.forall_mem_cons.mpr ⟨lw_p5, List.forall_mem_cons.mpr ⟨lw_p6, List.forall_mem_cons.mpr ⟨lw_p7, List.forall_mem_cons.mpr ⟨lw_p8, List.forall_mem_cons.mpr ⟨lw_p9, List.forall_mem_cons.mpr ⟨lw_p10, List.forall_mem_cons.mpr ⟨lw_p11, List.forall_mem_cons.mpr ⟨lw_p12, List.forall_mem_cons.mpr ⟨lw_p13, List.forall_mem_cons.mpr ⟨lw_p14, List.forall_mem_cons.mpr ⟨lw_p15, fun _ h => absurd h List.not_mem_nil⟩⟩⟩⟩⟩⟩⟩⟩⟩⟩⟩⟩⟩⟩⟩⟩
theorem lw_p16 : lw_okq (⟨"WindGas", "condition", "()LWindGas$Cond;"⟩, 42) := ⟨⟨by decide +kernel, by decide +kernel⟩, lw_t1 (List.mem_of_getElem? (i := 38) rfl), lw_t4 (List.mem_of_getElem? (i := 124) rfl), lw_t4 (List.mem_of_getElem? (i := 125) rfl)⟩
theorem lw_p17 : lw_okq (⟨"WindGas", "anyOf", "()LWindGas$Cond;"⟩, 42) := ⟨⟨by decide +kernel, by decide +kernel⟩, lw_t1 (List.mem_of_getElem? (i := 38) rfl), lw_t4 (List.mem_of_getElem? (i := 129) rfl), lw_t4 (List.mem_of_getElem? (i := 130) rfl)⟩
theorem lw_p18 : lw_okq (⟨"WindGas", "allOf", "()LWindGas$Cond;"⟩, 42) := ⟨⟨by decide +kernel, by decide +kernel⟩, lw_t1 (List.mem_of_getElem? (i := 38) rfl), lw_t4 (List.mem_of_getElem? (i := 135) rfl), lw_t4 (List.mem_of_getElem? (i := 136) rfl)⟩
theorem lw_p19 : lw_okq (⟨"WindGas", "one", "()LWindGas$Cond;"⟩, 42) := ⟨⟨by decide +kernel, by decide +kernel⟩, lw_t1 (List.mem_of_getElem? (i := 38) rfl), lw_t4 (List.mem_of_getElem? (i := 139) rfl), lw_t4 (List.mem_of_getElem? (i := 140) rfl)⟩
theorem lw_p20 : lw_okq (⟨"WindGas", "opens", "()V"⟩, 42) := ⟨⟨by decide +kernel, by decide +kernel⟩, lw_t1 (List.mem_of_getElem? (i := 38) rfl), lw_t4 (List.mem_of_getElem? (i := 144) rfl), lw_t4 (List.mem_of_getElem? (i := 145) rfl)⟩
theorem lw_p21 : lw_okq (⟨"WindGas", "kind", "()I"⟩, 42) := ⟨⟨by decide +kernel, by decide +kernel⟩, lw_t1 (List.mem_of_getElem? (i := 38) rfl), lw_t4 (List.mem_of_getElem? (i := 200) rfl), lw_t4 (List.mem_of_getElem? (i := 201) rfl)⟩
theorem lw_p22 : lw_okq (⟨"WindGas", "storeAt", "(I)LWindGas$Store;"⟩, 42) := ⟨⟨by decide +kernel, by decide +kernel⟩, lw_t1 (List.mem_of_getElem? (i := 38) rfl), lw_t4 (List.mem_of_getElem? (i := 236) rfl), lw_t4 (List.mem_of_getElem? (i := 237) rfl)⟩
theorem lw_p23 : lw_okq (⟨"java/util/ArrayList", "fastRemove", "([Ljava/lang/Object;I)V"⟩, 3) := ⟨⟨by decide +kernel, by decide +kernel⟩, lw_t1 (List.mem_of_getElem? (i := 52) rfl), lw_t5 (List.mem_of_getElem? (i := 55) rfl), lw_t5 (List.mem_of_getElem? (i := 56) rfl)⟩
theorem lw_p24 : lw_okq (⟨"WindGas", "ten", "()V"⟩, 42) := ⟨⟨by decide +kernel, by decide +kernel⟩, lw_t1 (List.mem_of_getElem? (i := 38) rfl), lw_t5 (List.mem_of_getElem? (i := 114) rfl), lw_t5 (List.mem_of_getElem? (i := 115) rfl)⟩
theorem lw_p25 : lw_okq (⟨"WindGas", "runs", "()I"⟩, 42) := ⟨⟨by decide +kernel, by decide +kernel⟩, lw_t1 (List.mem_of_getElem? (i := 38) rfl), lw_t5 (List.mem_of_getElem? (i := 118) rfl), lw_t5 (List.mem_of_getElem? (i := 119) rfl)⟩
theorem lw_p26 : lw_okq (⟨"WindGas", "asked", "(IJJJ)V"⟩, 42) := ⟨⟨by decide +kernel, by decide +kernel⟩, lw_t1 (List.mem_of_getElem? (i := 38) rfl), lw_t5 (List.mem_of_getElem? (i := 122) rfl), lw_t5 (List.mem_of_getElem? (i := 123) rfl)⟩
theorem lw_p27 : lw_okq (⟨"WindGas", "splits", "(LWindGas$Rules;I)I"⟩, 42) := ⟨⟨by decide +kernel, by decide +kernel⟩, lw_t1 (List.mem_of_getElem? (i := 38) rfl), lw_t5 (List.mem_of_getElem? (i := 161) rfl), lw_t5 (List.mem_of_getElem? (i := 162) rfl)⟩
theorem lw_p28 : lw_okq (⟨"WindGas", "orders", "(LWindGas$Rules;)V"⟩, 42) := ⟨⟨by decide +kernel, by decide +kernel⟩, lw_t1 (List.mem_of_getElem? (i := 38) rfl), lw_t5 (List.mem_of_getElem? (i := 165) rfl), lw_t5 (List.mem_of_getElem? (i := 166) rfl)⟩
theorem lw_p29 : lw_okq (⟨"WindGas", "works", "(LWindGas$Stack;LWindGas$Rules;I)I"⟩, 42) := ⟨⟨by decide +kernel, by decide +kernel⟩, lw_t1 (List.mem_of_getElem? (i := 38) rfl), lw_t5 (List.mem_of_getElem? (i := 172) rfl), lw_t5 (List.mem_of_getElem? (i := 173) rfl)⟩
theorem lw_p30 : lw_okq (⟨"WindGas", "fills", "(LWindGas$Store;I)V"⟩, 42) := ⟨⟨by decide +kernel, by decide +kernel⟩, lw_t1 (List.mem_of_getElem? (i := 38) rfl), lw_t5 (List.mem_of_getElem? (i := 197) rfl), lw_t5 (List.mem_of_getElem? (i := 198) rfl)⟩
theorem lw_p31 : lw_okq (⟨"WindGas", "tries", "(LWindGas$Trip;LWindGas$Rules;)V"⟩, 42) := ⟨⟨by decide +kernel, by decide +kernel⟩, lw_t1 (List.mem_of_getElem? (i := 38) rfl), lw_t5 (List.mem_of_getElem? (i := 231) rfl), lw_t5 (List.mem_of_getElem? (i := 232) rfl)⟩
def lw_privs_2 : List (MethodName × Nat) := [(⟨"WindGas", "condition", "()LWindGas$Cond;"⟩, 42), (⟨"WindGas", "anyOf", "()LWindGas$Cond;"⟩, 42), (⟨"WindGas", "allOf", "()LWindGas$Cond;"⟩, 42), (⟨"WindGas", "one", "()LWindGas$Cond;"⟩, 42), (⟨"WindGas", "opens", "()V"⟩, 42), (⟨"WindGas", "kind", "()I"⟩, 42), (⟨"WindGas", "storeAt", "(I)LWindGas$Store;"⟩, 42), (⟨"java/util/ArrayList", "fastRemove", "([Ljava/lang/Object;I)V"⟩, 3), (⟨"WindGas", "ten", "()V"⟩, 42), (⟨"WindGas", "runs", "()I"⟩, 42), (⟨"WindGas", "asked", "(IJJJ)V"⟩, 42), (⟨"WindGas", "splits", "(LWindGas$Rules;I)I"⟩, 42), (⟨"WindGas", "orders", "(LWindGas$Rules;)V"⟩, 42), (⟨"WindGas", "works", "(LWindGas$Stack;LWindGas$Rules;I)I"⟩, 42), (⟨"WindGas", "fills", "(LWindGas$Store;I)V"⟩, 42), (⟨"WindGas", "tries", "(LWindGas$Trip;LWindGas$Rules;)V"⟩, 42)]
theorem lw_r2 : ∀ q ∈ lw_privs_2, lw_okq q := List.forall_mem_cons.mpr ⟨lw_p16, List.forall_mem_cons.mpr ⟨lw_p17, List.forall_mem_cons.mpr ⟨lw_p18, List.forall_mem_cons.mpr ⟨lw_p19, List.forall_mem_cons.mpr ⟨lw_p20, List.forall_mem_cons.mpr ⟨lw_p21, List.forall_mem_cons.mpr ⟨lw_p22, List.forall_mem_cons.mpr ⟨lw_p23, List.forall_mem_cons.mpr ⟨lw_p24, List.forall_mem_cons.mpr ⟨lw_p25, List.forall_mem_cons.mpr ⟨lw_p26, List.forall_mem_cons.mpr ⟨lw_p27, List.forall_mem_cons.mpr ⟨lw_p28, List.forall_mem_cons.mpr ⟨lw_p29, List.forall_mem_cons.mpr ⟨lw_p30, List.forall_mem_cons.mpr ⟨lw_p31, fun _ h => absurd h List.not_mem_nil⟩⟩⟩⟩⟩⟩⟩⟩⟩⟩⟩⟩⟩⟩⟩⟩
theorem lw_p32 : lw_okq (⟨"WindGas", "isHour", "(I)Z"⟩, 42) := ⟨⟨by decide +kernel, by decide +kernel⟩, lw_t1 (List.mem_of_getElem? (i := 38) rfl), lw_t6 (List.mem_of_getElem? (i := 59) rfl), lw_t6 (List.mem_of_getElem? (i := 60) rfl)⟩
theorem lw_p33 : lw_okq (⟨"WindGas", "isGreen", "(I)Z"⟩, 42) := ⟨⟨by decide +kernel, by decide +kernel⟩, lw_t1 (List.mem_of_getElem? (i := 38) rfl), lw_t6 (List.mem_of_getElem? (i := 64) rfl), lw_t6 (List.mem_of_getElem? (i := 65) rfl)⟩
theorem lw_p34 : lw_okq (⟨"WindGas", "tripAt", "(I)LWindGas$Trip;"⟩, 42) := ⟨⟨by decide +kernel, by decide +kernel⟩, lw_t1 (List.mem_of_getElem? (i := 38) rfl), lw_t6 (List.mem_of_getElem? (i := 72) rfl), lw_t6 (List.mem_of_getElem? (i := 73) rfl)⟩
theorem lw_p35 : lw_okq (⟨"WindGas", "proved", "(LWindGas$Trip;)I"⟩, 42) := ⟨⟨by decide +kernel, by decide +kernel⟩, lw_t1 (List.mem_of_getElem? (i := 38) rfl), lw_t6 (List.mem_of_getElem? (i := 76) rfl), lw_t6 (List.mem_of_getElem? (i := 77) rfl)⟩
theorem lw_p36 : lw_okq (⟨"WindGas", "isValid", "(I)Z"⟩, 42) := ⟨⟨by decide +kernel, by decide +kernel⟩, lw_t1 (List.mem_of_getElem? (i := 38) rfl), lw_t6 (List.mem_of_getElem? (i := 142) rfl), lw_t6 (List.mem_of_getElem? (i := 143) rfl)⟩
theorem lw_p37 : lw_okq (⟨"WindGas", "hundreds", "(IILWindGas$Rules;)I"⟩, 42) := ⟨⟨by decide +kernel, by decide +kernel⟩, lw_t1 (List.mem_of_getElem? (i := 38) rfl), lw_t6 (List.mem_of_getElem? (i := 209) rfl), lw_t6 (List.mem_of_getElem? (i := 210) rfl)⟩
theorem lw_p38 : lw_okq (⟨"WindGas", "costOf", "(IIII)I"⟩, 42) := ⟨⟨by decide +kernel, by decide +kernel⟩, lw_t1 (List.mem_of_getElem? (i := 38) rfl), lw_t6 (List.mem_of_getElem? (i := 213) rfl), lw_t6 (List.mem_of_getElem? (i := 214) rfl)⟩
theorem lw_p39 : lw_okq (⟨"WindGas", "running", "()I"⟩, 42) := ⟨⟨by decide +kernel, by decide +kernel⟩, lw_t1 (List.mem_of_getElem? (i := 38) rfl), lw_t6 (List.mem_of_getElem? (i := 224) rfl), lw_t6 (List.mem_of_getElem? (i := 225) rfl)⟩
theorem lw_p40 : lw_okq (⟨"WindGas", "leftMany", "()I"⟩, 42) := ⟨⟨by decide +kernel, by decide +kernel⟩, lw_t1 (List.mem_of_getElem? (i := 38) rfl), lw_t6 (List.mem_of_getElem? (i := 237) rfl), lw_t6 (List.mem_of_getElem? (i := 238) rfl)⟩
theorem lw_p41 : lw_okq (⟨"WindGas", "validMany", "()I"⟩, 42) := ⟨⟨by decide +kernel, by decide +kernel⟩, lw_t1 (List.mem_of_getElem? (i := 38) rfl), lw_t7 (List.mem_of_getElem? (i := 1) rfl), lw_t7 (List.mem_of_getElem? (i := 2) rfl)⟩
theorem lw_p42 : lw_okq (⟨"WindGas", "greenMany", "()I"⟩, 42) := ⟨⟨by decide +kernel, by decide +kernel⟩, lw_t1 (List.mem_of_getElem? (i := 38) rfl), lw_t7 (List.mem_of_getElem? (i := 5) rfl), lw_t7 (List.mem_of_getElem? (i := 6) rfl)⟩
theorem lw_p43 : lw_okq (⟨"WindGasModel", "saidOf", "(II)I"⟩, 79) := ⟨⟨by decide +kernel, by decide +kernel⟩, lw_t7 (List.mem_of_getElem? (i := 9) rfl), lw_t8 (List.mem_of_getElem? (i := 32) rfl), lw_t8 (List.mem_of_getElem? (i := 33) rfl)⟩
theorem lw_p44 : lw_okq (⟨"WindGasModel", "ten", "()V"⟩, 79) := ⟨⟨by decide +kernel, by decide +kernel⟩, lw_t7 (List.mem_of_getElem? (i := 9) rfl), lw_t8 (List.mem_of_getElem? (i := 63) rfl), lw_t8 (List.mem_of_getElem? (i := 64) rfl)⟩
theorem lw_p45 : lw_okq (⟨"WindGasModel", "inForce", "(I)I"⟩, 79) := ⟨⟨by decide +kernel, by decide +kernel⟩, lw_t7 (List.mem_of_getElem? (i := 9) rfl), lw_t8 (List.mem_of_getElem? (i := 67) rfl), lw_t8 (List.mem_of_getElem? (i := 68) rfl)⟩
theorem lw_p46 : lw_okq (⟨"WindGasModel", "runningNow", "()I"⟩, 79) := ⟨⟨by decide +kernel, by decide +kernel⟩, lw_t7 (List.mem_of_getElem? (i := 9) rfl), lw_t8 (List.mem_of_getElem? (i := 71) rfl), lw_t8 (List.mem_of_getElem? (i := 72) rfl)⟩
theorem lw_p47 : lw_okq (⟨"WindGasModel", "asks", "(IIIIII)Z"⟩, 79) := ⟨⟨by decide +kernel, by decide +kernel⟩, lw_t7 (List.mem_of_getElem? (i := 9) rfl), lw_t8 (List.mem_of_getElem? (i := 78) rfl), lw_t8 (List.mem_of_getElem? (i := 79) rfl)⟩
def lw_privs_3 : List (MethodName × Nat) := [(⟨"WindGas", "isHour", "(I)Z"⟩, 42), (⟨"WindGas", "isGreen", "(I)Z"⟩, 42), (⟨"WindGas", "tripAt", "(I)LWindGas$Trip;"⟩, 42), (⟨"WindGas", "proved", "(LWindGas$Trip;)I"⟩, 42), (⟨"WindGas", "isValid", "(I)Z"⟩, 42), (⟨"WindGas", "hundreds", "(IILWindGas$Rules;)I"⟩, 42), (⟨"WindGas", "costOf", "(IIII)I"⟩, 42), (⟨"WindGas", "running", "()I"⟩, 42), (⟨"WindGas", "leftMany", "()I"⟩, 42), (⟨"WindGas", "validMany", "()I"⟩, 42), (⟨"WindGas", "greenMany", "()I"⟩, 42), (⟨"WindGasModel", "saidOf", "(II)I"⟩, 79), (⟨"WindGasModel", "ten", "()V"⟩, 79), (⟨"WindGasModel", "inForce", "(I)I"⟩, 79), (⟨"WindGasModel", "runningNow", "()I"⟩, 79), (⟨"WindGasModel", "asks", "(IIIIII)Z"⟩, 79)]
theorem lw_r3 : ∀ q ∈ lw_privs_3, lw_okq q := List.forall_mem_cons.mpr ⟨lw_p32, List.forall_mem_cons.mpr ⟨lw_p33, List.forall_mem_cons.mpr ⟨lw_p34, List.forall_mem_cons.mpr ⟨lw_p35, List.forall_mem_cons.mpr ⟨lw_p36, List.forall_mem_cons.mpr ⟨lw_p37, List.forall_mem_cons.mpr ⟨lw_p38, List.forall_mem_cons.mpr ⟨lw_p39, List.forall_mem_cons.mpr ⟨lw_p40, List.forall_mem_cons.mpr ⟨lw_p41, List.forall_mem_cons.mpr ⟨lw_p42, List.forall_mem_cons.mpr ⟨lw_p43, List.forall_mem_cons.mpr ⟨lw_p44, List.forall_mem_cons.mpr ⟨lw_p45, List.forall_mem_cons.mpr ⟨lw_p46, List.forall_mem_cons.mpr ⟨lw_p47, fun _ h => absurd h List.not_mem_nil⟩⟩⟩⟩⟩⟩⟩⟩⟩⟩⟩⟩⟩⟩⟩⟩
theorem lw_p48 : lw_okq (⟨"WindGasModel", "holds", "(I)Z"⟩, 79) := ⟨⟨by decide +kernel, by decide +kernel⟩, lw_t7 (List.mem_of_getElem? (i := 9) rfl), lw_t8 (List.mem_of_getElem? (i := 82) rfl), lw_t8 (List.mem_of_getElem? (i := 83) rfl)⟩
theorem lw_p49 : lw_okq (⟨"WindGasModel", "orders", "(I)V"⟩, 79) := ⟨⟨by decide +kernel, by decide +kernel⟩, lw_t7 (List.mem_of_getElem? (i := 9) rfl), lw_t8 (List.mem_of_getElem? (i := 87) rfl), lw_t8 (List.mem_of_getElem? (i := 88) rfl)⟩
theorem lw_p50 : lw_okq (⟨"WindGasModel", "tells", "(II)I"⟩, 79) := ⟨⟨by decide +kernel, by decide +kernel⟩, lw_t7 (List.mem_of_getElem? (i := 9) rfl), lw_t8 (List.mem_of_getElem? (i := 91) rfl), lw_t8 (List.mem_of_getElem? (i := 92) rfl)⟩
theorem lw_p51 : lw_okq (⟨"WindGasModel", "turns", "(III)I"⟩, 79) := ⟨⟨by decide +kernel, by decide +kernel⟩, lw_t7 (List.mem_of_getElem? (i := 9) rfl), lw_t8 (List.mem_of_getElem? (i := 98) rfl), lw_t8 (List.mem_of_getElem? (i := 99) rfl)⟩
theorem lw_p52 : lw_okq (⟨"WindGasModel", "leastOf", "(II)I"⟩, 79) := ⟨⟨by decide +kernel, by decide +kernel⟩, lw_t7 (List.mem_of_getElem? (i := 9) rfl), lw_t8 (List.mem_of_getElem? (i := 102) rfl), lw_t8 (List.mem_of_getElem? (i := 103) rfl)⟩
theorem lw_p53 : lw_okq (⟨"WindGasModel", "gasOf", "(II)I"⟩, 79) := ⟨⟨by decide +kernel, by decide +kernel⟩, lw_t7 (List.mem_of_getElem? (i := 9) rfl), lw_t8 (List.mem_of_getElem? (i := 107) rfl), lw_t8 (List.mem_of_getElem? (i := 108) rfl)⟩
theorem lw_p54 : lw_okq (⟨"WindGasModel", "stores", "()V"⟩, 79) := ⟨⟨by decide +kernel, by decide +kernel⟩, lw_t7 (List.mem_of_getElem? (i := 9) rfl), lw_t8 (List.mem_of_getElem? (i := 111) rfl), lw_t8 (List.mem_of_getElem? (i := 112) rfl)⟩
theorem lw_p55 : lw_okq (⟨"WindGasModel", "puts", "(III)V"⟩, 79) := ⟨⟨by decide +kernel, by decide +kernel⟩, lw_t7 (List.mem_of_getElem? (i := 9) rfl), lw_t8 (List.mem_of_getElem? (i := 115) rfl), lw_t8 (List.mem_of_getElem? (i := 116) rfl)⟩
theorem lw_p56 : lw_okq (⟨"WindGasModel", "tries", "(II)V"⟩, 79) := ⟨⟨by decide +kernel, by decide +kernel⟩, lw_t7 (List.mem_of_getElem? (i := 9) rfl), lw_t8 (List.mem_of_getElem? (i := 122) rfl), lw_t8 (List.mem_of_getElem? (i := 123) rfl)⟩
theorem lw_p57 : lw_okq (⟨"WindGasModel", "foulIn", "(II)I"⟩, 79) := ⟨⟨by decide +kernel, by decide +kernel⟩, lw_t7 (List.mem_of_getElem? (i := 9) rfl), lw_t8 (List.mem_of_getElem? (i := 126) rfl), lw_t8 (List.mem_of_getElem? (i := 127) rfl)⟩
theorem lw_p58 : lw_okq (⟨"WindGasModel", "goesOut", "(III)V"⟩, 79) := ⟨⟨by decide +kernel, by decide +kernel⟩, lw_t7 (List.mem_of_getElem? (i := 9) rfl), lw_t8 (List.mem_of_getElem? (i := 134) rfl), lw_t8 (List.mem_of_getElem? (i := 135) rfl)⟩
theorem lw_p59 : lw_okq (⟨"WindGasModel", "isStack", "(I)Z"⟩, 79) := ⟨⟨by decide +kernel, by decide +kernel⟩, lw_t7 (List.mem_of_getElem? (i := 9) rfl), lw_t8 (List.mem_of_getElem? (i := 142) rfl), lw_t8 (List.mem_of_getElem? (i := 143) rfl)⟩
theorem lw_p60 : lw_okq (⟨"WindGasModel", "isTrip", "(I)Z"⟩, 79) := ⟨⟨by decide +kernel, by decide +kernel⟩, lw_t7 (List.mem_of_getElem? (i := 9) rfl), lw_t8 (List.mem_of_getElem? (i := 159) rfl), lw_t8 (List.mem_of_getElem? (i := 160) rfl)⟩
theorem lw_p61 : lw_okq (⟨"WindGasModel", "proved", "(I)I"⟩, 79) := ⟨⟨by decide +kernel, by decide +kernel⟩, lw_t7 (List.mem_of_getElem? (i := 9) rfl), lw_t8 (List.mem_of_getElem? (i := 163) rfl), lw_t8 (List.mem_of_getElem? (i := 164) rfl)⟩
theorem lw_p62 : lw_okq (⟨"WindGasModel", "isGreen", "(I)Z"⟩, 79) := ⟨⟨by decide +kernel, by decide +kernel⟩, lw_t7 (List.mem_of_getElem? (i := 9) rfl), lw_t8 (List.mem_of_getElem? (i := 167) rfl), lw_t8 (List.mem_of_getElem? (i := 168) rfl)⟩
theorem lw_p63 : lw_okq (⟨"WindGasModel", "isThrough", "(I)Z"⟩, 79) := ⟨⟨by decide +kernel, by decide +kernel⟩, lw_t7 (List.mem_of_getElem? (i := 9) rfl), lw_t8 (List.mem_of_getElem? (i := 171) rfl), lw_t8 (List.mem_of_getElem? (i := 172) rfl)⟩
def lw_privs_4 : List (MethodName × Nat) := [(⟨"WindGasModel", "holds", "(I)Z"⟩, 79), (⟨"WindGasModel", "orders", "(I)V"⟩, 79), (⟨"WindGasModel", "tells", "(II)I"⟩, 79), (⟨"WindGasModel", "turns", "(III)I"⟩, 79), (⟨"WindGasModel", "leastOf", "(II)I"⟩, 79), (⟨"WindGasModel", "gasOf", "(II)I"⟩, 79), (⟨"WindGasModel", "stores", "()V"⟩, 79), (⟨"WindGasModel", "puts", "(III)V"⟩, 79), (⟨"WindGasModel", "tries", "(II)V"⟩, 79), (⟨"WindGasModel", "foulIn", "(II)I"⟩, 79), (⟨"WindGasModel", "goesOut", "(III)V"⟩, 79), (⟨"WindGasModel", "isStack", "(I)Z"⟩, 79), (⟨"WindGasModel", "isTrip", "(I)Z"⟩, 79), (⟨"WindGasModel", "proved", "(I)I"⟩, 79), (⟨"WindGasModel", "isGreen", "(I)Z"⟩, 79), (⟨"WindGasModel", "isThrough", "(I)Z"⟩, 79)]
theorem lw_r4 : ∀ q ∈ lw_privs_4, lw_okq q := List.forall_mem_cons.mpr ⟨lw_p48, List.forall_mem_cons.mpr ⟨lw_p49, List.forall_mem_cons.mpr ⟨lw_p50, List.forall_mem_cons.mpr ⟨lw_p51, List.forall_mem_cons.mpr ⟨lw_p52, List.forall_mem_cons.mpr ⟨lw_p53, List.forall_mem_cons.mpr ⟨lw_p54, List.forall_mem_cons.mpr ⟨lw_p55, List.forall_mem_cons.mpr ⟨lw_p56, List.forall_mem_cons.mpr ⟨lw_p57, List.forall_mem_cons.mpr ⟨lw_p58, List.forall_mem_cons.mpr ⟨lw_p59, List.forall_mem_cons.mpr ⟨lw_p60, List.forall_mem_cons.mpr ⟨lw_p61, List.forall_mem_cons.mpr ⟨lw_p62, List.forall_mem_cons.mpr ⟨lw_p63, fun _ h => absurd h List.not_mem_nil⟩⟩⟩⟩⟩⟩⟩⟩⟩⟩⟩⟩⟩⟩⟩⟩
theorem lw_p64 : lw_okq (⟨"WindGasModel", "isValid", "(I)Z"⟩, 79) := ⟨⟨by decide +kernel, by decide +kernel⟩, lw_t7 (List.mem_of_getElem? (i := 9) rfl), lw_t8 (List.mem_of_getElem? (i := 191) rfl), lw_t8 (List.mem_of_getElem? (i := 192) rfl)⟩
theorem lw_p65 : lw_okq (⟨"WindGasModel", "four", "(I)V"⟩, 79) := ⟨⟨by decide +kernel, by decide +kernel⟩, lw_t7 (List.mem_of_getElem? (i := 9) rfl), lw_t8 (List.mem_of_getElem? (i := 204) rfl), lw_t8 (List.mem_of_getElem? (i := 205) rfl)⟩
theorem lw_p66 : lw_okq (⟨"WindGasModel", "blanks", "()V"⟩, 79) := ⟨⟨by decide +kernel, by decide +kernel⟩, lw_t7 (List.mem_of_getElem? (i := 9) rfl), lw_t8 (List.mem_of_getElem? (i := 212) rfl), lw_t8 (List.mem_of_getElem? (i := 213) rfl)⟩
theorem lw_p67 : lw_okq (⟨"WindGasModel", "statement", "(I)Z"⟩, 79) := ⟨⟨by decide +kernel, by decide +kernel⟩, lw_t7 (List.mem_of_getElem? (i := 9) rfl), lw_t8 (List.mem_of_getElem? (i := 216) rfl), lw_t8 (List.mem_of_getElem? (i := 217) rfl)⟩
theorem lw_p68 : lw_okq (⟨"WindGasModel", "takes", "(J)Z"⟩, 79) := ⟨⟨by decide +kernel, by decide +kernel⟩, lw_t7 (List.mem_of_getElem? (i := 9) rfl), lw_t8 (List.mem_of_getElem? (i := 221) rfl), lw_t8 (List.mem_of_getElem? (i := 222) rfl)⟩
theorem lw_p69 : lw_okq (⟨"WindGasModel", "word", "()J"⟩, 79) := ⟨⟨by decide +kernel, by decide +kernel⟩, lw_t7 (List.mem_of_getElem? (i := 9) rfl), lw_t8 (List.mem_of_getElem? (i := 225) rfl), lw_t8 (List.mem_of_getElem? (i := 226) rfl)⟩
theorem lw_p70 : lw_okq (⟨"WindGasModel", "plain", "(IIII)Z"⟩, 79) := ⟨⟨by decide +kernel, by decide +kernel⟩, lw_t7 (List.mem_of_getElem? (i := 9) rfl), lw_t8 (List.mem_of_getElem? (i := 230) rfl), lw_t8 (List.mem_of_getElem? (i := 231) rfl)⟩
theorem lw_p71 : lw_okq (⟨"WindGasModel", "takesNumber", "(II)Z"⟩, 79) := ⟨⟨by decide +kernel, by decide +kernel⟩, lw_t7 (List.mem_of_getElem? (i := 9) rfl), lw_t8 (List.mem_of_getElem? (i := 234) rfl), lw_t8 (List.mem_of_getElem? (i := 235) rfl)⟩
theorem lw_p72 : lw_okq (⟨"WindGasModel", "condition", "(II)Z"⟩, 79) := ⟨⟨by decide +kernel, by decide +kernel⟩, lw_t7 (List.mem_of_getElem? (i := 9) rfl), lw_t9 (List.mem_of_getElem? (i := 6) rfl), lw_t9 (List.mem_of_getElem? (i := 7) rfl)⟩
theorem lw_p73 : lw_okq (⟨"WindGasModel", "any", "()I"⟩, 79) := ⟨⟨by decide +kernel, by decide +kernel⟩, lw_t7 (List.mem_of_getElem? (i := 9) rfl), lw_t9 (List.mem_of_getElem? (i := 11) rfl), lw_t9 (List.mem_of_getElem? (i := 12) rfl)⟩
theorem lw_p74 : lw_okq (⟨"WindGasModel", "node", "(I)I"⟩, 79) := ⟨⟨by decide +kernel, by decide +kernel⟩, lw_t7 (List.mem_of_getElem? (i := 9) rfl), lw_t9 (List.mem_of_getElem? (i := 15) rfl), lw_t9 (List.mem_of_getElem? (i := 16) rfl)⟩
theorem lw_p75 : lw_okq (⟨"WindGasModel", "all", "()I"⟩, 79) := ⟨⟨by decide +kernel, by decide +kernel⟩, lw_t7 (List.mem_of_getElem? (i := 9) rfl), lw_t9 (List.mem_of_getElem? (i := 19) rfl), lw_t9 (List.mem_of_getElem? (i := 20) rfl)⟩
theorem lw_p76 : lw_okq (⟨"WindGasModel", "single", "()I"⟩, 79) := ⟨⟨by decide +kernel, by decide +kernel⟩, lw_t7 (List.mem_of_getElem? (i := 9) rfl), lw_t9 (List.mem_of_getElem? (i := 23) rfl), lw_t9 (List.mem_of_getElem? (i := 24) rfl)⟩
theorem lw_p77 : lw_okq (⟨"WindGasModel", "takesSign", "(I)Z"⟩, 79) := ⟨⟨by decide +kernel, by decide +kernel⟩, lw_t7 (List.mem_of_getElem? (i := 9) rfl), lw_t9 (List.mem_of_getElem? (i := 28) rfl), lw_t9 (List.mem_of_getElem? (i := 29) rfl)⟩
theorem lw_p78 : lw_okq (⟨"WindGasModel", "kinds", "(I)Z"⟩, 79) := ⟨⟨by decide +kernel, by decide +kernel⟩, lw_t7 (List.mem_of_getElem? (i := 9) rfl), lw_t9 (List.mem_of_getElem? (i := 47) rfl), lw_t9 (List.mem_of_getElem? (i := 48) rfl)⟩
theorem lw_p79 : lw_okq (⟨"WindGasModel", "kind", "()I"⟩, 79) := ⟨⟨by decide +kernel, by decide +kernel⟩, lw_t7 (List.mem_of_getElem? (i := 9) rfl), lw_t9 (List.mem_of_getElem? (i := 51) rfl), lw_t9 (List.mem_of_getElem? (i := 52) rfl)⟩
def lw_privs_5 : List (MethodName × Nat) := [(⟨"WindGasModel", "isValid", "(I)Z"⟩, 79), (⟨"WindGasModel", "four", "(I)V"⟩, 79), (⟨"WindGasModel", "blanks", "()V"⟩, 79), (⟨"WindGasModel", "statement", "(I)Z"⟩, 79), (⟨"WindGasModel", "takes", "(J)Z"⟩, 79), (⟨"WindGasModel", "word", "()J"⟩, 79), (⟨"WindGasModel", "plain", "(IIII)Z"⟩, 79), (⟨"WindGasModel", "takesNumber", "(II)Z"⟩, 79), (⟨"WindGasModel", "condition", "(II)Z"⟩, 79), (⟨"WindGasModel", "any", "()I"⟩, 79), (⟨"WindGasModel", "node", "(I)I"⟩, 79), (⟨"WindGasModel", "all", "()I"⟩, 79), (⟨"WindGasModel", "single", "()I"⟩, 79), (⟨"WindGasModel", "takesSign", "(I)Z"⟩, 79), (⟨"WindGasModel", "kinds", "(I)Z"⟩, 79), (⟨"WindGasModel", "kind", "()I"⟩, 79)]
theorem lw_r5 : ∀ q ∈ lw_privs_5, lw_okq q := List.forall_mem_cons.mpr ⟨lw_p64, List.forall_mem_cons.mpr ⟨lw_p65, List.forall_mem_cons.mpr ⟨lw_p66, List.forall_mem_cons.mpr ⟨lw_p67, List.forall_mem_cons.mpr ⟨lw_p68, List.forall_mem_cons.mpr ⟨lw_p69, List.forall_mem_cons.mpr ⟨lw_p70, List.forall_mem_cons.mpr ⟨lw_p71, List.forall_mem_cons.mpr ⟨lw_p72, List.forall_mem_cons.mpr ⟨lw_p73, List.forall_mem_cons.mpr ⟨lw_p74, List.forall_mem_cons.mpr ⟨lw_p75, List.forall_mem_cons.mpr ⟨lw_p76, List.forall_mem_cons.mpr ⟨lw_p77, List.forall_mem_cons.mpr ⟨lw_p78, List.forall_mem_cons.mpr ⟨lw_p79, fun _ h => absurd h List.not_mem_nil⟩⟩⟩⟩⟩⟩⟩⟩⟩⟩⟩⟩⟩⟩⟩⟩
theorem lw_p80 : lw_okq (⟨"WindGasModel", "areOf", "(IIII)Z"⟩, 79) := ⟨⟨by decide +kernel, by decide +kernel⟩, lw_t7 (List.mem_of_getElem? (i := 9) rfl), lw_t9 (List.mem_of_getElem? (i := 76) rfl), lw_t9 (List.mem_of_getElem? (i := 77) rfl)⟩
theorem lw_p81 : lw_okq (⟨"WindGasModel", "makes", "(III)I"⟩, 79) := ⟨⟨by decide +kernel, by decide +kernel⟩, lw_t7 (List.mem_of_getElem? (i := 9) rfl), lw_t9 (List.mem_of_getElem? (i := 85) rfl), lw_t9 (List.mem_of_getElem? (i := 86) rfl)⟩
theorem lw_p82 : lw_okq (⟨"WindGasModel", "coins", "(IIII)I"⟩, 79) := ⟨⟨by decide +kernel, by decide +kernel⟩, lw_t7 (List.mem_of_getElem? (i := 9) rfl), lw_t9 (List.mem_of_getElem? (i := 92) rfl), lw_t9 (List.mem_of_getElem? (i := 93) rfl)⟩
def lw_privs_6 : List (MethodName × Nat) := [(⟨"WindGasModel", "areOf", "(IIII)Z"⟩, 79), (⟨"WindGasModel", "makes", "(III)I"⟩, 79), (⟨"WindGasModel", "coins", "(IIII)I"⟩, 79)]
theorem lw_r6 : ∀ q ∈ lw_privs_6, lw_okq q := List.forall_mem_cons.mpr ⟨lw_p80, List.forall_mem_cons.mpr ⟨lw_p81, List.forall_mem_cons.mpr ⟨lw_p82, fun _ h => absurd h List.not_mem_nil⟩⟩⟩
def lw_privs : List (MethodName × Nat) := lw_privs_1 ++ (lw_privs_2 ++ (lw_privs_3 ++ (lw_privs_4 ++ (lw_privs_5 ++ (lw_privs_6)))))
def lw_tbl : List Cond := k2_sels lw_privs ++ tables_1
theorem lw_privs_ok : ∀ q ∈ lw_privs, lw_okq q := by
  show ∀ q ∈ lw_privs_1 ++ (lw_privs_2 ++ (lw_privs_3 ++ (lw_privs_4 ++ (lw_privs_5 ++ (lw_privs_6))))), lw_okq q
  exact List.forall_mem_append.mpr ⟨lw_r1, List.forall_mem_append.mpr ⟨lw_r2, List.forall_mem_append.mpr ⟨lw_r3, List.forall_mem_append.mpr ⟨lw_r4, List.forall_mem_append.mpr ⟨lw_r5, lw_r6⟩⟩⟩⟩⟩
-- ===== ONE list of words for every method: the tables' words that hold all through a run =====
def lw_all : List Cond := lw_tbl.filter goodWord
/-- a word of the tables by its place: claim/WORDS.tsv -/
theorem lw_w {w : Cond} (i : Nat) (h : lw_tbl[i]? = some w) (g : goodWord w = true) : w ∈ lw_all := List.mem_filter.mpr ⟨List.mem_of_getElem? h, g⟩
theorem lw_all_tbl {w : Cond} (h : w ∈ lw_all) : w ∈ lw_tbl := (List.mem_filter.mp h).1
theorem lw_self : GoodIn lw_all lw_all := fun w h => ⟨h, good_of_word (List.mem_filter.mp h).2⟩
/-- a class's field words, by their places -/
theorem lw_in (ws : List Cond) (ps : List Nat) (hp : ws = ps.filterMap (fun i => lw_tbl[i]?)) (hg : ws.all goodWord = true) : ∀ w ∈ ws, w ∈ lw_all := by
  intro w h
  have h1 := List.all_eq_true.mp hg w h
  rw [hp] at h
  obtain ⟨i, -, hi⟩ := List.mem_filterMap.mp h
  exact lw_w i hi h1
/-- the words of a contract for the method y with code b, L locals, answer r -/
abbrev ws_ (y : MethodName) (b : ByteArray) (L : Nat) (r : Option FieldType) : List Cond := Cond.code y b L r :: lw_all
theorem lw_meth {y : MethodName} {b : ByteArray} {L : Nat} {r : Option FieldType} (h : Cond.code y b L r ∈ lw_all) : GoodIn lw_all (ws_ y b L r) := by
  intro w hw
  rcases List.mem_cons.mp hw with e | e
  · rw [e]
    exact lw_self _ h
  · exact lw_self _ e
theorem lw_app {a c : List Cond} (ha : ∀ w ∈ a, w ∈ lw_all) (hc : GoodIn lw_all c) : GoodIn lw_all (a ++ c) := by
  intro w hw
  rcases List.mem_append.mp hw with e | e
  · exact lw_self w (ha w e)
  · exact hc w e
/-- what a call through an object asks: cwV n hts (lw_V ..) -/
theorem lw_V {own : String} {idx : Nat} {C : String} {y : MethodName} {b : ByteArray} {L : Nat} {r : Option FieldType} (h1 : Cond.methodLink own idx y ∈ lw_all) (h2 : Cond.instanceMethod y ∈ lw_all) (h3 : Cond.selects C y y ∈ lw_all) (h4 : Cond.initialized C ∈ lw_all) (h5 : Cond.code y b L r ∈ lw_all) : GoodIn lw_all (wsV own idx C y (ws_ y b L r)) := by
  refine lw_app ?_ (lw_meth h5)
  intro w hw
  simp only [List.mem_cons, List.not_mem_nil, or_false] at hw
  rcases hw with e | e | e | e
  · rw [e]; exact h1
  · rw [e]; exact h2
  · rw [e]; exact h3
  · rw [e]; exact h4
/-- what a static call asks: va_cwS n hts (lw_S ..) -/
theorem lw_S {own : String} {idx : Nat} {y : MethodName} {b : ByteArray} {L : Nat} {r : Option FieldType} (h1 : Cond.methodLink own idx y ∈ lw_all) (h2 : Cond.static y ∈ lw_all) (h3 : Cond.initialized y.cls ∈ lw_all) (h4 : Cond.code y b L r ∈ lw_all) : GoodIn lw_all (va_wsS own idx y (ws_ y b L r)) := by
  refine lw_app ?_ (lw_meth h4)
  intro w hw
  simp only [List.mem_cons, List.not_mem_nil, or_false] at hw
  rcases hw with e | e | e
  · rw [e]; exact h1
  · rw [e]; exact h2
  · rw [e]; exact h3
/-- the words of a contract for a method WITH HANDLERS (hh: its table) -/
abbrev wsW_ (y : MethodName) (b : ByteArray) (L : Nat) (r : Option FieldType) (hh : List (Nat × Nat × Nat × Nat)) : List Cond := Cond.codeWith y b L r hh :: lw_all
theorem lw_methW {y : MethodName} {b : ByteArray} {L : Nat} {r : Option FieldType} {hh : List (Nat × Nat × Nat × Nat)} (h : Cond.codeWith y b L r hh ∈ lw_all) : GoodIn lw_all (wsW_ y b L r hh) := by
  intro w hw
  rcases List.mem_cons.mp hw with e | e
  · rw [e]
    exact lw_self _ h
  · exact lw_self _ e
/-- any list of words by their places (lw_in), good -/
theorem lw_good {ws : List Cond} (h : ∀ w ∈ ws, w ∈ lw_all) : GoodIn lw_all ws := fun w hw => lw_self w (h w hw)
/-- what a call of a method with handlers asks: vx_cwVW n hts (lw_VW ..), vx_cwSW n hts (lw_SW ..) -/
theorem lw_VW {own : String} {idx : Nat} {C : String} {y : MethodName} {b : ByteArray} {L : Nat} {r : Option FieldType} {hh : List (Nat × Nat × Nat × Nat)} (h1 : Cond.methodLink own idx y ∈ lw_all) (h2 : Cond.instanceMethod y ∈ lw_all) (h3 : Cond.selects C y y ∈ lw_all) (h4 : Cond.initialized C ∈ lw_all) (h5 : Cond.codeWith y b L r hh ∈ lw_all) : GoodIn lw_all (wsV own idx C y (wsW_ y b L r hh)) := by
  refine lw_app ?_ (lw_methW h5)
  intro w hw
  simp only [List.mem_cons, List.not_mem_nil, or_false] at hw
  rcases hw with e | e | e | e
  · rw [e]; exact h1
  · rw [e]; exact h2
  · rw [e]; exact h3
  · rw [e]; exact h4
theorem lw_SW {own : String} {idx : Nat} {y : MethodName} {b : ByteArray} {L : Nat} {r : Option FieldType} {hh : List (Nat × Nat × Nat × Nat)} (h1 : Cond.methodLink own idx y ∈ lw_all) (h2 : Cond.static y ∈ lw_all) (h3 : Cond.initialized y.cls ∈ lw_all) (h4 : Cond.codeWith y b L r hh ∈ lw_all) : GoodIn lw_all (va_wsS own idx y (wsW_ y b L r hh)) := by
  refine lw_app ?_ (lw_methW h4)
  intro w hw
  simp only [List.mem_cons, List.not_mem_nil, or_false] at hw
  rcases hw with e | e | e
  · rw [e]; exact h1
  · rw [e]; exact h2
  · rw [e]; exact h3
/-- a word by its place in its run of the tables -/
theorem lw_at {r : List Cond} (hr : ∀ w ∈ r, w ∈ lw_tbl) {w : Cond} (i : Nat) (h : r[i]? = some w) : w ∈ lw_tbl := hr w (List.mem_of_getElem? h)
theorem lw_g {w : Cond} (h : w ∈ lw_tbl) (g : goodWord w = true) : w ∈ lw_all := List.mem_filter.mpr ⟨h, g⟩
theorem lw_ms : ∀ w ∈ k2_sels lw_privs, w ∈ lw_tbl := fun w h => show w ∈ k2_sels lw_privs ++ tables_1 from List.mem_append_left _ h
theorem lw_m1 : ∀ w ∈ tables_1_1, w ∈ lw_tbl := fun w h => show w ∈ k2_sels lw_privs ++ tables_1 from List.mem_append_right (k2_sels lw_privs) (show w ∈ tables_1 from List.mem_append_left _ h)
theorem lw_m2 : ∀ w ∈ tables_1_2, w ∈ lw_tbl := fun w h => show w ∈ k2_sels lw_privs ++ tables_1 from List.mem_append_right (k2_sels lw_privs) (show w ∈ tables_1 from List.mem_append_right _ (List.mem_append_left _ h))
theorem lw_m3 : ∀ w ∈ tables_1_3, w ∈ lw_tbl := fun w h => show w ∈ k2_sels lw_privs ++ tables_1 from List.mem_append_right (k2_sels lw_privs) (show w ∈ tables_1 from List.mem_append_right _ (List.mem_append_right _ (List.mem_append_left _ h)))
theorem lw_m4 : ∀ w ∈ tables_1_4, w ∈ lw_tbl := fun w h => show w ∈ k2_sels lw_privs ++ tables_1 from List.mem_append_right (k2_sels lw_privs) (show w ∈ tables_1 from List.mem_append_right _ (List.mem_append_right _ (List.mem_append_right _ (List.mem_append_left _ h))))
theorem lw_m5 : ∀ w ∈ tables_1_5, w ∈ lw_tbl := fun w h => show w ∈ k2_sels lw_privs ++ tables_1 from List.mem_append_right (k2_sels lw_privs) (show w ∈ tables_1 from List.mem_append_right _ (List.mem_append_right _ (List.mem_append_right _ (List.mem_append_right _ (List.mem_append_left _ h)))))
theorem lw_m6 : ∀ w ∈ tables_1_6, w ∈ lw_tbl := fun w h => show w ∈ k2_sels lw_privs ++ tables_1 from List.mem_append_right (k2_sels lw_privs) (show w ∈ tables_1 from List.mem_append_right _ (List.mem_append_right _ (List.mem_append_right _ (List.mem_append_right _ (List.mem_append_right _ (List.mem_append_left _ h))))))
theorem lw_m7 : ∀ w ∈ tables_1_7, w ∈ lw_tbl := fun w h => show w ∈ k2_sels lw_privs ++ tables_1 from List.mem_append_right (k2_sels lw_privs) (show w ∈ tables_1 from List.mem_append_right _ (List.mem_append_right _ (List.mem_append_right _ (List.mem_append_right _ (List.mem_append_right _ (List.mem_append_right _ (List.mem_append_left _ h)))))))
theorem lw_m8 : ∀ w ∈ tables_1_8, w ∈ lw_tbl := fun w h => show w ∈ k2_sels lw_privs ++ tables_1 from List.mem_append_right (k2_sels lw_privs) (show w ∈ tables_1 from List.mem_append_right _ (List.mem_append_right _ (List.mem_append_right _ (List.mem_append_right _ (List.mem_append_right _ (List.mem_append_right _ (List.mem_append_right _ (List.mem_append_left _ h))))))))
theorem lw_m9 : ∀ w ∈ tables_1_9, w ∈ lw_tbl := fun w h => show w ∈ k2_sels lw_privs ++ tables_1 from List.mem_append_right (k2_sels lw_privs) (show w ∈ tables_1 from List.mem_append_right _ (List.mem_append_right _ (List.mem_append_right _ (List.mem_append_right _ (List.mem_append_right _ (List.mem_append_right _ (List.mem_append_right _ (List.mem_append_right _ h))))))))
theorem qs0 : (Cond.selects "WindGas" ⟨"WindGas", "tellings", "(I)LWindGas$Tellings;"⟩ ⟨"WindGas", "tellings", "(I)LWindGas$Tellings;"⟩) ∈ lw_all := lw_g (lw_at lw_ms 0 rfl) rfl
theorem qs1 : (Cond.selects "java/util/ArrayList" ⟨"java/util/ArrayList", "add", "(Ljava/lang/Object;[Ljava/lang/Object;I)V"⟩ ⟨"java/util/ArrayList", "add", "(Ljava/lang/Object;[Ljava/lang/Object;I)V"⟩) ∈ lw_all := lw_g (lw_at lw_ms 1 rfl) rfl
theorem qs2 : (Cond.selects "java/util/ArrayList" ⟨"java/util/ArrayList", "grow", "()[Ljava/lang/Object;"⟩ ⟨"java/util/ArrayList", "grow", "()[Ljava/lang/Object;"⟩) ∈ lw_all := lw_g (lw_at lw_ms 2 rfl) rfl
theorem qs3 : (Cond.selects "java/util/ArrayList" ⟨"java/util/ArrayList", "grow", "(I)[Ljava/lang/Object;"⟩ ⟨"java/util/ArrayList", "grow", "(I)[Ljava/lang/Object;"⟩) ∈ lw_all := lw_g (lw_at lw_ms 3 rfl) rfl
theorem qs4 : (Cond.selects "WindGas" ⟨"WindGas", "at", "(I)LWindGas$Rules;"⟩ ⟨"WindGas", "at", "(I)LWindGas$Rules;"⟩) ∈ lw_all := lw_g (lw_at lw_ms 4 rfl) rfl
theorem qs5 : (Cond.selects "WindGas" ⟨"WindGas", "numberAt", "(I)I"⟩ ⟨"WindGas", "numberAt", "(I)I"⟩) ∈ lw_all := lw_g (lw_at lw_ms 5 rfl) rfl
theorem qs6 : (Cond.selects "WindGas" ⟨"WindGas", "tapes", "([I)I"⟩ ⟨"WindGas", "tapes", "([I)I"⟩) ∈ lw_all := lw_g (lw_at lw_ms 6 rfl) rfl
theorem qs7 : (Cond.selects "WindGas" ⟨"WindGas", "next", "()V"⟩ ⟨"WindGas", "next", "()V"⟩) ∈ lw_all := lw_g (lw_at lw_ms 7 rfl) rfl
theorem qs8 : (Cond.selects "WindGas" ⟨"WindGas", "here", "(I)I"⟩ ⟨"WindGas", "here", "(I)I"⟩) ∈ lw_all := lw_g (lw_at lw_ms 8 rfl) rfl
theorem qs9 : (Cond.selects "java/lang/Throwable" ⟨"java/lang/Throwable", "fillInStackTrace", "(I)Ljava/lang/Throwable;"⟩ ⟨"java/lang/Throwable", "fillInStackTrace", "(I)Ljava/lang/Throwable;"⟩) ∈ lw_all := lw_g (lw_at lw_ms 9 rfl) rfl
theorem qs10 : (Cond.selects "WindGas" ⟨"WindGas", "statement", "(LWindGas$Rules;)V"⟩ ⟨"WindGas", "statement", "(LWindGas$Rules;)V"⟩) ∈ lw_all := lw_g (lw_at lw_ms 10 rfl) rfl
theorem qs11 : (Cond.selects "WindGas" ⟨"WindGas", "any", "()I"⟩ ⟨"WindGas", "any", "()I"⟩) ∈ lw_all := lw_g (lw_at lw_ms 11 rfl) rfl
theorem qs12 : (Cond.selects "WindGas" ⟨"WindGas", "number", "(II)I"⟩ ⟨"WindGas", "number", "(II)I"⟩) ∈ lw_all := lw_g (lw_at lw_ms 12 rfl) rfl
theorem qs13 : (Cond.selects "WindGas" ⟨"WindGas", "must", "(Z)V"⟩ ⟨"WindGas", "must", "(Z)V"⟩) ∈ lw_all := lw_g (lw_at lw_ms 13 rfl) rfl
theorem qs14 : (Cond.selects "WindGas" ⟨"WindGas", "oneOf", "([Ljava/lang/String;)I"⟩ ⟨"WindGas", "oneOf", "([Ljava/lang/String;)I"⟩) ∈ lw_all := lw_g (lw_at lw_ms 14 rfl) rfl
theorem qs15 : (Cond.selects "WindGas" ⟨"WindGas", "isWord", "(Ljava/lang/String;)Z"⟩ ⟨"WindGas", "isWord", "(Ljava/lang/String;)Z"⟩) ∈ lw_all := lw_g (lw_at lw_ms 15 rfl) rfl
theorem qs16 : (Cond.selects "WindGas" ⟨"WindGas", "condition", "()LWindGas$Cond;"⟩ ⟨"WindGas", "condition", "()LWindGas$Cond;"⟩) ∈ lw_all := lw_g (lw_at lw_ms 16 rfl) rfl
theorem qs17 : (Cond.selects "WindGas" ⟨"WindGas", "anyOf", "()LWindGas$Cond;"⟩ ⟨"WindGas", "anyOf", "()LWindGas$Cond;"⟩) ∈ lw_all := lw_g (lw_at lw_ms 17 rfl) rfl
theorem qs18 : (Cond.selects "WindGas" ⟨"WindGas", "allOf", "()LWindGas$Cond;"⟩ ⟨"WindGas", "allOf", "()LWindGas$Cond;"⟩) ∈ lw_all := lw_g (lw_at lw_ms 18 rfl) rfl
theorem qs19 : (Cond.selects "WindGas" ⟨"WindGas", "one", "()LWindGas$Cond;"⟩ ⟨"WindGas", "one", "()LWindGas$Cond;"⟩) ∈ lw_all := lw_g (lw_at lw_ms 19 rfl) rfl
theorem qs20 : (Cond.selects "WindGas" ⟨"WindGas", "opens", "()V"⟩ ⟨"WindGas", "opens", "()V"⟩) ∈ lw_all := lw_g (lw_at lw_ms 20 rfl) rfl
theorem qs21 : (Cond.selects "WindGas" ⟨"WindGas", "kind", "()I"⟩ ⟨"WindGas", "kind", "()I"⟩) ∈ lw_all := lw_g (lw_at lw_ms 21 rfl) rfl
theorem qs22 : (Cond.selects "WindGas" ⟨"WindGas", "storeAt", "(I)LWindGas$Store;"⟩ ⟨"WindGas", "storeAt", "(I)LWindGas$Store;"⟩) ∈ lw_all := lw_g (lw_at lw_ms 22 rfl) rfl
theorem qs23 : (Cond.selects "java/util/ArrayList" ⟨"java/util/ArrayList", "fastRemove", "([Ljava/lang/Object;I)V"⟩ ⟨"java/util/ArrayList", "fastRemove", "([Ljava/lang/Object;I)V"⟩) ∈ lw_all := lw_g (lw_at lw_ms 23 rfl) rfl
theorem qs24 : (Cond.selects "WindGas" ⟨"WindGas", "ten", "()V"⟩ ⟨"WindGas", "ten", "()V"⟩) ∈ lw_all := lw_g (lw_at lw_ms 24 rfl) rfl
theorem qs25 : (Cond.selects "WindGas" ⟨"WindGas", "runs", "()I"⟩ ⟨"WindGas", "runs", "()I"⟩) ∈ lw_all := lw_g (lw_at lw_ms 25 rfl) rfl
theorem qs26 : (Cond.selects "WindGas" ⟨"WindGas", "asked", "(IJJJ)V"⟩ ⟨"WindGas", "asked", "(IJJJ)V"⟩) ∈ lw_all := lw_g (lw_at lw_ms 26 rfl) rfl
theorem qs27 : (Cond.selects "WindGas" ⟨"WindGas", "splits", "(LWindGas$Rules;I)I"⟩ ⟨"WindGas", "splits", "(LWindGas$Rules;I)I"⟩) ∈ lw_all := lw_g (lw_at lw_ms 27 rfl) rfl
theorem qs28 : (Cond.selects "WindGas" ⟨"WindGas", "orders", "(LWindGas$Rules;)V"⟩ ⟨"WindGas", "orders", "(LWindGas$Rules;)V"⟩) ∈ lw_all := lw_g (lw_at lw_ms 28 rfl) rfl
theorem qs29 : (Cond.selects "WindGas" ⟨"WindGas", "works", "(LWindGas$Stack;LWindGas$Rules;I)I"⟩ ⟨"WindGas", "works", "(LWindGas$Stack;LWindGas$Rules;I)I"⟩) ∈ lw_all := lw_g (lw_at lw_ms 29 rfl) rfl
theorem qs30 : (Cond.selects "WindGas" ⟨"WindGas", "fills", "(LWindGas$Store;I)V"⟩ ⟨"WindGas", "fills", "(LWindGas$Store;I)V"⟩) ∈ lw_all := lw_g (lw_at lw_ms 30 rfl) rfl
theorem qs31 : (Cond.selects "WindGas" ⟨"WindGas", "tries", "(LWindGas$Trip;LWindGas$Rules;)V"⟩ ⟨"WindGas", "tries", "(LWindGas$Trip;LWindGas$Rules;)V"⟩) ∈ lw_all := lw_g (lw_at lw_ms 31 rfl) rfl
theorem qs32 : (Cond.selects "WindGas" ⟨"WindGas", "isHour", "(I)Z"⟩ ⟨"WindGas", "isHour", "(I)Z"⟩) ∈ lw_all := lw_g (lw_at lw_ms 32 rfl) rfl
theorem qs33 : (Cond.selects "WindGas" ⟨"WindGas", "isGreen", "(I)Z"⟩ ⟨"WindGas", "isGreen", "(I)Z"⟩) ∈ lw_all := lw_g (lw_at lw_ms 33 rfl) rfl
theorem qs34 : (Cond.selects "WindGas" ⟨"WindGas", "tripAt", "(I)LWindGas$Trip;"⟩ ⟨"WindGas", "tripAt", "(I)LWindGas$Trip;"⟩) ∈ lw_all := lw_g (lw_at lw_ms 34 rfl) rfl
theorem qs35 : (Cond.selects "WindGas" ⟨"WindGas", "proved", "(LWindGas$Trip;)I"⟩ ⟨"WindGas", "proved", "(LWindGas$Trip;)I"⟩) ∈ lw_all := lw_g (lw_at lw_ms 35 rfl) rfl
theorem qs36 : (Cond.selects "WindGas" ⟨"WindGas", "isValid", "(I)Z"⟩ ⟨"WindGas", "isValid", "(I)Z"⟩) ∈ lw_all := lw_g (lw_at lw_ms 36 rfl) rfl
theorem qs37 : (Cond.selects "WindGas" ⟨"WindGas", "hundreds", "(IILWindGas$Rules;)I"⟩ ⟨"WindGas", "hundreds", "(IILWindGas$Rules;)I"⟩) ∈ lw_all := lw_g (lw_at lw_ms 37 rfl) rfl
theorem qs38 : (Cond.selects "WindGas" ⟨"WindGas", "costOf", "(IIII)I"⟩ ⟨"WindGas", "costOf", "(IIII)I"⟩) ∈ lw_all := lw_g (lw_at lw_ms 38 rfl) rfl
theorem qs39 : (Cond.selects "WindGas" ⟨"WindGas", "running", "()I"⟩ ⟨"WindGas", "running", "()I"⟩) ∈ lw_all := lw_g (lw_at lw_ms 39 rfl) rfl
theorem qs40 : (Cond.selects "WindGas" ⟨"WindGas", "leftMany", "()I"⟩ ⟨"WindGas", "leftMany", "()I"⟩) ∈ lw_all := lw_g (lw_at lw_ms 40 rfl) rfl
theorem qs41 : (Cond.selects "WindGas" ⟨"WindGas", "validMany", "()I"⟩ ⟨"WindGas", "validMany", "()I"⟩) ∈ lw_all := lw_g (lw_at lw_ms 41 rfl) rfl
theorem qs42 : (Cond.selects "WindGas" ⟨"WindGas", "greenMany", "()I"⟩ ⟨"WindGas", "greenMany", "()I"⟩) ∈ lw_all := lw_g (lw_at lw_ms 42 rfl) rfl
theorem qs43 : (Cond.selects "WindGasModel" ⟨"WindGasModel", "saidOf", "(II)I"⟩ ⟨"WindGasModel", "saidOf", "(II)I"⟩) ∈ lw_all := lw_g (lw_at lw_ms 43 rfl) rfl
theorem qs44 : (Cond.selects "WindGasModel" ⟨"WindGasModel", "ten", "()V"⟩ ⟨"WindGasModel", "ten", "()V"⟩) ∈ lw_all := lw_g (lw_at lw_ms 44 rfl) rfl
theorem qs45 : (Cond.selects "WindGasModel" ⟨"WindGasModel", "inForce", "(I)I"⟩ ⟨"WindGasModel", "inForce", "(I)I"⟩) ∈ lw_all := lw_g (lw_at lw_ms 45 rfl) rfl
theorem qs46 : (Cond.selects "WindGasModel" ⟨"WindGasModel", "runningNow", "()I"⟩ ⟨"WindGasModel", "runningNow", "()I"⟩) ∈ lw_all := lw_g (lw_at lw_ms 46 rfl) rfl
theorem qs47 : (Cond.selects "WindGasModel" ⟨"WindGasModel", "asks", "(IIIIII)Z"⟩ ⟨"WindGasModel", "asks", "(IIIIII)Z"⟩) ∈ lw_all := lw_g (lw_at lw_ms 47 rfl) rfl
theorem qs48 : (Cond.selects "WindGasModel" ⟨"WindGasModel", "holds", "(I)Z"⟩ ⟨"WindGasModel", "holds", "(I)Z"⟩) ∈ lw_all := lw_g (lw_at lw_ms 48 rfl) rfl
theorem qs49 : (Cond.selects "WindGasModel" ⟨"WindGasModel", "orders", "(I)V"⟩ ⟨"WindGasModel", "orders", "(I)V"⟩) ∈ lw_all := lw_g (lw_at lw_ms 49 rfl) rfl
theorem qs50 : (Cond.selects "WindGasModel" ⟨"WindGasModel", "tells", "(II)I"⟩ ⟨"WindGasModel", "tells", "(II)I"⟩) ∈ lw_all := lw_g (lw_at lw_ms 50 rfl) rfl
theorem qs51 : (Cond.selects "WindGasModel" ⟨"WindGasModel", "turns", "(III)I"⟩ ⟨"WindGasModel", "turns", "(III)I"⟩) ∈ lw_all := lw_g (lw_at lw_ms 51 rfl) rfl
theorem qs52 : (Cond.selects "WindGasModel" ⟨"WindGasModel", "leastOf", "(II)I"⟩ ⟨"WindGasModel", "leastOf", "(II)I"⟩) ∈ lw_all := lw_g (lw_at lw_ms 52 rfl) rfl
theorem qs53 : (Cond.selects "WindGasModel" ⟨"WindGasModel", "gasOf", "(II)I"⟩ ⟨"WindGasModel", "gasOf", "(II)I"⟩) ∈ lw_all := lw_g (lw_at lw_ms 53 rfl) rfl
theorem qs54 : (Cond.selects "WindGasModel" ⟨"WindGasModel", "stores", "()V"⟩ ⟨"WindGasModel", "stores", "()V"⟩) ∈ lw_all := lw_g (lw_at lw_ms 54 rfl) rfl
theorem qs55 : (Cond.selects "WindGasModel" ⟨"WindGasModel", "puts", "(III)V"⟩ ⟨"WindGasModel", "puts", "(III)V"⟩) ∈ lw_all := lw_g (lw_at lw_ms 55 rfl) rfl
theorem qs56 : (Cond.selects "WindGasModel" ⟨"WindGasModel", "tries", "(II)V"⟩ ⟨"WindGasModel", "tries", "(II)V"⟩) ∈ lw_all := lw_g (lw_at lw_ms 56 rfl) rfl
theorem qs57 : (Cond.selects "WindGasModel" ⟨"WindGasModel", "foulIn", "(II)I"⟩ ⟨"WindGasModel", "foulIn", "(II)I"⟩) ∈ lw_all := lw_g (lw_at lw_ms 57 rfl) rfl
theorem qs58 : (Cond.selects "WindGasModel" ⟨"WindGasModel", "goesOut", "(III)V"⟩ ⟨"WindGasModel", "goesOut", "(III)V"⟩) ∈ lw_all := lw_g (lw_at lw_ms 58 rfl) rfl
theorem qs59 : (Cond.selects "WindGasModel" ⟨"WindGasModel", "isStack", "(I)Z"⟩ ⟨"WindGasModel", "isStack", "(I)Z"⟩) ∈ lw_all := lw_g (lw_at lw_ms 59 rfl) rfl
theorem qs60 : (Cond.selects "WindGasModel" ⟨"WindGasModel", "isTrip", "(I)Z"⟩ ⟨"WindGasModel", "isTrip", "(I)Z"⟩) ∈ lw_all := lw_g (lw_at lw_ms 60 rfl) rfl
theorem qs61 : (Cond.selects "WindGasModel" ⟨"WindGasModel", "proved", "(I)I"⟩ ⟨"WindGasModel", "proved", "(I)I"⟩) ∈ lw_all := lw_g (lw_at lw_ms 61 rfl) rfl
theorem qs62 : (Cond.selects "WindGasModel" ⟨"WindGasModel", "isGreen", "(I)Z"⟩ ⟨"WindGasModel", "isGreen", "(I)Z"⟩) ∈ lw_all := lw_g (lw_at lw_ms 62 rfl) rfl
theorem qs63 : (Cond.selects "WindGasModel" ⟨"WindGasModel", "isThrough", "(I)Z"⟩ ⟨"WindGasModel", "isThrough", "(I)Z"⟩) ∈ lw_all := lw_g (lw_at lw_ms 63 rfl) rfl
theorem qs64 : (Cond.selects "WindGasModel" ⟨"WindGasModel", "isValid", "(I)Z"⟩ ⟨"WindGasModel", "isValid", "(I)Z"⟩) ∈ lw_all := lw_g (lw_at lw_ms 64 rfl) rfl
theorem qs65 : (Cond.selects "WindGasModel" ⟨"WindGasModel", "four", "(I)V"⟩ ⟨"WindGasModel", "four", "(I)V"⟩) ∈ lw_all := lw_g (lw_at lw_ms 65 rfl) rfl
theorem qs66 : (Cond.selects "WindGasModel" ⟨"WindGasModel", "blanks", "()V"⟩ ⟨"WindGasModel", "blanks", "()V"⟩) ∈ lw_all := lw_g (lw_at lw_ms 66 rfl) rfl
theorem qs67 : (Cond.selects "WindGasModel" ⟨"WindGasModel", "statement", "(I)Z"⟩ ⟨"WindGasModel", "statement", "(I)Z"⟩) ∈ lw_all := lw_g (lw_at lw_ms 67 rfl) rfl
theorem qs68 : (Cond.selects "WindGasModel" ⟨"WindGasModel", "takes", "(J)Z"⟩ ⟨"WindGasModel", "takes", "(J)Z"⟩) ∈ lw_all := lw_g (lw_at lw_ms 68 rfl) rfl
theorem qs69 : (Cond.selects "WindGasModel" ⟨"WindGasModel", "word", "()J"⟩ ⟨"WindGasModel", "word", "()J"⟩) ∈ lw_all := lw_g (lw_at lw_ms 69 rfl) rfl
theorem qs70 : (Cond.selects "WindGasModel" ⟨"WindGasModel", "plain", "(IIII)Z"⟩ ⟨"WindGasModel", "plain", "(IIII)Z"⟩) ∈ lw_all := lw_g (lw_at lw_ms 70 rfl) rfl
theorem qs71 : (Cond.selects "WindGasModel" ⟨"WindGasModel", "takesNumber", "(II)Z"⟩ ⟨"WindGasModel", "takesNumber", "(II)Z"⟩) ∈ lw_all := lw_g (lw_at lw_ms 71 rfl) rfl
theorem qs72 : (Cond.selects "WindGasModel" ⟨"WindGasModel", "condition", "(II)Z"⟩ ⟨"WindGasModel", "condition", "(II)Z"⟩) ∈ lw_all := lw_g (lw_at lw_ms 72 rfl) rfl
theorem qs73 : (Cond.selects "WindGasModel" ⟨"WindGasModel", "any", "()I"⟩ ⟨"WindGasModel", "any", "()I"⟩) ∈ lw_all := lw_g (lw_at lw_ms 73 rfl) rfl
theorem qs74 : (Cond.selects "WindGasModel" ⟨"WindGasModel", "node", "(I)I"⟩ ⟨"WindGasModel", "node", "(I)I"⟩) ∈ lw_all := lw_g (lw_at lw_ms 74 rfl) rfl
theorem qs75 : (Cond.selects "WindGasModel" ⟨"WindGasModel", "all", "()I"⟩ ⟨"WindGasModel", "all", "()I"⟩) ∈ lw_all := lw_g (lw_at lw_ms 75 rfl) rfl
theorem qs76 : (Cond.selects "WindGasModel" ⟨"WindGasModel", "single", "()I"⟩ ⟨"WindGasModel", "single", "()I"⟩) ∈ lw_all := lw_g (lw_at lw_ms 76 rfl) rfl
theorem qs77 : (Cond.selects "WindGasModel" ⟨"WindGasModel", "takesSign", "(I)Z"⟩ ⟨"WindGasModel", "takesSign", "(I)Z"⟩) ∈ lw_all := lw_g (lw_at lw_ms 77 rfl) rfl
theorem qs78 : (Cond.selects "WindGasModel" ⟨"WindGasModel", "kinds", "(I)Z"⟩ ⟨"WindGasModel", "kinds", "(I)Z"⟩) ∈ lw_all := lw_g (lw_at lw_ms 78 rfl) rfl
theorem qs79 : (Cond.selects "WindGasModel" ⟨"WindGasModel", "kind", "()I"⟩ ⟨"WindGasModel", "kind", "()I"⟩) ∈ lw_all := lw_g (lw_at lw_ms 79 rfl) rfl
theorem qs80 : (Cond.selects "WindGasModel" ⟨"WindGasModel", "areOf", "(IIII)Z"⟩ ⟨"WindGasModel", "areOf", "(IIII)Z"⟩) ∈ lw_all := lw_g (lw_at lw_ms 80 rfl) rfl
theorem qs81 : (Cond.selects "WindGasModel" ⟨"WindGasModel", "makes", "(III)I"⟩ ⟨"WindGasModel", "makes", "(III)I"⟩) ∈ lw_all := lw_g (lw_at lw_ms 81 rfl) rfl
theorem qs82 : (Cond.selects "WindGasModel" ⟨"WindGasModel", "coins", "(IIII)I"⟩ ⟨"WindGasModel", "coins", "(IIII)I"⟩) ∈ lw_all := lw_g (lw_at lw_ms 82 rfl) rfl
-- ===== end of PART A; then your names; then what follows =====
