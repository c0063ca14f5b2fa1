-- ===== PART A: goes FIRST, ahead of the names: the tables' words, and 'selects' of the private methods out of them =====
/-- a private method of a class that the tables say can be made, by its rows of tables_1 -/
def lw_okq (q : MethodName × Nat) : Prop := (q.1.cls ≠ "java/lang/invoke/MethodHandle" ∧ q.1.cls ≠ "java/lang/invoke/VarHandle") ∧ Cond.instantiable q.1.cls q.2 ∈ tables_1 ∧ Cond.privateMethod q.1 ∈ tables_1 ∧ Cond.instanceMethod q.1 ∈ tables_1
set_option maxRecDepth 100000
theorem lw_t1 {w : Cond} (h : w ∈ tables_1_1) : w ∈ tables_1 := List.mem_append_left _ h
theorem lw_t2 {w : Cond} (h : w ∈ tables_1_2) : w ∈ tables_1 := List.mem_append_right _ (List.mem_append_left _ h)
theorem lw_t3 {w : Cond} (h : w ∈ tables_1_3) : w ∈ tables_1 := List.mem_append_right _ (List.mem_append_right _ (List.mem_append_left _ h))
theorem lw_t4 {w : Cond} (h : w ∈ tables_1_4) : w ∈ tables_1 := List.mem_append_right _ (List.mem_append_right _ (List.mem_append_right _ (List.mem_append_left _ h)))
theorem lw_t5 {w : Cond} (h : w ∈ tables_1_5) : w ∈ tables_1 := List.mem_append_right _ (List.mem_append_right _ (List.mem_append_right _ (List.mem_append_right _ (List.mem_append_left _ h))))
theorem lw_t6 {w : Cond} (h : w ∈ tables_1_6) : w ∈ tables_1 := List.mem_append_right _ (List.mem_append_right _ (List.mem_append_right _ (List.mem_append_right _ (List.mem_append_right _ (List.mem_append_left _ h)))))
theorem lw_t7 {w : Cond} (h : w ∈ tables_1_7) : w ∈ tables_1 := List.mem_append_right _ (List.mem_append_right _ (List.mem_append_right _ (List.mem_append_right _ (List.mem_append_right _ (List.mem_append_right _ (List.mem_append_left _ h))))))
theorem lw_t8 {w : Cond} (h : w ∈ tables_1_8) : w ∈ tables_1 := List.mem_append_right _ (List.mem_append_right _ (List.mem_append_right _ (List.mem_append_right _ (List.mem_append_right _ (List.mem_append_right _ (List.mem_append_right _ (List.mem_append_left _ h)))))))
theorem lw_t9 {w : Cond} (h : w ∈ tables_1_9) : w ∈ tables_1 := List.mem_append_right _ (List.mem_append_right _ (List.mem_append_right _ (List.mem_append_right _ (List.mem_append_right _ (List.mem_append_right _ (List.mem_append_right _ (List.mem_append_right _ (List.mem_append_left _ h))))))))
theorem lw_t10 {w : Cond} (h : w ∈ tables_1_10) : w ∈ tables_1 := List.mem_append_right _ (List.mem_append_right _ (List.mem_append_right _ (List.mem_append_right _ (List.mem_append_right _ (List.mem_append_right _ (List.mem_append_right _ (List.mem_append_right _ (List.mem_append_right _ (List.mem_append_left _ h)))))))))
theorem lw_t11 {w : Cond} (h : w ∈ tables_1_11) : w ∈ tables_1 := List.mem_append_right _ (List.mem_append_right _ (List.mem_append_right _ (List.mem_append_right _ (List.mem_append_right _ (List.mem_append_right _ (List.mem_append_right _ (List.mem_append_right _ (List.mem_append_right _ (List.mem_append_right _ h)))))))))
theorem lw_p0 : lw_okq (⟨"HeldCoats", "come", "(I)V"⟩, 18) := ⟨⟨by decide +kernel, by decide +kernel⟩, lw_t1 (List.mem_of_getElem? (i := 48) rfl), lw_t2 (List.mem_of_getElem? (i := 88) rfl), lw_t2 (List.mem_of_getElem? (i := 89) rfl)⟩
theorem lw_p1 : lw_okq (⟨"HeldCoats", "take", "()I"⟩, 18) := ⟨⟨by decide +kernel, by decide +kernel⟩, lw_t1 (List.mem_of_getElem? (i := 48) rfl), lw_t2 (List.mem_of_getElem? (i := 101) rfl), lw_t2 (List.mem_of_getElem? (i := 102) rfl)⟩
theorem lw_p2 : lw_okq (⟨"HeldCoats$CapitalReader", "line", "()V"⟩, 11) := ⟨⟨by decide +kernel, by decide +kernel⟩, lw_t2 (List.mem_of_getElem? (i := 105) rfl), lw_t3 (List.mem_of_getElem? (i := 126) rfl), lw_t3 (List.mem_of_getElem? (i := 127) rfl)⟩
theorem lw_p3 : lw_okq (⟨"HeldCoats$CapitalReader", "told", "(Ljava/util/ArrayList;III)V"⟩, 11) := ⟨⟨by decide +kernel, by decide +kernel⟩, lw_t2 (List.mem_of_getElem? (i := 105) rfl), lw_t3 (List.mem_of_getElem? (i := 145) rfl), lw_t3 (List.mem_of_getElem? (i := 146) rfl)⟩
theorem lw_p4 : lw_okq (⟨"HeldCoats$CapitalReader", "first", "(II)V"⟩, 11) := ⟨⟨by decide +kernel, by decide +kernel⟩, lw_t2 (List.mem_of_getElem? (i := 105) rfl), lw_t3 (List.mem_of_getElem? (i := 150) rfl), lw_t3 (List.mem_of_getElem? (i := 151) rfl)⟩
theorem lw_p5 : lw_okq (⟨"java/lang/Throwable", "fillInStackTrace", "(I)Ljava/lang/Throwable;"⟩, 6) := ⟨⟨by decide +kernel, by decide +kernel⟩, lw_t3 (List.mem_of_getElem? (i := 195) rfl), lw_t3 (List.mem_of_getElem? (i := 193) rfl), lw_t3 (List.mem_of_getElem? (i := 194) rfl)⟩
theorem lw_p6 : lw_okq (⟨"HeldCoats$CapitalReader", "fresh", "()Ljava/lang/String;"⟩, 11) := ⟨⟨by decide +kernel, by decide +kernel⟩, lw_t2 (List.mem_of_getElem? (i := 105) rfl), lw_t3 (List.mem_of_getElem? (i := 228) rfl), lw_t3 (List.mem_of_getElem? (i := 229) rfl)⟩
theorem lw_p7 : lw_okq (⟨"java/util/ArrayList", "add", "(Ljava/lang/Object;[Ljava/lang/Object;I)V"⟩, 3) := ⟨⟨by decide +kernel, by decide +kernel⟩, lw_t1 (List.mem_of_getElem? (i := 62) rfl), lw_t4 (List.mem_of_getElem? (i := 123) rfl), lw_t4 (List.mem_of_getElem? (i := 124) rfl)⟩
theorem lw_p8 : lw_okq (⟨"java/util/ArrayList", "grow", "()[Ljava/lang/Object;"⟩, 3) := ⟨⟨by decide +kernel, by decide +kernel⟩, lw_t1 (List.mem_of_getElem? (i := 62) rfl), lw_t4 (List.mem_of_getElem? (i := 127) rfl), lw_t4 (List.mem_of_getElem? (i := 128) rfl)⟩
theorem lw_p9 : lw_okq (⟨"java/util/ArrayList", "grow", "(I)[Ljava/lang/Object;"⟩, 3) := ⟨⟨by decide +kernel, by decide +kernel⟩, lw_t1 (List.mem_of_getElem? (i := 62) rfl), lw_t4 (List.mem_of_getElem? (i := 131) rfl), lw_t4 (List.mem_of_getElem? (i := 132) rfl)⟩
theorem lw_p10 : lw_okq (⟨"HeldCoats$CapitalReader", "coat", "()V"⟩, 11) := ⟨⟨by decide +kernel, by decide +kernel⟩, lw_t2 (List.mem_of_getElem? (i := 105) rfl), lw_t4 (List.mem_of_getElem? (i := 178) rfl), lw_t4 (List.mem_of_getElem? (i := 179) rfl)⟩
theorem lw_p11 : lw_okq (⟨"HeldCoats$CapitalReader", "cold", "()V"⟩, 11) := ⟨⟨by decide +kernel, by decide +kernel⟩, lw_t2 (List.mem_of_getElem? (i := 105) rfl), lw_t4 (List.mem_of_getElem? (i := 214) rfl), lw_t4 (List.mem_of_getElem? (i := 215) rfl)⟩
theorem lw_p12 : lw_okq (⟨"HeldCoats$CapitalReader", "once", "(III)I"⟩, 11) := ⟨⟨by decide +kernel, by decide +kernel⟩, lw_t2 (List.mem_of_getElem? (i := 105) rfl), lw_t4 (List.mem_of_getElem? (i := 223) rfl), lw_t4 (List.mem_of_getElem? (i := 224) rfl)⟩
theorem lw_p13 : lw_okq (⟨"HeldCoats$CapitalReader", "limit", "()V"⟩, 11) := ⟨⟨by decide +kernel, by decide +kernel⟩, lw_t2 (List.mem_of_getElem? (i := 105) rfl), lw_t4 (List.mem_of_getElem? (i := 232) rfl), lw_t4 (List.mem_of_getElem? (i := 233) rfl)⟩
theorem lw_p14 : lw_okq (⟨"HeldCoats", "isSeat", "(I)Z"⟩, 18) := ⟨⟨by decide +kernel, by decide +kernel⟩, lw_t1 (List.mem_of_getElem? (i := 48) rfl), lw_t5 (List.mem_of_getElem? (i := 11) rfl), lw_t5 (List.mem_of_getElem? (i := 12) rfl)⟩
theorem lw_p15 : lw_okq (⟨"HeldCoats", "isCoat", "(I)Z"⟩, 18) := ⟨⟨by decide +kernel, by decide +kernel⟩, lw_t1 (List.mem_of_getElem? (i := 48) rfl), lw_t5 (List.mem_of_getElem? (i := 71) rfl), lw_t5 (List.mem_of_getElem? (i := 72) rfl)⟩
def lw_privs_1 : List (MethodName × Nat) := [(⟨"HeldCoats", "come", "(I)V"⟩, 18), (⟨"HeldCoats", "take", "()I"⟩, 18), (⟨"HeldCoats$CapitalReader", "line", "()V"⟩, 11), (⟨"HeldCoats$CapitalReader", "told", "(Ljava/util/ArrayList;III)V"⟩, 11), (⟨"HeldCoats$CapitalReader", "first", "(II)V"⟩, 11), (⟨"java/lang/Throwable", "fillInStackTrace", "(I)Ljava/lang/Throwable;"⟩, 6), (⟨"HeldCoats$CapitalReader", "fresh", "()Ljava/lang/String;"⟩, 11), (⟨"java/util/ArrayList", "add", "(Ljava/lang/Object;[Ljava/lang/Object;I)V"⟩, 3), (⟨"java/util/ArrayList", "grow", "()[Ljava/lang/Object;"⟩, 3), (⟨"java/util/ArrayList", "grow", "(I)[Ljava/lang/Object;"⟩, 3), (⟨"HeldCoats$CapitalReader", "coat", "()V"⟩, 11), (⟨"HeldCoats$CapitalReader", "cold", "()V"⟩, 11), (⟨"HeldCoats$CapitalReader", "once", "(III)I"⟩, 11), (⟨"HeldCoats$CapitalReader", "limit", "()V"⟩, 11), (⟨"HeldCoats", "isSeat", "(I)Z"⟩, 18), (⟨"HeldCoats", "isCoat", "(I)Z"⟩, 18)]
theorem lw_r1 : ∀ q ∈ lw_privs_1, lw_okq q := List.forall_mem_cons.mpr ⟨lw_p0, List.forall_mem_cons.mpr ⟨lw_p1, List.forall_mem_cons.mpr ⟨lw_p2, List.forall_mem_cons.mpr ⟨lw_p3, List.forall_mem_cons.mpr ⟨lw_p4, List.forall_mem_cons.mpr ⟨lw_p5, List.forall_mem_cons.mpr ⟨lw_p6, List.forall_mem_cons.mpr ⟨lw_p7, List.forall_mem_cons.mpr ⟨lw_p8, List.forall_mem_cons.mpr ⟨lw_p9, List.forall_mem_cons.mpr ⟨lw_p10, List.forall_mem_cons.mpr ⟨lw_p11, List.forall_mem_cons.mpr ⟨lw_p12, List.forall_mem_cons.mpr ⟨lw_p13, List.forall_mem_cons.mpr ⟨lw_p14, List.forall_mem_cons.mpr ⟨lw_p15, fun _ h => absurd h List.not_mem_nil⟩⟩⟩⟩⟩⟩⟩⟩⟩⟩⟩⟩⟩⟩⟩⟩
theorem lw_p16 : lw_okq (⟨"HeldCoats", "does", "(LHeldCoats$Act;)I"⟩, 18) := ⟨⟨by decide +kernel, by decide +kernel⟩, lw_t1 (List.mem_of_getElem? (i := 48) rfl), lw_t5 (List.mem_of_getElem? (i := 115) rfl), lw_t5 (List.mem_of_getElem? (i := 116) rfl)⟩
theorem lw_p17 : lw_okq (⟨"HeldCoats$Reign", "noon", "()V"⟩, 14) := ⟨⟨by decide +kernel, by decide +kernel⟩, lw_t1 (List.mem_of_getElem? (i := 153) rfl), lw_t5 (List.mem_of_getElem? (i := 145) rfl), lw_t5 (List.mem_of_getElem? (i := 146) rfl)⟩
theorem lw_p18 : lw_okq (⟨"HeldCoats$Reign", "lies", "(I)V"⟩, 14) := ⟨⟨by decide +kernel, by decide +kernel⟩, lw_t1 (List.mem_of_getElem? (i := 153) rfl), lw_t5 (List.mem_of_getElem? (i := 169) rfl), lw_t5 (List.mem_of_getElem? (i := 170) rfl)⟩
theorem lw_p19 : lw_okq (⟨"HeldCoats$Reign", "leaves", "(I)V"⟩, 14) := ⟨⟨by decide +kernel, by decide +kernel⟩, lw_t1 (List.mem_of_getElem? (i := 153) rfl), lw_t5 (List.mem_of_getElem? (i := 224) rfl), lw_t5 (List.mem_of_getElem? (i := 225) rfl)⟩
theorem lw_p20 : lw_okq (⟨"HeldCoats", "snap", "()V"⟩, 18) := ⟨⟨by decide +kernel, by decide +kernel⟩, lw_t1 (List.mem_of_getElem? (i := 48) rfl), lw_t5 (List.mem_of_getElem? (i := 230) rfl), lw_t5 (List.mem_of_getElem? (i := 231) rfl)⟩
theorem lw_p21 : lw_okq (⟨"HeldCoats", "isMan", "(I)Z"⟩, 18) := ⟨⟨by decide +kernel, by decide +kernel⟩, lw_t1 (List.mem_of_getElem? (i := 48) rfl), lw_t5 (List.mem_of_getElem? (i := 238) rfl), lw_t5 (List.mem_of_getElem? (i := 239) rfl)⟩
theorem lw_p22 : lw_okq (⟨"HeldCoats", "worthOf", "(I)I"⟩, 18) := ⟨⟨by decide +kernel, by decide +kernel⟩, lw_t1 (List.mem_of_getElem? (i := 48) rfl), lw_t6 (List.mem_of_getElem? (i := 70) rfl), lw_t6 (List.mem_of_getElem? (i := 71) rfl)⟩
theorem lw_p23 : lw_okq (⟨"HeldCoats", "seats", "()I"⟩, 18) := ⟨⟨by decide +kernel, by decide +kernel⟩, lw_t1 (List.mem_of_getElem? (i := 48) rfl), lw_t6 (List.mem_of_getElem? (i := 74) rfl), lw_t6 (List.mem_of_getElem? (i := 75) rfl)⟩
theorem lw_p24 : lw_okq (⟨"HeldCoats", "areTwo", "(II)Z"⟩, 18) := ⟨⟨by decide +kernel, by decide +kernel⟩, lw_t1 (List.mem_of_getElem? (i := 48) rfl), lw_t6 (List.mem_of_getElem? (i := 88) rfl), lw_t6 (List.mem_of_getElem? (i := 89) rfl)⟩
theorem lw_p25 : lw_okq (⟨"HeldCoats", "harmIn", "(IIZI)I"⟩, 18) := ⟨⟨by decide +kernel, by decide +kernel⟩, lw_t1 (List.mem_of_getElem? (i := 48) rfl), lw_t6 (List.mem_of_getElem? (i := 92) rfl), lw_t6 (List.mem_of_getElem? (i := 93) rfl)⟩
theorem lw_p26 : lw_okq (⟨"HeldCoats", "coats", "()I"⟩, 18) := ⟨⟨by decide +kernel, by decide +kernel⟩, lw_t1 (List.mem_of_getElem? (i := 48) rfl), lw_t6 (List.mem_of_getElem? (i := 113) rfl), lw_t6 (List.mem_of_getElem? (i := 114) rfl)⟩
theorem lw_p27 : lw_okq (⟨"HeldCoats", "layFrost", "(II)Z"⟩, 18) := ⟨⟨by decide +kernel, by decide +kernel⟩, lw_t1 (List.mem_of_getElem? (i := 48) rfl), lw_t6 (List.mem_of_getElem? (i := 121) rfl), lw_t6 (List.mem_of_getElem? (i := 122) rfl)⟩
theorem lw_p28 : lw_okq (⟨"HeldCoats", "firstDay", "(I)I"⟩, 18) := ⟨⟨by decide +kernel, by decide +kernel⟩, lw_t1 (List.mem_of_getElem? (i := 48) rfl), lw_t6 (List.mem_of_getElem? (i := 138) rfl), lw_t6 (List.mem_of_getElem? (i := 139) rfl)⟩
theorem lw_p29 : lw_okq (⟨"HeldCoats", "onTape", "(I)I"⟩, 18) := ⟨⟨by decide +kernel, by decide +kernel⟩, lw_t1 (List.mem_of_getElem? (i := 48) rfl), lw_t6 (List.mem_of_getElem? (i := 154) rfl), lw_t6 (List.mem_of_getElem? (i := 155) rfl)⟩
theorem lw_p30 : lw_okq (⟨"HeldCoats", "men", "()I"⟩, 18) := ⟨⟨by decide +kernel, by decide +kernel⟩, lw_t1 (List.mem_of_getElem? (i := 48) rfl), lw_t6 (List.mem_of_getElem? (i := 158) rfl), lw_t6 (List.mem_of_getElem? (i := 159) rfl)⟩
theorem lw_p31 : lw_okq (⟨"HeldCoats", "cold", "(I)I"⟩, 18) := ⟨⟨by decide +kernel, by decide +kernel⟩, lw_t1 (List.mem_of_getElem? (i := 48) rfl), lw_t6 (List.mem_of_getElem? (i := 175) rfl), lw_t6 (List.mem_of_getElem? (i := 176) rfl)⟩
def lw_privs_2 : List (MethodName × Nat) := [(⟨"HeldCoats", "does", "(LHeldCoats$Act;)I"⟩, 18), (⟨"HeldCoats$Reign", "noon", "()V"⟩, 14), (⟨"HeldCoats$Reign", "lies", "(I)V"⟩, 14), (⟨"HeldCoats$Reign", "leaves", "(I)V"⟩, 14), (⟨"HeldCoats", "snap", "()V"⟩, 18), (⟨"HeldCoats", "isMan", "(I)Z"⟩, 18), (⟨"HeldCoats", "worthOf", "(I)I"⟩, 18), (⟨"HeldCoats", "seats", "()I"⟩, 18), (⟨"HeldCoats", "areTwo", "(II)Z"⟩, 18), (⟨"HeldCoats", "harmIn", "(IIZI)I"⟩, 18), (⟨"HeldCoats", "coats", "()I"⟩, 18), (⟨"HeldCoats", "layFrost", "(II)Z"⟩, 18), (⟨"HeldCoats", "firstDay", "(I)I"⟩, 18), (⟨"HeldCoats", "onTape", "(I)I"⟩, 18), (⟨"HeldCoats", "men", "()I"⟩, 18), (⟨"HeldCoats", "cold", "(I)I"⟩, 18)]
theorem lw_r2 : ∀ q ∈ lw_privs_2, lw_okq q := List.forall_mem_cons.mpr ⟨lw_p16, List.forall_mem_cons.mpr ⟨lw_p17, List.forall_mem_cons.mpr ⟨lw_p18, List.forall_mem_cons.mpr ⟨lw_p19, List.forall_mem_cons.mpr ⟨lw_p20, List.forall_mem_cons.mpr ⟨lw_p21, List.forall_mem_cons.mpr ⟨lw_p22, List.forall_mem_cons.mpr ⟨lw_p23, List.forall_mem_cons.mpr ⟨lw_p24, List.forall_mem_cons.mpr ⟨lw_p25, List.forall_mem_cons.mpr ⟨lw_p26, List.forall_mem_cons.mpr ⟨lw_p27, List.forall_mem_cons.mpr ⟨lw_p28, List.forall_mem_cons.mpr ⟨lw_p29, List.forall_mem_cons.mpr ⟨lw_p30, List.forall_mem_cons.mpr ⟨lw_p31, fun _ h => absurd h List.not_mem_nil⟩⟩⟩⟩⟩⟩⟩⟩⟩⟩⟩⟩⟩⟩⟩⟩
theorem lw_p32 : lw_okq (⟨"HeldCoats$Reign", "acts", "(I)V"⟩, 14) := ⟨⟨by decide +kernel, by decide +kernel⟩, lw_t1 (List.mem_of_getElem? (i := 153) rfl), lw_t6 (List.mem_of_getElem? (i := 191) rfl), lw_t6 (List.mem_of_getElem? (i := 192) rfl)⟩
theorem lw_p33 : lw_okq (⟨"HeldCoats$Reign", "draw", "(I)I"⟩, 14) := ⟨⟨by decide +kernel, by decide +kernel⟩, lw_t1 (List.mem_of_getElem? (i := 153) rfl), lw_t6 (List.mem_of_getElem? (i := 195) rfl), lw_t6 (List.mem_of_getElem? (i := 196) rfl)⟩
theorem lw_p34 : lw_okq (⟨"HeldCoats$BookReader", "act", "()LHeldCoats$Act;"⟩, 11) := ⟨⟨by decide +kernel, by decide +kernel⟩, lw_t6 (List.mem_of_getElem? (i := 213) rfl), lw_t7 (List.mem_of_getElem? (i := 4) rfl), lw_t7 (List.mem_of_getElem? (i := 5) rfl)⟩
theorem lw_p35 : lw_okq (⟨"HeldCoats$BookReader", "wears", "(I)LHeldCoats$Act;"⟩, 11) := ⟨⟨by decide +kernel, by decide +kernel⟩, lw_t6 (List.mem_of_getElem? (i := 213) rfl), lw_t7 (List.mem_of_getElem? (i := 35) rfl), lw_t7 (List.mem_of_getElem? (i := 36) rfl)⟩
theorem lw_p36 : lw_okq (⟨"HeldCoats$BookReader", "of", "(I)LHeldCoats$Act;"⟩, 11) := ⟨⟨by decide +kernel, by decide +kernel⟩, lw_t6 (List.mem_of_getElem? (i := 213) rfl), lw_t7 (List.mem_of_getElem? (i := 45) rfl), lw_t7 (List.mem_of_getElem? (i := 46) rfl)⟩
theorem lw_p37 : lw_okq (⟨"HeldCoats", "lived", "(Ljava/util/ArrayList;Z)I"⟩, 18) := ⟨⟨by decide +kernel, by decide +kernel⟩, lw_t1 (List.mem_of_getElem? (i := 48) rfl), lw_t7 (List.mem_of_getElem? (i := 62) rfl), lw_t7 (List.mem_of_getElem? (i := 63) rfl)⟩
theorem lw_p38 : lw_okq (⟨"HeldCoats$SentenceReader", "or", "()LHeldCoats$Cond;"⟩, 12) := ⟨⟨by decide +kernel, by decide +kernel⟩, lw_t7 (List.mem_of_getElem? (i := 75) rfl), lw_t7 (List.mem_of_getElem? (i := 108) rfl), lw_t7 (List.mem_of_getElem? (i := 109) rfl)⟩
theorem lw_p39 : lw_okq (⟨"HeldCoats$SentenceReader", "and", "()LHeldCoats$Cond;"⟩, 12) := ⟨⟨by decide +kernel, by decide +kernel⟩, lw_t7 (List.mem_of_getElem? (i := 75) rfl), lw_t7 (List.mem_of_getElem? (i := 112) rfl), lw_t7 (List.mem_of_getElem? (i := 113) rfl)⟩
theorem lw_p40 : lw_okq (⟨"HeldCoats$SentenceReader", "says", "()LHeldCoats$Cond;"⟩, 12) := ⟨⟨by decide +kernel, by decide +kernel⟩, lw_t7 (List.mem_of_getElem? (i := 75) rfl), lw_t7 (List.mem_of_getElem? (i := 116) rfl), lw_t7 (List.mem_of_getElem? (i := 117) rfl)⟩
theorem lw_p41 : lw_okq (⟨"HeldCoats$SentenceReader", "numbered", "()I"⟩, 12) := ⟨⟨by decide +kernel, by decide +kernel⟩, lw_t7 (List.mem_of_getElem? (i := 75) rfl), lw_t7 (List.mem_of_getElem? (i := 128) rfl), lw_t7 (List.mem_of_getElem? (i := 129) rfl)⟩
theorem lw_p42 : lw_okq (⟨"HeldCoats$SentenceReader", "bracket", "()LHeldCoats$Cond;"⟩, 12) := ⟨⟨by decide +kernel, by decide +kernel⟩, lw_t7 (List.mem_of_getElem? (i := 75) rfl), lw_t7 (List.mem_of_getElem? (i := 139) rfl), lw_t7 (List.mem_of_getElem? (i := 140) rfl)⟩
theorem lw_p43 : lw_okq (⟨"HeldCoats$SentenceReader", "than", "(I)LHeldCoats$Cond;"⟩, 12) := ⟨⟨by decide +kernel, by decide +kernel⟩, lw_t7 (List.mem_of_getElem? (i := 75) rfl), lw_t7 (List.mem_of_getElem? (i := 182) rfl), lw_t7 (List.mem_of_getElem? (i := 183) rfl)⟩
theorem lw_p44 : lw_okq (⟨"HeldCoatsModel", "four", "(I)V"⟩, 49) := ⟨⟨by decide +kernel, by decide +kernel⟩, lw_t8 (List.mem_of_getElem? (i := 87) rfl), lw_t8 (List.mem_of_getElem? (i := 85) rfl), lw_t8 (List.mem_of_getElem? (i := 86) rfl)⟩
theorem lw_p45 : lw_okq (⟨"HeldCoatsModel", "clears", "()V"⟩, 49) := ⟨⟨by decide +kernel, by decide +kernel⟩, lw_t8 (List.mem_of_getElem? (i := 87) rfl), lw_t8 (List.mem_of_getElem? (i := 123) rfl), lw_t8 (List.mem_of_getElem? (i := 124) rfl)⟩
theorem lw_p46 : lw_okq (⟨"HeldCoatsModel", "taken", "(I)V"⟩, 49) := ⟨⟨by decide +kernel, by decide +kernel⟩, lw_t8 (List.mem_of_getElem? (i := 87) rfl), lw_t9 (List.mem_of_getElem? (i := 41) rfl), lw_t9 (List.mem_of_getElem? (i := 42) rfl)⟩
theorem lw_p47 : lw_okq (⟨"HeldCoatsModel", "next", "()V"⟩, 49) := ⟨⟨by decide +kernel, by decide +kernel⟩, lw_t8 (List.mem_of_getElem? (i := 87) rfl), lw_t9 (List.mem_of_getElem? (i := 45) rfl), lw_t9 (List.mem_of_getElem? (i := 46) rfl)⟩
def lw_privs_3 : List (MethodName × Nat) := [(⟨"HeldCoats$Reign", "acts", "(I)V"⟩, 14), (⟨"HeldCoats$Reign", "draw", "(I)I"⟩, 14), (⟨"HeldCoats$BookReader", "act", "()LHeldCoats$Act;"⟩, 11), (⟨"HeldCoats$BookReader", "wears", "(I)LHeldCoats$Act;"⟩, 11), (⟨"HeldCoats$BookReader", "of", "(I)LHeldCoats$Act;"⟩, 11), (⟨"HeldCoats", "lived", "(Ljava/util/ArrayList;Z)I"⟩, 18), (⟨"HeldCoats$SentenceReader", "or", "()LHeldCoats$Cond;"⟩, 12), (⟨"HeldCoats$SentenceReader", "and", "()LHeldCoats$Cond;"⟩, 12), (⟨"HeldCoats$SentenceReader", "says", "()LHeldCoats$Cond;"⟩, 12), (⟨"HeldCoats$SentenceReader", "numbered", "()I"⟩, 12), (⟨"HeldCoats$SentenceReader", "bracket", "()LHeldCoats$Cond;"⟩, 12), (⟨"HeldCoats$SentenceReader", "than", "(I)LHeldCoats$Cond;"⟩, 12), (⟨"HeldCoatsModel", "four", "(I)V"⟩, 49), (⟨"HeldCoatsModel", "clears", "()V"⟩, 49), (⟨"HeldCoatsModel", "taken", "(I)V"⟩, 49), (⟨"HeldCoatsModel", "next", "()V"⟩, 49)]
theorem lw_r3 : ∀ q ∈ lw_privs_3, lw_okq q := List.forall_mem_cons.mpr ⟨lw_p32, List.forall_mem_cons.mpr ⟨lw_p33, List.forall_mem_cons.mpr ⟨lw_p34, List.forall_mem_cons.mpr ⟨lw_p35, List.forall_mem_cons.mpr ⟨lw_p36, List.forall_mem_cons.mpr ⟨lw_p37, List.forall_mem_cons.mpr ⟨lw_p38, List.forall_mem_cons.mpr ⟨lw_p39, List.forall_mem_cons.mpr ⟨lw_p40, List.forall_mem_cons.mpr ⟨lw_p41, List.forall_mem_cons.mpr ⟨lw_p42, List.forall_mem_cons.mpr ⟨lw_p43, List.forall_mem_cons.mpr ⟨lw_p44, List.forall_mem_cons.mpr ⟨lw_p45, List.forall_mem_cons.mpr ⟨lw_p46, List.forall_mem_cons.mpr ⟨lw_p47, fun _ h => absurd h List.not_mem_nil⟩⟩⟩⟩⟩⟩⟩⟩⟩⟩⟩⟩⟩⟩⟩⟩
theorem lw_p48 : lw_okq (⟨"HeldCoatsModel", "peek", "()I"⟩, 49) := ⟨⟨by decide +kernel, by decide +kernel⟩, lw_t8 (List.mem_of_getElem? (i := 87) rfl), lw_t9 (List.mem_of_getElem? (i := 49) rfl), lw_t9 (List.mem_of_getElem? (i := 50) rfl)⟩
theorem lw_p49 : lw_okq (⟨"HeldCoatsModel", "line", "()Z"⟩, 49) := ⟨⟨by decide +kernel, by decide +kernel⟩, lw_t8 (List.mem_of_getElem? (i := 87) rfl), lw_t9 (List.mem_of_getElem? (i := 59) rfl), lw_t9 (List.mem_of_getElem? (i := 60) rfl)⟩
theorem lw_p50 : lw_okq (⟨"HeldCoatsModel", "isWord", "(J)Z"⟩, 49) := ⟨⟨by decide +kernel, by decide +kernel⟩, lw_t8 (List.mem_of_getElem? (i := 87) rfl), lw_t9 (List.mem_of_getElem? (i := 63) rfl), lw_t9 (List.mem_of_getElem? (i := 64) rfl)⟩
theorem lw_p51 : lw_okq (⟨"HeldCoatsModel", "bad", "(I)Z"⟩, 49) := ⟨⟨by decide +kernel, by decide +kernel⟩, lw_t8 (List.mem_of_getElem? (i := 87) rfl), lw_t9 (List.mem_of_getElem? (i := 67) rfl), lw_t9 (List.mem_of_getElem? (i := 68) rfl)⟩
theorem lw_p52 : lw_okq (⟨"HeldCoatsModel", "fresh", "(I)Z"⟩, 49) := ⟨⟨by decide +kernel, by decide +kernel⟩, lw_t8 (List.mem_of_getElem? (i := 87) rfl), lw_t9 (List.mem_of_getElem? (i := 71) rfl), lw_t9 (List.mem_of_getElem? (i := 72) rfl)⟩
theorem lw_p53 : lw_okq (⟨"HeldCoatsModel", "isName", "()Z"⟩, 49) := ⟨⟨by decide +kernel, by decide +kernel⟩, lw_t8 (List.mem_of_getElem? (i := 87) rfl), lw_t9 (List.mem_of_getElem? (i := 75) rfl), lw_t9 (List.mem_of_getElem? (i := 76) rfl)⟩
theorem lw_p54 : lw_okq (⟨"HeldCoatsModel", "find", "(II)I"⟩, 49) := ⟨⟨by decide +kernel, by decide +kernel⟩, lw_t8 (List.mem_of_getElem? (i := 87) rfl), lw_t9 (List.mem_of_getElem? (i := 79) rfl), lw_t9 (List.mem_of_getElem? (i := 80) rfl)⟩
theorem lw_p55 : lw_okq (⟨"HeldCoatsModel", "puts", "(III)Z"⟩, 49) := ⟨⟨by decide +kernel, by decide +kernel⟩, lw_t8 (List.mem_of_getElem? (i := 87) rfl), lw_t9 (List.mem_of_getElem? (i := 83) rfl), lw_t9 (List.mem_of_getElem? (i := 84) rfl)⟩
theorem lw_p56 : lw_okq (⟨"HeldCoatsModel", "takes", "(II)Z"⟩, 49) := ⟨⟨by decide +kernel, by decide +kernel⟩, lw_t8 (List.mem_of_getElem? (i := 87) rfl), lw_t9 (List.mem_of_getElem? (i := 87) rfl), lw_t9 (List.mem_of_getElem? (i := 88) rfl)⟩
theorem lw_p57 : lw_okq (⟨"HeldCoatsModel", "takesName", "(II)Z"⟩, 49) := ⟨⟨by decide +kernel, by decide +kernel⟩, lw_t8 (List.mem_of_getElem? (i := 87) rfl), lw_t9 (List.mem_of_getElem? (i := 94) rfl), lw_t9 (List.mem_of_getElem? (i := 95) rfl)⟩
theorem lw_p58 : lw_okq (⟨"HeldCoatsModel", "looksAt", "(II)Z"⟩, 49) := ⟨⟨by decide +kernel, by decide +kernel⟩, lw_t8 (List.mem_of_getElem? (i := 87) rfl), lw_t9 (List.mem_of_getElem? (i := 98) rfl), lw_t9 (List.mem_of_getElem? (i := 99) rfl)⟩
theorem lw_p59 : lw_okq (⟨"HeldCoatsModel", "readCold", "()Z"⟩, 49) := ⟨⟨by decide +kernel, by decide +kernel⟩, lw_t8 (List.mem_of_getElem? (i := 87) rfl), lw_t9 (List.mem_of_getElem? (i := 102) rfl), lw_t9 (List.mem_of_getElem? (i := 103) rfl)⟩
theorem lw_p60 : lw_okq (⟨"HeldCoatsModel", "once", "(IIII)Z"⟩, 49) := ⟨⟨by decide +kernel, by decide +kernel⟩, lw_t8 (List.mem_of_getElem? (i := 87) rfl), lw_t9 (List.mem_of_getElem? (i := 106) rfl), lw_t9 (List.mem_of_getElem? (i := 107) rfl)⟩
theorem lw_p61 : lw_okq (⟨"HeldCoatsModel", "sign", "(I)Z"⟩, 49) := ⟨⟨by decide +kernel, by decide +kernel⟩, lw_t8 (List.mem_of_getElem? (i := 87) rfl), lw_t9 (List.mem_of_getElem? (i := 113) rfl), lw_t9 (List.mem_of_getElem? (i := 114) rfl)⟩
theorem lw_p62 : lw_okq (⟨"HeldCoatsModel", "isSign", "(I)Z"⟩, 49) := ⟨⟨by decide +kernel, by decide +kernel⟩, lw_t8 (List.mem_of_getElem? (i := 87) rfl), lw_t9 (List.mem_of_getElem? (i := 117) rfl), lw_t9 (List.mem_of_getElem? (i := 118) rfl)⟩
theorem lw_p63 : lw_okq (⟨"HeldCoatsModel", "isSeat", "(I)Z"⟩, 49) := ⟨⟨by decide +kernel, by decide +kernel⟩, lw_t8 (List.mem_of_getElem? (i := 87) rfl), lw_t9 (List.mem_of_getElem? (i := 129) rfl), lw_t9 (List.mem_of_getElem? (i := 130) rfl)⟩
def lw_privs_4 : List (MethodName × Nat) := [(⟨"HeldCoatsModel", "peek", "()I"⟩, 49), (⟨"HeldCoatsModel", "line", "()Z"⟩, 49), (⟨"HeldCoatsModel", "isWord", "(J)Z"⟩, 49), (⟨"HeldCoatsModel", "bad", "(I)Z"⟩, 49), (⟨"HeldCoatsModel", "fresh", "(I)Z"⟩, 49), (⟨"HeldCoatsModel", "isName", "()Z"⟩, 49), (⟨"HeldCoatsModel", "find", "(II)I"⟩, 49), (⟨"HeldCoatsModel", "puts", "(III)Z"⟩, 49), (⟨"HeldCoatsModel", "takes", "(II)Z"⟩, 49), (⟨"HeldCoatsModel", "takesName", "(II)Z"⟩, 49), (⟨"HeldCoatsModel", "looksAt", "(II)Z"⟩, 49), (⟨"HeldCoatsModel", "readCold", "()Z"⟩, 49), (⟨"HeldCoatsModel", "once", "(IIII)Z"⟩, 49), (⟨"HeldCoatsModel", "sign", "(I)Z"⟩, 49), (⟨"HeldCoatsModel", "isSign", "(I)Z"⟩, 49), (⟨"HeldCoatsModel", "isSeat", "(I)Z"⟩, 49)]
theorem lw_r4 : ∀ q ∈ lw_privs_4, lw_okq q := List.forall_mem_cons.mpr ⟨lw_p48, List.forall_mem_cons.mpr ⟨lw_p49, List.forall_mem_cons.mpr ⟨lw_p50, List.forall_mem_cons.mpr ⟨lw_p51, List.forall_mem_cons.mpr ⟨lw_p52, List.forall_mem_cons.mpr ⟨lw_p53, List.forall_mem_cons.mpr ⟨lw_p54, List.forall_mem_cons.mpr ⟨lw_p55, List.forall_mem_cons.mpr ⟨lw_p56, List.forall_mem_cons.mpr ⟨lw_p57, List.forall_mem_cons.mpr ⟨lw_p58, List.forall_mem_cons.mpr ⟨lw_p59, List.forall_mem_cons.mpr ⟨lw_p60, List.forall_mem_cons.mpr ⟨lw_p61, List.forall_mem_cons.mpr ⟨lw_p62, List.forall_mem_cons.mpr ⟨lw_p63, fun _ h => absurd h List.not_mem_nil⟩⟩⟩⟩⟩⟩⟩⟩⟩⟩⟩⟩⟩⟩⟩⟩
theorem lw_p64 : lw_okq (⟨"HeldCoatsModel", "coatOn", "(I)I"⟩, 49) := ⟨⟨by decide +kernel, by decide +kernel⟩, lw_t8 (List.mem_of_getElem? (i := 87) rfl), lw_t9 (List.mem_of_getElem? (i := 133) rfl), lw_t9 (List.mem_of_getElem? (i := 134) rfl)⟩
theorem lw_p65 : lw_okq (⟨"HeldCoatsModel", "holder", "(I)I"⟩, 49) := ⟨⟨by decide +kernel, by decide +kernel⟩, lw_t8 (List.mem_of_getElem? (i := 87) rfl), lw_t9 (List.mem_of_getElem? (i := 137) rfl), lw_t9 (List.mem_of_getElem? (i := 138) rfl)⟩
theorem lw_p66 : lw_okq (⟨"HeldCoatsModel", "isSummer", "()Z"⟩, 49) := ⟨⟨by decide +kernel, by decide +kernel⟩, lw_t8 (List.mem_of_getElem? (i := 87) rfl), lw_t9 (List.mem_of_getElem? (i := 141) rfl), lw_t9 (List.mem_of_getElem? (i := 142) rfl)⟩
theorem lw_p67 : lw_okq (⟨"HeldCoatsModel", "coldOn", "(I)I"⟩, 49) := ⟨⟨by decide +kernel, by decide +kernel⟩, lw_t8 (List.mem_of_getElem? (i := 87) rfl), lw_t9 (List.mem_of_getElem? (i := 145) rfl), lw_t9 (List.mem_of_getElem? (i := 146) rfl)⟩
theorem lw_p68 : lw_okq (⟨"HeldCoatsModel", "whoseOn", "(I)I"⟩, 49) := ⟨⟨by decide +kernel, by decide +kernel⟩, lw_t8 (List.mem_of_getElem? (i := 87) rfl), lw_t9 (List.mem_of_getElem? (i := 149) rfl), lw_t9 (List.mem_of_getElem? (i := 150) rfl)⟩
theorem lw_p69 : lw_okq (⟨"HeldCoatsModel", "isMan", "(I)Z"⟩, 49) := ⟨⟨by decide +kernel, by decide +kernel⟩, lw_t8 (List.mem_of_getElem? (i := 87) rfl), lw_t9 (List.mem_of_getElem? (i := 157) rfl), lw_t9 (List.mem_of_getElem? (i := 158) rfl)⟩
theorem lw_p70 : lw_okq (⟨"HeldCoatsModel", "throwsIf", "(Z)Z"⟩, 49) := ⟨⟨by decide +kernel, by decide +kernel⟩, lw_t8 (List.mem_of_getElem? (i := 87) rfl), lw_t9 (List.mem_of_getElem? (i := 161) rfl), lw_t9 (List.mem_of_getElem? (i := 162) rfl)⟩
theorem lw_p71 : lw_okq (⟨"HeldCoatsModel", "chill", "(I)I"⟩, 49) := ⟨⟨by decide +kernel, by decide +kernel⟩, lw_t8 (List.mem_of_getElem? (i := 87) rfl), lw_t9 (List.mem_of_getElem? (i := 165) rfl), lw_t9 (List.mem_of_getElem? (i := 166) rfl)⟩
theorem lw_p72 : lw_okq (⟨"HeldCoatsModel", "coatsAt", "(I)I"⟩, 49) := ⟨⟨by decide +kernel, by decide +kernel⟩, lw_t8 (List.mem_of_getElem? (i := 87) rfl), lw_t9 (List.mem_of_getElem? (i := 169) rfl), lw_t9 (List.mem_of_getElem? (i := 170) rfl)⟩
theorem lw_p73 : lw_okq (⟨"HeldCoatsModel", "chillIn", "(III)I"⟩, 49) := ⟨⟨by decide +kernel, by decide +kernel⟩, lw_t8 (List.mem_of_getElem? (i := 87) rfl), lw_t9 (List.mem_of_getElem? (i := 173) rfl), lw_t9 (List.mem_of_getElem? (i := 174) rfl)⟩
theorem lw_p74 : lw_okq (⟨"HeldCoatsModel", "warmth", "(I)I"⟩, 49) := ⟨⟨by decide +kernel, by decide +kernel⟩, lw_t8 (List.mem_of_getElem? (i := 87) rfl), lw_t9 (List.mem_of_getElem? (i := 177) rfl), lw_t9 (List.mem_of_getElem? (i := 178) rfl)⟩
theorem lw_p75 : lw_okq (⟨"HeldCoatsModel", "isCoat", "(I)Z"⟩, 49) := ⟨⟨by decide +kernel, by decide +kernel⟩, lw_t8 (List.mem_of_getElem? (i := 87) rfl), lw_t9 (List.mem_of_getElem? (i := 188) rfl), lw_t9 (List.mem_of_getElem? (i := 189) rfl)⟩
theorem lw_p76 : lw_okq (⟨"HeldCoatsModel", "ruler", "()I"⟩, 49) := ⟨⟨by decide +kernel, by decide +kernel⟩, lw_t8 (List.mem_of_getElem? (i := 87) rfl), lw_t9 (List.mem_of_getElem? (i := 196) rfl), lw_t9 (List.mem_of_getElem? (i := 197) rfl)⟩
theorem lw_p77 : lw_okq (⟨"HeldCoatsModel", "rulerBy", "(Z)I"⟩, 49) := ⟨⟨by decide +kernel, by decide +kernel⟩, lw_t8 (List.mem_of_getElem? (i := 87) rfl), lw_t9 (List.mem_of_getElem? (i := 200) rfl), lw_t9 (List.mem_of_getElem? (i := 201) rfl)⟩
theorem lw_p78 : lw_okq (⟨"HeldCoatsModel", "whyLay", "(II)I"⟩, 49) := ⟨⟨by decide +kernel, by decide +kernel⟩, lw_t8 (List.mem_of_getElem? (i := 87) rfl), lw_t9 (List.mem_of_getElem? (i := 208) rfl), lw_t9 (List.mem_of_getElem? (i := 209) rfl)⟩
theorem lw_p79 : lw_okq (⟨"HeldCoatsModel", "isWorn", "(I)Z"⟩, 49) := ⟨⟨by decide +kernel, by decide +kernel⟩, lw_t8 (List.mem_of_getElem? (i := 87) rfl), lw_t9 (List.mem_of_getElem? (i := 212) rfl), lw_t9 (List.mem_of_getElem? (i := 213) rfl)⟩
def lw_privs_5 : List (MethodName × Nat) := [(⟨"HeldCoatsModel", "coatOn", "(I)I"⟩, 49), (⟨"HeldCoatsModel", "holder", "(I)I"⟩, 49), (⟨"HeldCoatsModel", "isSummer", "()Z"⟩, 49), (⟨"HeldCoatsModel", "coldOn", "(I)I"⟩, 49), (⟨"HeldCoatsModel", "whoseOn", "(I)I"⟩, 49), (⟨"HeldCoatsModel", "isMan", "(I)Z"⟩, 49), (⟨"HeldCoatsModel", "throwsIf", "(Z)Z"⟩, 49), (⟨"HeldCoatsModel", "chill", "(I)I"⟩, 49), (⟨"HeldCoatsModel", "coatsAt", "(I)I"⟩, 49), (⟨"HeldCoatsModel", "chillIn", "(III)I"⟩, 49), (⟨"HeldCoatsModel", "warmth", "(I)I"⟩, 49), (⟨"HeldCoatsModel", "isCoat", "(I)Z"⟩, 49), (⟨"HeldCoatsModel", "ruler", "()I"⟩, 49), (⟨"HeldCoatsModel", "rulerBy", "(Z)I"⟩, 49), (⟨"HeldCoatsModel", "whyLay", "(II)I"⟩, 49), (⟨"HeldCoatsModel", "isWorn", "(I)Z"⟩, 49)]
theorem lw_r5 : ∀ q ∈ lw_privs_5, lw_okq q := List.forall_mem_cons.mpr ⟨lw_p64, List.forall_mem_cons.mpr ⟨lw_p65, List.forall_mem_cons.mpr ⟨lw_p66, List.forall_mem_cons.mpr ⟨lw_p67, List.forall_mem_cons.mpr ⟨lw_p68, List.forall_mem_cons.mpr ⟨lw_p69, List.forall_mem_cons.mpr ⟨lw_p70, List.forall_mem_cons.mpr ⟨lw_p71, List.forall_mem_cons.mpr ⟨lw_p72, List.forall_mem_cons.mpr ⟨lw_p73, List.forall_mem_cons.mpr ⟨lw_p74, List.forall_mem_cons.mpr ⟨lw_p75, List.forall_mem_cons.mpr ⟨lw_p76, List.forall_mem_cons.mpr ⟨lw_p77, List.forall_mem_cons.mpr ⟨lw_p78, List.forall_mem_cons.mpr ⟨lw_p79, fun _ h => absurd h List.not_mem_nil⟩⟩⟩⟩⟩⟩⟩⟩⟩⟩⟩⟩⟩⟩⟩⟩
theorem lw_p80 : lw_okq (⟨"HeldCoatsModel", "keepsAll", "()V"⟩, 49) := ⟨⟨by decide +kernel, by decide +kernel⟩, lw_t8 (List.mem_of_getElem? (i := 87) rfl), lw_t9 (List.mem_of_getElem? (i := 216) rfl), lw_t9 (List.mem_of_getElem? (i := 217) rfl)⟩
theorem lw_p81 : lw_okq (⟨"HeldCoatsModel", "lays", "(II)V"⟩, 49) := ⟨⟨by decide +kernel, by decide +kernel⟩, lw_t8 (List.mem_of_getElem? (i := 87) rfl), lw_t9 (List.mem_of_getElem? (i := 220) rfl), lw_t9 (List.mem_of_getElem? (i := 221) rfl)⟩
theorem lw_p82 : lw_okq (⟨"HeldCoatsModel", "whyWear", "(II)I"⟩, 49) := ⟨⟨by decide +kernel, by decide +kernel⟩, lw_t8 (List.mem_of_getElem? (i := 87) rfl), lw_t9 (List.mem_of_getElem? (i := 228) rfl), lw_t9 (List.mem_of_getElem? (i := 229) rfl)⟩
theorem lw_p83 : lw_okq (⟨"HeldCoatsModel", "wears", "(II)V"⟩, 49) := ⟨⟨by decide +kernel, by decide +kernel⟩, lw_t8 (List.mem_of_getElem? (i := 87) rfl), lw_t9 (List.mem_of_getElem? (i := 232) rfl), lw_t9 (List.mem_of_getElem? (i := 233) rfl)⟩
theorem lw_p84 : lw_okq (⟨"HeldCoatsModel", "unqueues", "(I)V"⟩, 49) := ⟨⟨by decide +kernel, by decide +kernel⟩, lw_t8 (List.mem_of_getElem? (i := 87) rfl), lw_t9 (List.mem_of_getElem? (i := 236) rfl), lw_t9 (List.mem_of_getElem? (i := 237) rfl)⟩
theorem lw_p85 : lw_okq (⟨"HeldCoatsModel", "whyLend", "(II)I"⟩, 49) := ⟨⟨by decide +kernel, by decide +kernel⟩, lw_t8 (List.mem_of_getElem? (i := 87) rfl), lw_t10 (List.mem_of_getElem? (i := 4) rfl), lw_t10 (List.mem_of_getElem? (i := 5) rfl)⟩
theorem lw_p86 : lw_okq (⟨"HeldCoatsModel", "keeps", "(I)V"⟩, 49) := ⟨⟨by decide +kernel, by decide +kernel⟩, lw_t8 (List.mem_of_getElem? (i := 87) rfl), lw_t10 (List.mem_of_getElem? (i := 12) rfl), lw_t10 (List.mem_of_getElem? (i := 13) rfl)⟩
theorem lw_p87 : lw_okq (⟨"HeldCoatsModel", "goesOn", "(I)I"⟩, 49) := ⟨⟨by decide +kernel, by decide +kernel⟩, lw_t8 (List.mem_of_getElem? (i := 87) rfl), lw_t10 (List.mem_of_getElem? (i := 20) rfl), lw_t10 (List.mem_of_getElem? (i := 21) rfl)⟩
theorem lw_p88 : lw_okq (⟨"HeldCoatsModel", "day", "()V"⟩, 49) := ⟨⟨by decide +kernel, by decide +kernel⟩, lw_t8 (List.mem_of_getElem? (i := 87) rfl), lw_t10 (List.mem_of_getElem? (i := 24) rfl), lw_t10 (List.mem_of_getElem? (i := 25) rfl)⟩
theorem lw_p89 : lw_okq (⟨"HeldCoatsModel", "lying", "(I)V"⟩, 49) := ⟨⟨by decide +kernel, by decide +kernel⟩, lw_t8 (List.mem_of_getElem? (i := 87) rfl), lw_t10 (List.mem_of_getElem? (i := 28) rfl), lw_t10 (List.mem_of_getElem? (i := 29) rfl)⟩
theorem lw_p90 : lw_okq (⟨"HeldCoatsModel", "worthOf", "(I)I"⟩, 49) := ⟨⟨by decide +kernel, by decide +kernel⟩, lw_t8 (List.mem_of_getElem? (i := 87) rfl), lw_t10 (List.mem_of_getElem? (i := 43) rfl), lw_t10 (List.mem_of_getElem? (i := 44) rfl)⟩
theorem lw_p91 : lw_okq (⟨"HeldCoatsModel", "harmIn", "(III)I"⟩, 49) := ⟨⟨by decide +kernel, by decide +kernel⟩, lw_t8 (List.mem_of_getElem? (i := 87) rfl), lw_t10 (List.mem_of_getElem? (i := 55) rfl), lw_t10 (List.mem_of_getElem? (i := 56) rfl)⟩
theorem lw_p92 : lw_okq (⟨"HeldCoatsModel", "aheadOf", "(I)I"⟩, 49) := ⟨⟨by decide +kernel, by decide +kernel⟩, lw_t8 (List.mem_of_getElem? (i := 87) rfl), lw_t10 (List.mem_of_getElem? (i := 67) rfl), lw_t10 (List.mem_of_getElem? (i := 68) rfl)⟩
theorem lw_p93 : lw_okq (⟨"HeldCoatsModel", "areTwo", "(II)Z"⟩, 49) := ⟨⟨by decide +kernel, by decide +kernel⟩, lw_t8 (List.mem_of_getElem? (i := 87) rfl), lw_t10 (List.mem_of_getElem? (i := 83) rfl), lw_t10 (List.mem_of_getElem? (i := 84) rfl)⟩
theorem lw_p94 : lw_okq (⟨"HeldCoatsModel", "frostOf", "(II)I"⟩, 49) := ⟨⟨by decide +kernel, by decide +kernel⟩, lw_t8 (List.mem_of_getElem? (i := 87) rfl), lw_t10 (List.mem_of_getElem? (i := 87) rfl), lw_t10 (List.mem_of_getElem? (i := 88) rfl)⟩
theorem lw_p95 : lw_okq (⟨"HeldCoatsModel", "tries", "()V"⟩, 49) := ⟨⟨by decide +kernel, by decide +kernel⟩, lw_t8 (List.mem_of_getElem? (i := 87) rfl), lw_t10 (List.mem_of_getElem? (i := 99) rfl), lw_t10 (List.mem_of_getElem? (i := 100) rfl)⟩
def lw_privs_6 : List (MethodName × Nat) := [(⟨"HeldCoatsModel", "keepsAll", "()V"⟩, 49), (⟨"HeldCoatsModel", "lays", "(II)V"⟩, 49), (⟨"HeldCoatsModel", "whyWear", "(II)I"⟩, 49), (⟨"HeldCoatsModel", "wears", "(II)V"⟩, 49), (⟨"HeldCoatsModel", "unqueues", "(I)V"⟩, 49), (⟨"HeldCoatsModel", "whyLend", "(II)I"⟩, 49), (⟨"HeldCoatsModel", "keeps", "(I)V"⟩, 49), (⟨"HeldCoatsModel", "goesOn", "(I)I"⟩, 49), (⟨"HeldCoatsModel", "day", "()V"⟩, 49), (⟨"HeldCoatsModel", "lying", "(I)V"⟩, 49), (⟨"HeldCoatsModel", "worthOf", "(I)I"⟩, 49), (⟨"HeldCoatsModel", "harmIn", "(III)I"⟩, 49), (⟨"HeldCoatsModel", "aheadOf", "(I)I"⟩, 49), (⟨"HeldCoatsModel", "areTwo", "(II)Z"⟩, 49), (⟨"HeldCoatsModel", "frostOf", "(II)I"⟩, 49), (⟨"HeldCoatsModel", "tries", "()V"⟩, 49)]
theorem lw_r6 : ∀ q ∈ lw_privs_6, lw_okq q := List.forall_mem_cons.mpr ⟨lw_p80, List.forall_mem_cons.mpr ⟨lw_p81, List.forall_mem_cons.mpr ⟨lw_p82, List.forall_mem_cons.mpr ⟨lw_p83, List.forall_mem_cons.mpr ⟨lw_p84, List.forall_mem_cons.mpr ⟨lw_p85, List.forall_mem_cons.mpr ⟨lw_p86, List.forall_mem_cons.mpr ⟨lw_p87, List.forall_mem_cons.mpr ⟨lw_p88, List.forall_mem_cons.mpr ⟨lw_p89, List.forall_mem_cons.mpr ⟨lw_p90, List.forall_mem_cons.mpr ⟨lw_p91, List.forall_mem_cons.mpr ⟨lw_p92, List.forall_mem_cons.mpr ⟨lw_p93, List.forall_mem_cons.mpr ⟨lw_p94, List.forall_mem_cons.mpr ⟨lw_p95, fun _ h => absurd h List.not_mem_nil⟩⟩⟩⟩⟩⟩⟩⟩⟩⟩⟩⟩⟩⟩⟩⟩
theorem lw_p96 : lw_okq (⟨"HeldCoatsModel", "back", "()V"⟩, 49) := ⟨⟨by decide +kernel, by decide +kernel⟩, lw_t8 (List.mem_of_getElem? (i := 87) rfl), lw_t10 (List.mem_of_getElem? (i := 103) rfl), lw_t10 (List.mem_of_getElem? (i := 104) rfl)⟩
theorem lw_p97 : lw_okq (⟨"HeldCoatsModel", "firstOf", "(I)I"⟩, 49) := ⟨⟨by decide +kernel, by decide +kernel⟩, lw_t8 (List.mem_of_getElem? (i := 87) rfl), lw_t10 (List.mem_of_getElem? (i := 111) rfl), lw_t10 (List.mem_of_getElem? (i := 112) rfl)⟩
theorem lw_p98 : lw_okq (⟨"HeldCoatsModel", "octet", "(I)I"⟩, 49) := ⟨⟨by decide +kernel, by decide +kernel⟩, lw_t8 (List.mem_of_getElem? (i := 87) rfl), lw_t10 (List.mem_of_getElem? (i := 127) rfl), lw_t10 (List.mem_of_getElem? (i := 128) rfl)⟩
theorem lw_p99 : lw_okq (⟨"HeldCoatsModel", "draws", "(II)I"⟩, 49) := ⟨⟨by decide +kernel, by decide +kernel⟩, lw_t8 (List.mem_of_getElem? (i := 87) rfl), lw_t10 (List.mem_of_getElem? (i := 151) rfl), lw_t10 (List.mem_of_getElem? (i := 152) rfl)⟩
theorem lw_p100 : lw_okq (⟨"HeldCoatsModel", "drawsCoat", "(I)V"⟩, 49) := ⟨⟨by decide +kernel, by decide +kernel⟩, lw_t8 (List.mem_of_getElem? (i := 87) rfl), lw_t10 (List.mem_of_getElem? (i := 155) rfl), lw_t10 (List.mem_of_getElem? (i := 156) rfl)⟩
theorem lw_p101 : lw_okq (⟨"HeldCoatsModel", "draw", "(I)I"⟩, 49) := ⟨⟨by decide +kernel, by decide +kernel⟩, lw_t8 (List.mem_of_getElem? (i := 87) rfl), lw_t10 (List.mem_of_getElem? (i := 159) rfl), lw_t10 (List.mem_of_getElem? (i := 160) rfl)⟩
theorem lw_p102 : lw_okq (⟨"HeldCoatsModel", "bookLine", "()Z"⟩, 49) := ⟨⟨by decide +kernel, by decide +kernel⟩, lw_t8 (List.mem_of_getElem? (i := 87) rfl), lw_t10 (List.mem_of_getElem? (i := 172) rfl), lw_t10 (List.mem_of_getElem? (i := 173) rfl)⟩
theorem lw_p103 : lw_okq (⟨"HeldCoatsModel", "does", "(III)I"⟩, 49) := ⟨⟨by decide +kernel, by decide +kernel⟩, lw_t8 (List.mem_of_getElem? (i := 87) rfl), lw_t10 (List.mem_of_getElem? (i := 176) rfl), lw_t10 (List.mem_of_getElem? (i := 177) rfl)⟩
theorem lw_p104 : lw_okq (⟨"HeldCoatsModel", "nots", "()V"⟩, 49) := ⟨⟨by decide +kernel, by decide +kernel⟩, lw_t8 (List.mem_of_getElem? (i := 87) rfl), lw_t10 (List.mem_of_getElem? (i := 188) rfl), lw_t10 (List.mem_of_getElem? (i := 189) rfl)⟩
theorem lw_p105 : lw_okq (⟨"HeldCoatsModel", "code", "(III)V"⟩, 49) := ⟨⟨by decide +kernel, by decide +kernel⟩, lw_t8 (List.mem_of_getElem? (i := 87) rfl), lw_t10 (List.mem_of_getElem? (i := 192) rfl), lw_t10 (List.mem_of_getElem? (i := 193) rfl)⟩
theorem lw_p106 : lw_okq (⟨"HeldCoatsModel", "joins", "(I)V"⟩, 49) := ⟨⟨by decide +kernel, by decide +kernel⟩, lw_t8 (List.mem_of_getElem? (i := 87) rfl), lw_t10 (List.mem_of_getElem? (i := 196) rfl), lw_t10 (List.mem_of_getElem? (i := 197) rfl)⟩
theorem lw_p107 : lw_okq (⟨"HeldCoatsModel", "behind", "()Z"⟩, 49) := ⟨⟨by decide +kernel, by decide +kernel⟩, lw_t8 (List.mem_of_getElem? (i := 87) rfl), lw_t10 (List.mem_of_getElem? (i := 200) rfl), lw_t10 (List.mem_of_getElem? (i := 201) rfl)⟩
theorem lw_p108 : lw_okq (⟨"HeldCoatsModel", "operand", "()Z"⟩, 49) := ⟨⟨by decide +kernel, by decide +kernel⟩, lw_t8 (List.mem_of_getElem? (i := 87) rfl), lw_t10 (List.mem_of_getElem? (i := 204) rfl), lw_t10 (List.mem_of_getElem? (i := 205) rfl)⟩
theorem lw_p109 : lw_okq (⟨"HeldCoatsModel", "leafOf", "()I"⟩, 49) := ⟨⟨by decide +kernel, by decide +kernel⟩, lw_t8 (List.mem_of_getElem? (i := 87) rfl), lw_t10 (List.mem_of_getElem? (i := 208) rfl), lw_t10 (List.mem_of_getElem? (i := 209) rfl)⟩
theorem lw_p110 : lw_okq (⟨"HeldCoatsModel", "isSaid", "(I)Z"⟩, 49) := ⟨⟨by decide +kernel, by decide +kernel⟩, lw_t8 (List.mem_of_getElem? (i := 87) rfl), lw_t10 (List.mem_of_getElem? (i := 216) rfl), lw_t10 (List.mem_of_getElem? (i := 217) rfl)⟩
theorem lw_p111 : lw_okq (⟨"HeldCoatsModel", "isLeaf", "(IIII)Z"⟩, 49) := ⟨⟨by decide +kernel, by decide +kernel⟩, lw_t8 (List.mem_of_getElem? (i := 87) rfl), lw_t10 (List.mem_of_getElem? (i := 220) rfl), lw_t10 (List.mem_of_getElem? (i := 221) rfl)⟩
def lw_privs_7 : List (MethodName × Nat) := [(⟨"HeldCoatsModel", "back", "()V"⟩, 49), (⟨"HeldCoatsModel", "firstOf", "(I)I"⟩, 49), (⟨"HeldCoatsModel", "octet", "(I)I"⟩, 49), (⟨"HeldCoatsModel", "draws", "(II)I"⟩, 49), (⟨"HeldCoatsModel", "drawsCoat", "(I)V"⟩, 49), (⟨"HeldCoatsModel", "draw", "(I)I"⟩, 49), (⟨"HeldCoatsModel", "bookLine", "()Z"⟩, 49), (⟨"HeldCoatsModel", "does", "(III)I"⟩, 49), (⟨"HeldCoatsModel", "nots", "()V"⟩, 49), (⟨"HeldCoatsModel", "code", "(III)V"⟩, 49), (⟨"HeldCoatsModel", "joins", "(I)V"⟩, 49), (⟨"HeldCoatsModel", "behind", "()Z"⟩, 49), (⟨"HeldCoatsModel", "operand", "()Z"⟩, 49), (⟨"HeldCoatsModel", "leafOf", "()I"⟩, 49), (⟨"HeldCoatsModel", "isSaid", "(I)Z"⟩, 49), (⟨"HeldCoatsModel", "isLeaf", "(IIII)Z"⟩, 49)]
theorem lw_r7 : ∀ q ∈ lw_privs_7, lw_okq q := List.forall_mem_cons.mpr ⟨lw_p96, List.forall_mem_cons.mpr ⟨lw_p97, List.forall_mem_cons.mpr ⟨lw_p98, List.forall_mem_cons.mpr ⟨lw_p99, List.forall_mem_cons.mpr ⟨lw_p100, List.forall_mem_cons.mpr ⟨lw_p101, List.forall_mem_cons.mpr ⟨lw_p102, List.forall_mem_cons.mpr ⟨lw_p103, List.forall_mem_cons.mpr ⟨lw_p104, List.forall_mem_cons.mpr ⟨lw_p105, List.forall_mem_cons.mpr ⟨lw_p106, List.forall_mem_cons.mpr ⟨lw_p107, List.forall_mem_cons.mpr ⟨lw_p108, List.forall_mem_cons.mpr ⟨lw_p109, List.forall_mem_cons.mpr ⟨lw_p110, List.forall_mem_cons.mpr ⟨lw_p111, fun _ h => absurd h List.not_mem_nil⟩⟩⟩⟩⟩⟩⟩⟩⟩⟩⟩⟩⟩⟩⟩⟩
def lw_privs : List (MethodName × Nat) := lw_privs_1 ++ (lw_privs_2 ++ (lw_privs_3 ++ (lw_privs_4 ++ (lw_privs_5 ++ (lw_privs_6 ++ (lw_privs_7))))))
def lw_tbl : List Cond := k2_sels lw_privs ++ tables_1
theorem lw_privs_ok : ∀ q ∈ lw_privs, lw_okq q := by
  show ∀ q ∈ lw_privs_1 ++ (lw_privs_2 ++ (lw_privs_3 ++ (lw_privs_4 ++ (lw_privs_5 ++ (lw_privs_6 ++ (lw_privs_7)))))), lw_okq q
  exact List.forall_mem_append.mpr ⟨lw_r1, List.forall_mem_append.mpr ⟨lw_r2, List.forall_mem_append.mpr ⟨lw_r3, List.forall_mem_append.mpr ⟨lw_r4, List.forall_mem_append.mpr ⟨lw_r5, List.forall_mem_append.mpr ⟨lw_r6, lw_r7⟩⟩⟩⟩⟩⟩
-- ===== ONE list of words for every method: the tables' words that hold all through a run =====
def lw_all : List Cond := lw_tbl.filter goodWord
/-- a word of the tables by its place: claim/WORDS.tsv -/
theorem lw_w {w : Cond} (i : Nat) (h : lw_tbl[i]? = some w) (g : goodWord w = true) : w ∈ lw_all := List.mem_filter.mpr ⟨List.mem_of_getElem? h, g⟩
theorem lw_all_tbl {w : Cond} (h : w ∈ lw_all) : w ∈ lw_tbl := (List.mem_filter.mp h).1
theorem lw_self : GoodIn lw_all lw_all := fun w h => ⟨h, good_of_word (List.mem_filter.mp h).2⟩
/-- a class's field words, by their places -/
theorem lw_in (ws : List Cond) (ps : List Nat) (hp : ws = ps.filterMap (fun i => lw_tbl[i]?)) (hg : ws.all goodWord = true) : ∀ w ∈ ws, w ∈ lw_all := by
  intro w h
  have h1 := List.all_eq_true.mp hg w h
  rw [hp] at h
  obtain ⟨i, -, hi⟩ := List.mem_filterMap.mp h
  exact lw_w i hi h1
/-- the words of a contract for the method y with code b, L locals, answer r -/
abbrev ws_ (y : MethodName) (b : ByteArray) (L : Nat) (r : Option FieldType) : List Cond := Cond.code y b L r :: lw_all
theorem lw_meth {y : MethodName} {b : ByteArray} {L : Nat} {r : Option FieldType} (h : Cond.code y b L r ∈ lw_all) : GoodIn lw_all (ws_ y b L r) := by
  intro w hw
  rcases List.mem_cons.mp hw with e | e
  · rw [e]
    exact lw_self _ h
  · exact lw_self _ e
theorem lw_app {a c : List Cond} (ha : ∀ w ∈ a, w ∈ lw_all) (hc : GoodIn lw_all c) : GoodIn lw_all (a ++ c) := by
  intro w hw
  rcases List.mem_append.mp hw with e | e
  · exact lw_self w (ha w e)
  · exact hc w e
/-- what a call through an object asks: cwV n hts (lw_V ..) -/
theorem lw_V {own : String} {idx : Nat} {C : String} {y : MethodName} {b : ByteArray} {L : Nat} {r : Option FieldType} (h1 : Cond.methodLink own idx y ∈ lw_all) (h2 : Cond.instanceMethod y ∈ lw_all) (h3 : Cond.selects C y y ∈ lw_all) (h4 : Cond.initialized C ∈ lw_all) (h5 : Cond.code y b L r ∈ lw_all) : GoodIn lw_all (wsV own idx C y (ws_ y b L r)) := by
  refine lw_app ?_ (lw_meth h5)
  intro w hw
  simp only [List.mem_cons, List.not_mem_nil, or_false] at hw
  rcases hw with e | e | e | e
  · rw [e]; exact h1
  · rw [e]; exact h2
  · rw [e]; exact h3
  · rw [e]; exact h4
/-- what a static call asks: va_cwS n hts (lw_S ..) -/
theorem lw_S {own : String} {idx : Nat} {y : MethodName} {b : ByteArray} {L : Nat} {r : Option FieldType} (h1 : Cond.methodLink own idx y ∈ lw_all) (h2 : Cond.static y ∈ lw_all) (h3 : Cond.initialized y.cls ∈ lw_all) (h4 : Cond.code y b L r ∈ lw_all) : GoodIn lw_all (va_wsS own idx y (ws_ y b L r)) := by
  refine lw_app ?_ (lw_meth h4)
  intro w hw
  simp only [List.mem_cons, List.not_mem_nil, or_false] at hw
  rcases hw with e | e | e
  · rw [e]; exact h1
  · rw [e]; exact h2
  · rw [e]; exact h3
/-- the words of a contract for a method WITH HANDLERS (hh: its table) -/
abbrev wsW_ (y : MethodName) (b : ByteArray) (L : Nat) (r : Option FieldType) (hh : List (Nat × Nat × Nat × Nat)) : List Cond := Cond.codeWith y b L r hh :: lw_all
theorem lw_methW {y : MethodName} {b : ByteArray} {L : Nat} {r : Option FieldType} {hh : List (Nat × Nat × Nat × Nat)} (h : Cond.codeWith y b L r hh ∈ lw_all) : GoodIn lw_all (wsW_ y b L r hh) := by
  intro w hw
  rcases List.mem_cons.mp hw with e | e
  · rw [e]
    exact lw_self _ h
  · exact lw_self _ e
/-- any list of words by their places (lw_in), good -/
theorem lw_good {ws : List Cond} (h : ∀ w ∈ ws, w ∈ lw_all) : GoodIn lw_all ws := fun w hw => lw_self w (h w hw)
/-- what a call of a method with handlers asks: vx_cwVW n hts (lw_VW ..), vx_cwSW n hts (lw_SW ..) -/
theorem lw_VW {own : String} {idx : Nat} {C : String} {y : MethodName} {b : ByteArray} {L : Nat} {r : Option FieldType} {hh : List (Nat × Nat × Nat × Nat)} (h1 : Cond.methodLink own idx y ∈ lw_all) (h2 : Cond.instanceMethod y ∈ lw_all) (h3 : Cond.selects C y y ∈ lw_all) (h4 : Cond.initialized C ∈ lw_all) (h5 : Cond.codeWith y b L r hh ∈ lw_all) : GoodIn lw_all (wsV own idx C y (wsW_ y b L r hh)) := by
  refine lw_app ?_ (lw_methW h5)
  intro w hw
  simp only [List.mem_cons, List.not_mem_nil, or_false] at hw
  rcases hw with e | e | e | e
  · rw [e]; exact h1
  · rw [e]; exact h2
  · rw [e]; exact h3
  · rw [e]; exact h4
theorem lw_SW {own : String} {idx : Nat} {y : MethodName} {b : ByteArray} {L : Nat} {r : Option FieldType} {hh : List (Nat × Nat × Nat × Nat)} (h1 : Cond.methodLink own idx y ∈ lw_all) (h2 : Cond.static y ∈ lw_all) (h3 : Cond.initialized y.cls ∈ lw_all) (h4 : Cond.codeWith y b L r hh ∈ lw_all) : GoodIn lw_all (va_wsS own idx y (wsW_ y b L r hh)) := by
  refine lw_app ?_ (lw_methW h4)
  intro w hw
  simp only [List.mem_cons, List.not_mem_nil, or_false] at hw
  rcases hw with e | e | e
  · rw [e]; exact h1
  · rw [e]; exact h2
  · rw [e]; exact h3
/-- a word by its place in its run of the tables -/
theorem lw_at {r : List Cond} (hr : ∀ w ∈ r, w ∈ lw_tbl) {w : Cond} (i : Nat) (h : r[i]? = some w) : w ∈ lw_tbl := hr w (List.mem_of_getElem? h)
theorem lw_g {w : Cond} (h : w ∈ lw_tbl) (g : goodWord w = true) : w ∈ lw_all := List.mem_filter.mpr ⟨h, g⟩
theorem lw_ms : ∀ w ∈ k2_sels lw_privs, w ∈ lw_tbl := fun w h => show w ∈ k2_sels lw_privs ++ tables_1 from List.mem_append_left _ h
theorem lw_m1 : ∀ w ∈ tables_1_1, w ∈ lw_tbl := fun w h => show w ∈ k2_sels lw_privs ++ tables_1 from List.mem_append_right (k2_sels lw_privs) (show w ∈ tables_1 from List.mem_append_left _ h)
theorem lw_m2 : ∀ w ∈ tables_1_2, w ∈ lw_tbl := fun w h => show w ∈ k2_sels lw_privs ++ tables_1 from List.mem_append_right (k2_sels lw_privs) (show w ∈ tables_1 from List.mem_append_right _ (List.mem_append_left _ h))
theorem lw_m3 : ∀ w ∈ tables_1_3, w ∈ lw_tbl := fun w h => show w ∈ k2_sels lw_privs ++ tables_1 from List.mem_append_right (k2_sels lw_privs) (show w ∈ tables_1 from List.mem_append_right _ (List.mem_append_right _ (List.mem_append_left _ h)))
theorem lw_m4 : ∀ w ∈ tables_1_4, w ∈ lw_tbl := fun w h => show w ∈ k2_sels lw_privs ++ tables_1 from List.mem_append_right (k2_sels lw_privs) (show w ∈ tables_1 from List.mem_append_right _ (List.mem_append_right _ (List.mem_append_right _ (List.mem_append_left _ h))))
theorem lw_m5 : ∀ w ∈ tables_1_5, w ∈ lw_tbl := fun w h => show w ∈ k2_sels lw_privs ++ tables_1 from List.mem_append_right (k2_sels lw_privs) (show w ∈ tables_1 from List.mem_append_right _ (List.mem_append_right _ (List.mem_append_right _ (List.mem_append_right _ (List.mem_append_left _ h)))))
theorem lw_m6 : ∀ w ∈ tables_1_6, w ∈ lw_tbl := fun w h => show w ∈ k2_sels lw_privs ++ tables_1 from List.mem_append_right (k2_sels lw_privs) (show w ∈ tables_1 from List.mem_append_right _ (List.mem_append_right _ (List.mem_append_right _ (List.mem_append_right _ (List.mem_append_right _ (List.mem_append_left _ h))))))
theorem lw_m7 : ∀ w ∈ tables_1_7, w ∈ lw_tbl := fun w h => show w ∈ k2_sels lw_privs ++ tables_1 from List.mem_append_right (k2_sels lw_privs) (show w ∈ tables_1 from List.mem_append_right _ (List.mem_append_right _ (List.mem_append_right _ (List.mem_append_right _ (List.mem_append_right _ (List.mem_append_right _ (List.mem_append_left _ h)))))))
theorem lw_m8 : ∀ w ∈ tables_1_8, w ∈ lw_tbl := fun w h => show w ∈ k2_sels lw_privs ++ tables_1 from List.mem_append_right (k2_sels lw_privs) (show w ∈ tables_1 from List.mem_append_right _ (List.mem_append_right _ (List.mem_append_right _ (List.mem_append_right _ (List.mem_append_right _ (List.mem_append_right _ (List.mem_append_right _ (List.mem_append_left _ h))))))))
theorem lw_m9 : ∀ w ∈ tables_1_9, w ∈ lw_tbl := fun w h => show w ∈ k2_sels lw_privs ++ tables_1 from List.mem_append_right (k2_sels lw_privs) (show w ∈ tables_1 from List.mem_append_right _ (List.mem_append_right _ (List.mem_append_right _ (List.mem_append_right _ (List.mem_append_right _ (List.mem_append_right _ (List.mem_append_right _ (List.mem_append_right _ (List.mem_append_left _ h)))))))))
theorem lw_m10 : ∀ w ∈ tables_1_10, w ∈ lw_tbl := fun w h => show w ∈ k2_sels lw_privs ++ tables_1 from List.mem_append_right (k2_sels lw_privs) (show w ∈ tables_1 from List.mem_append_right _ (List.mem_append_right _ (List.mem_append_right _ (List.mem_append_right _ (List.mem_append_right _ (List.mem_append_right _ (List.mem_append_right _ (List.mem_append_right _ (List.mem_append_right _ (List.mem_append_left _ h))))))))))
theorem lw_m11 : ∀ w ∈ tables_1_11, w ∈ lw_tbl := fun w h => show w ∈ k2_sels lw_privs ++ tables_1 from List.mem_append_right (k2_sels lw_privs) (show w ∈ tables_1 from List.mem_append_right _ (List.mem_append_right _ (List.mem_append_right _ (List.mem_append_right _ (List.mem_append_right _ (List.mem_append_right _ (List.mem_append_right _ (List.mem_append_right _ (List.mem_append_right _ (List.mem_append_right _ h))))))))))
theorem qs0 : (Cond.selects "HeldCoats" ⟨"HeldCoats", "come", "(I)V"⟩ ⟨"HeldCoats", "come", "(I)V"⟩) ∈ lw_all := lw_g (lw_at lw_ms 0 rfl) rfl
theorem qs1 : (Cond.selects "HeldCoats" ⟨"HeldCoats", "take", "()I"⟩ ⟨"HeldCoats", "take", "()I"⟩) ∈ lw_all := lw_g (lw_at lw_ms 1 rfl) rfl
theorem qs2 : (Cond.selects "HeldCoats$CapitalReader" ⟨"HeldCoats$CapitalReader", "line", "()V"⟩ ⟨"HeldCoats$CapitalReader", "line", "()V"⟩) ∈ lw_all := lw_g (lw_at lw_ms 2 rfl) rfl
theorem qs3 : (Cond.selects "HeldCoats$CapitalReader" ⟨"HeldCoats$CapitalReader", "told", "(Ljava/util/ArrayList;III)V"⟩ ⟨"HeldCoats$CapitalReader", "told", "(Ljava/util/ArrayList;III)V"⟩) ∈ lw_all := lw_g (lw_at lw_ms 3 rfl) rfl
theorem qs4 : (Cond.selects "HeldCoats$CapitalReader" ⟨"HeldCoats$CapitalReader", "first", "(II)V"⟩ ⟨"HeldCoats$CapitalReader", "first", "(II)V"⟩) ∈ lw_all := lw_g (lw_at lw_ms 4 rfl) rfl
theorem qs5 : (Cond.selects "java/lang/Throwable" ⟨"java/lang/Throwable", "fillInStackTrace", "(I)Ljava/lang/Throwable;"⟩ ⟨"java/lang/Throwable", "fillInStackTrace", "(I)Ljava/lang/Throwable;"⟩) ∈ lw_all := lw_g (lw_at lw_ms 5 rfl) rfl
theorem qs6 : (Cond.selects "HeldCoats$CapitalReader" ⟨"HeldCoats$CapitalReader", "fresh", "()Ljava/lang/String;"⟩ ⟨"HeldCoats$CapitalReader", "fresh", "()Ljava/lang/String;"⟩) ∈ lw_all := lw_g (lw_at lw_ms 6 rfl) rfl
theorem qs7 : (Cond.selects "java/util/ArrayList" ⟨"java/util/ArrayList", "add", "(Ljava/lang/Object;[Ljava/lang/Object;I)V"⟩ ⟨"java/util/ArrayList", "add", "(Ljava/lang/Object;[Ljava/lang/Object;I)V"⟩) ∈ lw_all := lw_g (lw_at lw_ms 7 rfl) rfl
theorem qs8 : (Cond.selects "java/util/ArrayList" ⟨"java/util/ArrayList", "grow", "()[Ljava/lang/Object;"⟩ ⟨"java/util/ArrayList", "grow", "()[Ljava/lang/Object;"⟩) ∈ lw_all := lw_g (lw_at lw_ms 8 rfl) rfl
theorem qs9 : (Cond.selects "java/util/ArrayList" ⟨"java/util/ArrayList", "grow", "(I)[Ljava/lang/Object;"⟩ ⟨"java/util/ArrayList", "grow", "(I)[Ljava/lang/Object;"⟩) ∈ lw_all := lw_g (lw_at lw_ms 9 rfl) rfl
theorem qs10 : (Cond.selects "HeldCoats$CapitalReader" ⟨"HeldCoats$CapitalReader", "coat", "()V"⟩ ⟨"HeldCoats$CapitalReader", "coat", "()V"⟩) ∈ lw_all := lw_g (lw_at lw_ms 10 rfl) rfl
theorem qs11 : (Cond.selects "HeldCoats$CapitalReader" ⟨"HeldCoats$CapitalReader", "cold", "()V"⟩ ⟨"HeldCoats$CapitalReader", "cold", "()V"⟩) ∈ lw_all := lw_g (lw_at lw_ms 11 rfl) rfl
theorem qs12 : (Cond.selects "HeldCoats$CapitalReader" ⟨"HeldCoats$CapitalReader", "once", "(III)I"⟩ ⟨"HeldCoats$CapitalReader", "once", "(III)I"⟩) ∈ lw_all := lw_g (lw_at lw_ms 12 rfl) rfl
theorem qs13 : (Cond.selects "HeldCoats$CapitalReader" ⟨"HeldCoats$CapitalReader", "limit", "()V"⟩ ⟨"HeldCoats$CapitalReader", "limit", "()V"⟩) ∈ lw_all := lw_g (lw_at lw_ms 13 rfl) rfl
theorem qs14 : (Cond.selects "HeldCoats" ⟨"HeldCoats", "isSeat", "(I)Z"⟩ ⟨"HeldCoats", "isSeat", "(I)Z"⟩) ∈ lw_all := lw_g (lw_at lw_ms 14 rfl) rfl
theorem qs15 : (Cond.selects "HeldCoats" ⟨"HeldCoats", "isCoat", "(I)Z"⟩ ⟨"HeldCoats", "isCoat", "(I)Z"⟩) ∈ lw_all := lw_g (lw_at lw_ms 15 rfl) rfl
theorem qs16 : (Cond.selects "HeldCoats" ⟨"HeldCoats", "does", "(LHeldCoats$Act;)I"⟩ ⟨"HeldCoats", "does", "(LHeldCoats$Act;)I"⟩) ∈ lw_all := lw_g (lw_at lw_ms 16 rfl) rfl
theorem qs17 : (Cond.selects "HeldCoats$Reign" ⟨"HeldCoats$Reign", "noon", "()V"⟩ ⟨"HeldCoats$Reign", "noon", "()V"⟩) ∈ lw_all := lw_g (lw_at lw_ms 17 rfl) rfl
theorem qs18 : (Cond.selects "HeldCoats$Reign" ⟨"HeldCoats$Reign", "lies", "(I)V"⟩ ⟨"HeldCoats$Reign", "lies", "(I)V"⟩) ∈ lw_all := lw_g (lw_at lw_ms 18 rfl) rfl
theorem qs19 : (Cond.selects "HeldCoats$Reign" ⟨"HeldCoats$Reign", "leaves", "(I)V"⟩ ⟨"HeldCoats$Reign", "leaves", "(I)V"⟩) ∈ lw_all := lw_g (lw_at lw_ms 19 rfl) rfl
theorem qs20 : (Cond.selects "HeldCoats" ⟨"HeldCoats", "snap", "()V"⟩ ⟨"HeldCoats", "snap", "()V"⟩) ∈ lw_all := lw_g (lw_at lw_ms 20 rfl) rfl
theorem qs21 : (Cond.selects "HeldCoats" ⟨"HeldCoats", "isMan", "(I)Z"⟩ ⟨"HeldCoats", "isMan", "(I)Z"⟩) ∈ lw_all := lw_g (lw_at lw_ms 21 rfl) rfl
theorem qs22 : (Cond.selects "HeldCoats" ⟨"HeldCoats", "worthOf", "(I)I"⟩ ⟨"HeldCoats", "worthOf", "(I)I"⟩) ∈ lw_all := lw_g (lw_at lw_ms 22 rfl) rfl
theorem qs23 : (Cond.selects "HeldCoats" ⟨"HeldCoats", "seats", "()I"⟩ ⟨"HeldCoats", "seats", "()I"⟩) ∈ lw_all := lw_g (lw_at lw_ms 23 rfl) rfl
theorem qs24 : (Cond.selects "HeldCoats" ⟨"HeldCoats", "areTwo", "(II)Z"⟩ ⟨"HeldCoats", "areTwo", "(II)Z"⟩) ∈ lw_all := lw_g (lw_at lw_ms 24 rfl) rfl
theorem qs25 : (Cond.selects "HeldCoats" ⟨"HeldCoats", "harmIn", "(IIZI)I"⟩ ⟨"HeldCoats", "harmIn", "(IIZI)I"⟩) ∈ lw_all := lw_g (lw_at lw_ms 25 rfl) rfl
theorem qs26 : (Cond.selects "HeldCoats" ⟨"HeldCoats", "coats", "()I"⟩ ⟨"HeldCoats", "coats", "()I"⟩) ∈ lw_all := lw_g (lw_at lw_ms 26 rfl) rfl
theorem qs27 : (Cond.selects "HeldCoats" ⟨"HeldCoats", "layFrost", "(II)Z"⟩ ⟨"HeldCoats", "layFrost", "(II)Z"⟩) ∈ lw_all := lw_g (lw_at lw_ms 27 rfl) rfl
theorem qs28 : (Cond.selects "HeldCoats" ⟨"HeldCoats", "firstDay", "(I)I"⟩ ⟨"HeldCoats", "firstDay", "(I)I"⟩) ∈ lw_all := lw_g (lw_at lw_ms 28 rfl) rfl
theorem qs29 : (Cond.selects "HeldCoats" ⟨"HeldCoats", "onTape", "(I)I"⟩ ⟨"HeldCoats", "onTape", "(I)I"⟩) ∈ lw_all := lw_g (lw_at lw_ms 29 rfl) rfl
theorem qs30 : (Cond.selects "HeldCoats" ⟨"HeldCoats", "men", "()I"⟩ ⟨"HeldCoats", "men", "()I"⟩) ∈ lw_all := lw_g (lw_at lw_ms 30 rfl) rfl
theorem qs31 : (Cond.selects "HeldCoats" ⟨"HeldCoats", "cold", "(I)I"⟩ ⟨"HeldCoats", "cold", "(I)I"⟩) ∈ lw_all := lw_g (lw_at lw_ms 31 rfl) rfl
theorem qs32 : (Cond.selects "HeldCoats$Reign" ⟨"HeldCoats$Reign", "acts", "(I)V"⟩ ⟨"HeldCoats$Reign", "acts", "(I)V"⟩) ∈ lw_all := lw_g (lw_at lw_ms 32 rfl) rfl
theorem qs33 : (Cond.selects "HeldCoats$Reign" ⟨"HeldCoats$Reign", "draw", "(I)I"⟩ ⟨"HeldCoats$Reign", "draw", "(I)I"⟩) ∈ lw_all := lw_g (lw_at lw_ms 33 rfl) rfl
theorem qs34 : (Cond.selects "HeldCoats$BookReader" ⟨"HeldCoats$BookReader", "act", "()LHeldCoats$Act;"⟩ ⟨"HeldCoats$BookReader", "act", "()LHeldCoats$Act;"⟩) ∈ lw_all := lw_g (lw_at lw_ms 34 rfl) rfl
theorem qs35 : (Cond.selects "HeldCoats$BookReader" ⟨"HeldCoats$BookReader", "wears", "(I)LHeldCoats$Act;"⟩ ⟨"HeldCoats$BookReader", "wears", "(I)LHeldCoats$Act;"⟩) ∈ lw_all := lw_g (lw_at lw_ms 35 rfl) rfl
theorem qs36 : (Cond.selects "HeldCoats$BookReader" ⟨"HeldCoats$BookReader", "of", "(I)LHeldCoats$Act;"⟩ ⟨"HeldCoats$BookReader", "of", "(I)LHeldCoats$Act;"⟩) ∈ lw_all := lw_g (lw_at lw_ms 36 rfl) rfl
theorem qs37 : (Cond.selects "HeldCoats" ⟨"HeldCoats", "lived", "(Ljava/util/ArrayList;Z)I"⟩ ⟨"HeldCoats", "lived", "(Ljava/util/ArrayList;Z)I"⟩) ∈ lw_all := lw_g (lw_at lw_ms 37 rfl) rfl
theorem qs38 : (Cond.selects "HeldCoats$SentenceReader" ⟨"HeldCoats$SentenceReader", "or", "()LHeldCoats$Cond;"⟩ ⟨"HeldCoats$SentenceReader", "or", "()LHeldCoats$Cond;"⟩) ∈ lw_all := lw_g (lw_at lw_ms 38 rfl) rfl
theorem qs39 : (Cond.selects "HeldCoats$SentenceReader" ⟨"HeldCoats$SentenceReader", "and", "()LHeldCoats$Cond;"⟩ ⟨"HeldCoats$SentenceReader", "and", "()LHeldCoats$Cond;"⟩) ∈ lw_all := lw_g (lw_at lw_ms 39 rfl) rfl
theorem qs40 : (Cond.selects "HeldCoats$SentenceReader" ⟨"HeldCoats$SentenceReader", "says", "()LHeldCoats$Cond;"⟩ ⟨"HeldCoats$SentenceReader", "says", "()LHeldCoats$Cond;"⟩) ∈ lw_all := lw_g (lw_at lw_ms 40 rfl) rfl
theorem qs41 : (Cond.selects "HeldCoats$SentenceReader" ⟨"HeldCoats$SentenceReader", "numbered", "()I"⟩ ⟨"HeldCoats$SentenceReader", "numbered", "()I"⟩) ∈ lw_all := lw_g (lw_at lw_ms 41 rfl) rfl
theorem qs42 : (Cond.selects "HeldCoats$SentenceReader" ⟨"HeldCoats$SentenceReader", "bracket", "()LHeldCoats$Cond;"⟩ ⟨"HeldCoats$SentenceReader", "bracket", "()LHeldCoats$Cond;"⟩) ∈ lw_all := lw_g (lw_at lw_ms 42 rfl) rfl
theorem qs43 : (Cond.selects "HeldCoats$SentenceReader" ⟨"HeldCoats$SentenceReader", "than", "(I)LHeldCoats$Cond;"⟩ ⟨"HeldCoats$SentenceReader", "than", "(I)LHeldCoats$Cond;"⟩) ∈ lw_all := lw_g (lw_at lw_ms 43 rfl) rfl
theorem qs44 : (Cond.selects "HeldCoatsModel" ⟨"HeldCoatsModel", "four", "(I)V"⟩ ⟨"HeldCoatsModel", "four", "(I)V"⟩) ∈ lw_all := lw_g (lw_at lw_ms 44 rfl) rfl
theorem qs45 : (Cond.selects "HeldCoatsModel" ⟨"HeldCoatsModel", "clears", "()V"⟩ ⟨"HeldCoatsModel", "clears", "()V"⟩) ∈ lw_all := lw_g (lw_at lw_ms 45 rfl) rfl
theorem qs46 : (Cond.selects "HeldCoatsModel" ⟨"HeldCoatsModel", "taken", "(I)V"⟩ ⟨"HeldCoatsModel", "taken", "(I)V"⟩) ∈ lw_all := lw_g (lw_at lw_ms 46 rfl) rfl
theorem qs47 : (Cond.selects "HeldCoatsModel" ⟨"HeldCoatsModel", "next", "()V"⟩ ⟨"HeldCoatsModel", "next", "()V"⟩) ∈ lw_all := lw_g (lw_at lw_ms 47 rfl) rfl
theorem qs48 : (Cond.selects "HeldCoatsModel" ⟨"HeldCoatsModel", "peek", "()I"⟩ ⟨"HeldCoatsModel", "peek", "()I"⟩) ∈ lw_all := lw_g (lw_at lw_ms 48 rfl) rfl
theorem qs49 : (Cond.selects "HeldCoatsModel" ⟨"HeldCoatsModel", "line", "()Z"⟩ ⟨"HeldCoatsModel", "line", "()Z"⟩) ∈ lw_all := lw_g (lw_at lw_ms 49 rfl) rfl
theorem qs50 : (Cond.selects "HeldCoatsModel" ⟨"HeldCoatsModel", "isWord", "(J)Z"⟩ ⟨"HeldCoatsModel", "isWord", "(J)Z"⟩) ∈ lw_all := lw_g (lw_at lw_ms 50 rfl) rfl
theorem qs51 : (Cond.selects "HeldCoatsModel" ⟨"HeldCoatsModel", "bad", "(I)Z"⟩ ⟨"HeldCoatsModel", "bad", "(I)Z"⟩) ∈ lw_all := lw_g (lw_at lw_ms 51 rfl) rfl
theorem qs52 : (Cond.selects "HeldCoatsModel" ⟨"HeldCoatsModel", "fresh", "(I)Z"⟩ ⟨"HeldCoatsModel", "fresh", "(I)Z"⟩) ∈ lw_all := lw_g (lw_at lw_ms 52 rfl) rfl
theorem qs53 : (Cond.selects "HeldCoatsModel" ⟨"HeldCoatsModel", "isName", "()Z"⟩ ⟨"HeldCoatsModel", "isName", "()Z"⟩) ∈ lw_all := lw_g (lw_at lw_ms 53 rfl) rfl
theorem qs54 : (Cond.selects "HeldCoatsModel" ⟨"HeldCoatsModel", "find", "(II)I"⟩ ⟨"HeldCoatsModel", "find", "(II)I"⟩) ∈ lw_all := lw_g (lw_at lw_ms 54 rfl) rfl
theorem qs55 : (Cond.selects "HeldCoatsModel" ⟨"HeldCoatsModel", "puts", "(III)Z"⟩ ⟨"HeldCoatsModel", "puts", "(III)Z"⟩) ∈ lw_all := lw_g (lw_at lw_ms 55 rfl) rfl
theorem qs56 : (Cond.selects "HeldCoatsModel" ⟨"HeldCoatsModel", "takes", "(II)Z"⟩ ⟨"HeldCoatsModel", "takes", "(II)Z"⟩) ∈ lw_all := lw_g (lw_at lw_ms 56 rfl) rfl
theorem qs57 : (Cond.selects "HeldCoatsModel" ⟨"HeldCoatsModel", "takesName", "(II)Z"⟩ ⟨"HeldCoatsModel", "takesName", "(II)Z"⟩) ∈ lw_all := lw_g (lw_at lw_ms 57 rfl) rfl
theorem qs58 : (Cond.selects "HeldCoatsModel" ⟨"HeldCoatsModel", "looksAt", "(II)Z"⟩ ⟨"HeldCoatsModel", "looksAt", "(II)Z"⟩) ∈ lw_all := lw_g (lw_at lw_ms 58 rfl) rfl
theorem qs59 : (Cond.selects "HeldCoatsModel" ⟨"HeldCoatsModel", "readCold", "()Z"⟩ ⟨"HeldCoatsModel", "readCold", "()Z"⟩) ∈ lw_all := lw_g (lw_at lw_ms 59 rfl) rfl
theorem qs60 : (Cond.selects "HeldCoatsModel" ⟨"HeldCoatsModel", "once", "(IIII)Z"⟩ ⟨"HeldCoatsModel", "once", "(IIII)Z"⟩) ∈ lw_all := lw_g (lw_at lw_ms 60 rfl) rfl
theorem qs61 : (Cond.selects "HeldCoatsModel" ⟨"HeldCoatsModel", "sign", "(I)Z"⟩ ⟨"HeldCoatsModel", "sign", "(I)Z"⟩) ∈ lw_all := lw_g (lw_at lw_ms 61 rfl) rfl
theorem qs62 : (Cond.selects "HeldCoatsModel" ⟨"HeldCoatsModel", "isSign", "(I)Z"⟩ ⟨"HeldCoatsModel", "isSign", "(I)Z"⟩) ∈ lw_all := lw_g (lw_at lw_ms 62 rfl) rfl
theorem qs63 : (Cond.selects "HeldCoatsModel" ⟨"HeldCoatsModel", "isSeat", "(I)Z"⟩ ⟨"HeldCoatsModel", "isSeat", "(I)Z"⟩) ∈ lw_all := lw_g (lw_at lw_ms 63 rfl) rfl
theorem qs64 : (Cond.selects "HeldCoatsModel" ⟨"HeldCoatsModel", "coatOn", "(I)I"⟩ ⟨"HeldCoatsModel", "coatOn", "(I)I"⟩) ∈ lw_all := lw_g (lw_at lw_ms 64 rfl) rfl
theorem qs65 : (Cond.selects "HeldCoatsModel" ⟨"HeldCoatsModel", "holder", "(I)I"⟩ ⟨"HeldCoatsModel", "holder", "(I)I"⟩) ∈ lw_all := lw_g (lw_at lw_ms 65 rfl) rfl
theorem qs66 : (Cond.selects "HeldCoatsModel" ⟨"HeldCoatsModel", "isSummer", "()Z"⟩ ⟨"HeldCoatsModel", "isSummer", "()Z"⟩) ∈ lw_all := lw_g (lw_at lw_ms 66 rfl) rfl
theorem qs67 : (Cond.selects "HeldCoatsModel" ⟨"HeldCoatsModel", "coldOn", "(I)I"⟩ ⟨"HeldCoatsModel", "coldOn", "(I)I"⟩) ∈ lw_all := lw_g (lw_at lw_ms 67 rfl) rfl
theorem qs68 : (Cond.selects "HeldCoatsModel" ⟨"HeldCoatsModel", "whoseOn", "(I)I"⟩ ⟨"HeldCoatsModel", "whoseOn", "(I)I"⟩) ∈ lw_all := lw_g (lw_at lw_ms 68 rfl) rfl
theorem qs69 : (Cond.selects "HeldCoatsModel" ⟨"HeldCoatsModel", "isMan", "(I)Z"⟩ ⟨"HeldCoatsModel", "isMan", "(I)Z"⟩) ∈ lw_all := lw_g (lw_at lw_ms 69 rfl) rfl
theorem qs70 : (Cond.selects "HeldCoatsModel" ⟨"HeldCoatsModel", "throwsIf", "(Z)Z"⟩ ⟨"HeldCoatsModel", "throwsIf", "(Z)Z"⟩) ∈ lw_all := lw_g (lw_at lw_ms 70 rfl) rfl
theorem qs71 : (Cond.selects "HeldCoatsModel" ⟨"HeldCoatsModel", "chill", "(I)I"⟩ ⟨"HeldCoatsModel", "chill", "(I)I"⟩) ∈ lw_all := lw_g (lw_at lw_ms 71 rfl) rfl
theorem qs72 : (Cond.selects "HeldCoatsModel" ⟨"HeldCoatsModel", "coatsAt", "(I)I"⟩ ⟨"HeldCoatsModel", "coatsAt", "(I)I"⟩) ∈ lw_all := lw_g (lw_at lw_ms 72 rfl) rfl
theorem qs73 : (Cond.selects "HeldCoatsModel" ⟨"HeldCoatsModel", "chillIn", "(III)I"⟩ ⟨"HeldCoatsModel", "chillIn", "(III)I"⟩) ∈ lw_all := lw_g (lw_at lw_ms 73 rfl) rfl
theorem qs74 : (Cond.selects "HeldCoatsModel" ⟨"HeldCoatsModel", "warmth", "(I)I"⟩ ⟨"HeldCoatsModel", "warmth", "(I)I"⟩) ∈ lw_all := lw_g (lw_at lw_ms 74 rfl) rfl
theorem qs75 : (Cond.selects "HeldCoatsModel" ⟨"HeldCoatsModel", "isCoat", "(I)Z"⟩ ⟨"HeldCoatsModel", "isCoat", "(I)Z"⟩) ∈ lw_all := lw_g (lw_at lw_ms 75 rfl) rfl
theorem qs76 : (Cond.selects "HeldCoatsModel" ⟨"HeldCoatsModel", "ruler", "()I"⟩ ⟨"HeldCoatsModel", "ruler", "()I"⟩) ∈ lw_all := lw_g (lw_at lw_ms 76 rfl) rfl
theorem qs77 : (Cond.selects "HeldCoatsModel" ⟨"HeldCoatsModel", "rulerBy", "(Z)I"⟩ ⟨"HeldCoatsModel", "rulerBy", "(Z)I"⟩) ∈ lw_all := lw_g (lw_at lw_ms 77 rfl) rfl
theorem qs78 : (Cond.selects "HeldCoatsModel" ⟨"HeldCoatsModel", "whyLay", "(II)I"⟩ ⟨"HeldCoatsModel", "whyLay", "(II)I"⟩) ∈ lw_all := lw_g (lw_at lw_ms 78 rfl) rfl
theorem qs79 : (Cond.selects "HeldCoatsModel" ⟨"HeldCoatsModel", "isWorn", "(I)Z"⟩ ⟨"HeldCoatsModel", "isWorn", "(I)Z"⟩) ∈ lw_all := lw_g (lw_at lw_ms 79 rfl) rfl
theorem qs80 : (Cond.selects "HeldCoatsModel" ⟨"HeldCoatsModel", "keepsAll", "()V"⟩ ⟨"HeldCoatsModel", "keepsAll", "()V"⟩) ∈ lw_all := lw_g (lw_at lw_ms 80 rfl) rfl
theorem qs81 : (Cond.selects "HeldCoatsModel" ⟨"HeldCoatsModel", "lays", "(II)V"⟩ ⟨"HeldCoatsModel", "lays", "(II)V"⟩) ∈ lw_all := lw_g (lw_at lw_ms 81 rfl) rfl
theorem qs82 : (Cond.selects "HeldCoatsModel" ⟨"HeldCoatsModel", "whyWear", "(II)I"⟩ ⟨"HeldCoatsModel", "whyWear", "(II)I"⟩) ∈ lw_all := lw_g (lw_at lw_ms 82 rfl) rfl
theorem qs83 : (Cond.selects "HeldCoatsModel" ⟨"HeldCoatsModel", "wears", "(II)V"⟩ ⟨"HeldCoatsModel", "wears", "(II)V"⟩) ∈ lw_all := lw_g (lw_at lw_ms 83 rfl) rfl
theorem qs84 : (Cond.selects "HeldCoatsModel" ⟨"HeldCoatsModel", "unqueues", "(I)V"⟩ ⟨"HeldCoatsModel", "unqueues", "(I)V"⟩) ∈ lw_all := lw_g (lw_at lw_ms 84 rfl) rfl
theorem qs85 : (Cond.selects "HeldCoatsModel" ⟨"HeldCoatsModel", "whyLend", "(II)I"⟩ ⟨"HeldCoatsModel", "whyLend", "(II)I"⟩) ∈ lw_all := lw_g (lw_at lw_ms 85 rfl) rfl
theorem qs86 : (Cond.selects "HeldCoatsModel" ⟨"HeldCoatsModel", "keeps", "(I)V"⟩ ⟨"HeldCoatsModel", "keeps", "(I)V"⟩) ∈ lw_all := lw_g (lw_at lw_ms 86 rfl) rfl
theorem qs87 : (Cond.selects "HeldCoatsModel" ⟨"HeldCoatsModel", "goesOn", "(I)I"⟩ ⟨"HeldCoatsModel", "goesOn", "(I)I"⟩) ∈ lw_all := lw_g (lw_at lw_ms 87 rfl) rfl
theorem qs88 : (Cond.selects "HeldCoatsModel" ⟨"HeldCoatsModel", "day", "()V"⟩ ⟨"HeldCoatsModel", "day", "()V"⟩) ∈ lw_all := lw_g (lw_at lw_ms 88 rfl) rfl
theorem qs89 : (Cond.selects "HeldCoatsModel" ⟨"HeldCoatsModel", "lying", "(I)V"⟩ ⟨"HeldCoatsModel", "lying", "(I)V"⟩) ∈ lw_all := lw_g (lw_at lw_ms 89 rfl) rfl
theorem qs90 : (Cond.selects "HeldCoatsModel" ⟨"HeldCoatsModel", "worthOf", "(I)I"⟩ ⟨"HeldCoatsModel", "worthOf", "(I)I"⟩) ∈ lw_all := lw_g (lw_at lw_ms 90 rfl) rfl
theorem qs91 : (Cond.selects "HeldCoatsModel" ⟨"HeldCoatsModel", "harmIn", "(III)I"⟩ ⟨"HeldCoatsModel", "harmIn", "(III)I"⟩) ∈ lw_all := lw_g (lw_at lw_ms 91 rfl) rfl
theorem qs92 : (Cond.selects "HeldCoatsModel" ⟨"HeldCoatsModel", "aheadOf", "(I)I"⟩ ⟨"HeldCoatsModel", "aheadOf", "(I)I"⟩) ∈ lw_all := lw_g (lw_at lw_ms 92 rfl) rfl
theorem qs93 : (Cond.selects "HeldCoatsModel" ⟨"HeldCoatsModel", "areTwo", "(II)Z"⟩ ⟨"HeldCoatsModel", "areTwo", "(II)Z"⟩) ∈ lw_all := lw_g (lw_at lw_ms 93 rfl) rfl
theorem qs94 : (Cond.selects "HeldCoatsModel" ⟨"HeldCoatsModel", "frostOf", "(II)I"⟩ ⟨"HeldCoatsModel", "frostOf", "(II)I"⟩) ∈ lw_all := lw_g (lw_at lw_ms 94 rfl) rfl
theorem qs95 : (Cond.selects "HeldCoatsModel" ⟨"HeldCoatsModel", "tries", "()V"⟩ ⟨"HeldCoatsModel", "tries", "()V"⟩) ∈ lw_all := lw_g (lw_at lw_ms 95 rfl) rfl
theorem qs96 : (Cond.selects "HeldCoatsModel" ⟨"HeldCoatsModel", "back", "()V"⟩ ⟨"HeldCoatsModel", "back", "()V"⟩) ∈ lw_all := lw_g (lw_at lw_ms 96 rfl) rfl
theorem qs97 : (Cond.selects "HeldCoatsModel" ⟨"HeldCoatsModel", "firstOf", "(I)I"⟩ ⟨"HeldCoatsModel", "firstOf", "(I)I"⟩) ∈ lw_all := lw_g (lw_at lw_ms 97 rfl) rfl
theorem qs98 : (Cond.selects "HeldCoatsModel" ⟨"HeldCoatsModel", "octet", "(I)I"⟩ ⟨"HeldCoatsModel", "octet", "(I)I"⟩) ∈ lw_all := lw_g (lw_at lw_ms 98 rfl) rfl
theorem qs99 : (Cond.selects "HeldCoatsModel" ⟨"HeldCoatsModel", "draws", "(II)I"⟩ ⟨"HeldCoatsModel", "draws", "(II)I"⟩) ∈ lw_all := lw_g (lw_at lw_ms 99 rfl) rfl
theorem qs100 : (Cond.selects "HeldCoatsModel" ⟨"HeldCoatsModel", "drawsCoat", "(I)V"⟩ ⟨"HeldCoatsModel", "drawsCoat", "(I)V"⟩) ∈ lw_all := lw_g (lw_at lw_ms 100 rfl) rfl
theorem qs101 : (Cond.selects "HeldCoatsModel" ⟨"HeldCoatsModel", "draw", "(I)I"⟩ ⟨"HeldCoatsModel", "draw", "(I)I"⟩) ∈ lw_all := lw_g (lw_at lw_ms 101 rfl) rfl
theorem qs102 : (Cond.selects "HeldCoatsModel" ⟨"HeldCoatsModel", "bookLine", "()Z"⟩ ⟨"HeldCoatsModel", "bookLine", "()Z"⟩) ∈ lw_all := lw_g (lw_at lw_ms 102 rfl) rfl
theorem qs103 : (Cond.selects "HeldCoatsModel" ⟨"HeldCoatsModel", "does", "(III)I"⟩ ⟨"HeldCoatsModel", "does", "(III)I"⟩) ∈ lw_all := lw_g (lw_at lw_ms 103 rfl) rfl
theorem qs104 : (Cond.selects "HeldCoatsModel" ⟨"HeldCoatsModel", "nots", "()V"⟩ ⟨"HeldCoatsModel", "nots", "()V"⟩) ∈ lw_all := lw_g (lw_at lw_ms 104 rfl) rfl
theorem qs105 : (Cond.selects "HeldCoatsModel" ⟨"HeldCoatsModel", "code", "(III)V"⟩ ⟨"HeldCoatsModel", "code", "(III)V"⟩) ∈ lw_all := lw_g (lw_at lw_ms 105 rfl) rfl
theorem qs106 : (Cond.selects "HeldCoatsModel" ⟨"HeldCoatsModel", "joins", "(I)V"⟩ ⟨"HeldCoatsModel", "joins", "(I)V"⟩) ∈ lw_all := lw_g (lw_at lw_ms 106 rfl) rfl
theorem qs107 : (Cond.selects "HeldCoatsModel" ⟨"HeldCoatsModel", "behind", "()Z"⟩ ⟨"HeldCoatsModel", "behind", "()Z"⟩) ∈ lw_all := lw_g (lw_at lw_ms 107 rfl) rfl
theorem qs108 : (Cond.selects "HeldCoatsModel" ⟨"HeldCoatsModel", "operand", "()Z"⟩ ⟨"HeldCoatsModel", "operand", "()Z"⟩) ∈ lw_all := lw_g (lw_at lw_ms 108 rfl) rfl
theorem qs109 : (Cond.selects "HeldCoatsModel" ⟨"HeldCoatsModel", "leafOf", "()I"⟩ ⟨"HeldCoatsModel", "leafOf", "()I"⟩) ∈ lw_all := lw_g (lw_at lw_ms 109 rfl) rfl
theorem qs110 : (Cond.selects "HeldCoatsModel" ⟨"HeldCoatsModel", "isSaid", "(I)Z"⟩ ⟨"HeldCoatsModel", "isSaid", "(I)Z"⟩) ∈ lw_all := lw_g (lw_at lw_ms 110 rfl) rfl
theorem qs111 : (Cond.selects "HeldCoatsModel" ⟨"HeldCoatsModel", "isLeaf", "(IIII)Z"⟩ ⟨"HeldCoatsModel", "isLeaf", "(IIII)Z"⟩) ∈ lw_all := lw_g (lw_at lw_ms 111 rfl) rfl
