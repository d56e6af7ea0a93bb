-- ===== PART A: goes FIRST, ahead of the names: the tables' words, and 'selects' of the private methods out of them =====
/-- a private method of a class that the tables say can be made, by its rows of tables_1 -/
def lw_okq (q : MethodName × Nat) : Prop := (q.1.cls ≠ "java/lang/invoke/MethodHandle" ∧ q.1.cls ≠ "java/lang/invoke/VarHandle") ∧ Cond.instantiable q.1.cls q.2 ∈ tables_1 ∧ Cond.privateMethod q.1 ∈ tables_1 ∧ Cond.instanceMethod q.1 ∈ tables_1
set_option maxRecDepth 100000
theorem lw_t1 {w : Cond} (h : w ∈ tables_1_1) : w ∈ tables_1 := List.mem_append_left _ h
theorem lw_t2 {w : Cond} (h : w ∈ tables_1_2) : w ∈ tables_1 := List.mem_append_right _ (List.mem_append_left _ h)
theorem lw_t3 {w : Cond} (h : w ∈ tables_1_3) : w ∈ tables_1 := List.mem_append_right _ (List.mem_append_right _ (List.mem_append_left _ h))
theorem lw_t4 {w : Cond} (h : w ∈ tables_1_4) : w ∈ tables_1 := List.mem_append_right _ (List.mem_append_right _ (List.mem_append_right _ (List.mem_append_left _ h)))
theorem lw_t5 {w : Cond} (h : w ∈ tables_1_5) : w ∈ tables_1 := List.mem_append_right _ (List.mem_append_right _ (List.mem_append_right _ (List.mem_append_right _ (List.mem_append_left _ h))))
theorem lw_t6 {w : Cond} (h : w ∈ tables_1_6) : w ∈ tables_1 := List.mem_append_right _ (List.mem_append_right _ (List.mem_append_right _ (List.mem_append_right _ (List.mem_append_right _ (List.mem_append_left _ h)))))
theorem lw_t7 {w : Cond} (h : w ∈ tables_1_7) : w ∈ tables_1 := List.mem_append_right _ (List.mem_append_right _ (List.mem_append_right _ (List.mem_append_right _ (List.mem_append_right _ (List.mem_append_right _ (List.mem_append_left _ h))))))
theorem lw_t8 {w : Cond} (h : w ∈ tables_1_8) : w ∈ tables_1 := List.mem_append_right _ (List.mem_append_right _ (List.mem_append_right _ (List.mem_append_right _ (List.mem_append_right _ (List.mem_append_right _ (List.mem_append_right _ h))))))
theorem lw_p0 : lw_okq (⟨"NotationDesk", "forget", "()V"⟩, 12) := ⟨⟨by decide +kernel, by decide +kernel⟩, lw_t1 (List.mem_of_getElem? (i := 29) rfl), lw_t2 (List.mem_of_getElem? (i := 2) rfl), lw_t2 (List.mem_of_getElem? (i := 3) rfl)⟩
theorem lw_p1 : lw_okq (⟨"NotationDesk$Compiler", "isName", "()Z"⟩, 15) := ⟨⟨by decide +kernel, by decide +kernel⟩, lw_t1 (List.mem_of_getElem? (i := 37) rfl), lw_t2 (List.mem_of_getElem? (i := 25) rfl), lw_t2 (List.mem_of_getElem? (i := 26) rfl)⟩
theorem lw_p2 : lw_okq (⟨"NotationDesk$Compiler", "look", "()I"⟩, 15) := ⟨⟨by decide +kernel, by decide +kernel⟩, lw_t1 (List.mem_of_getElem? (i := 37) rfl), lw_t2 (List.mem_of_getElem? (i := 29) rfl), lw_t2 (List.mem_of_getElem? (i := 30) rfl)⟩
theorem lw_p3 : lw_okq (⟨"NotationDesk$Compiler", "wrong", "(II)Z"⟩, 15) := ⟨⟨by decide +kernel, by decide +kernel⟩, lw_t1 (List.mem_of_getElem? (i := 37) rfl), lw_t2 (List.mem_of_getElem? (i := 33) rfl), lw_t2 (List.mem_of_getElem? (i := 34) rfl)⟩
theorem lw_p4 : lw_okq (⟨"NotationDesk$Compiler", "expect", "(I)Z"⟩, 15) := ⟨⟨by decide +kernel, by decide +kernel⟩, lw_t1 (List.mem_of_getElem? (i := 37) rfl), lw_t2 (List.mem_of_getElem? (i := 37) rfl), lw_t2 (List.mem_of_getElem? (i := 38) rfl)⟩
theorem lw_p5 : lw_okq (⟨"NotationDesk$Compiler", "isTag", "()Z"⟩, 15) := ⟨⟨by decide +kernel, by decide +kernel⟩, lw_t1 (List.mem_of_getElem? (i := 37) rfl), lw_t2 (List.mem_of_getElem? (i := 44) rfl), lw_t2 (List.mem_of_getElem? (i := 45) rfl)⟩
theorem lw_p6 : lw_okq (⟨"NotationDesk$Compiler", "named", "(I)LNotationDesk$Type;"⟩, 15) := ⟨⟨by decide +kernel, by decide +kernel⟩, lw_t1 (List.mem_of_getElem? (i := 37) rfl), lw_t2 (List.mem_of_getElem? (i := 54) rfl), lw_t2 (List.mem_of_getElem? (i := 55) rfl)⟩
theorem lw_p7 : lw_okq (⟨"NotationDesk$Compiler", "noType", "(II)LNotationDesk$Type;"⟩, 15) := ⟨⟨by decide +kernel, by decide +kernel⟩, lw_t1 (List.mem_of_getElem? (i := 37) rfl), lw_t2 (List.mem_of_getElem? (i := 58) rfl), lw_t2 (List.mem_of_getElem? (i := 59) rfl)⟩
theorem lw_p8 : lw_okq (⟨"NotationDesk$Compiler", "numeric", "(I)LNotationDesk$Numeric;"⟩, 15) := ⟨⟨by decide +kernel, by decide +kernel⟩, lw_t1 (List.mem_of_getElem? (i := 37) rfl), lw_t2 (List.mem_of_getElem? (i := 85) rfl), lw_t2 (List.mem_of_getElem? (i := 86) rfl)⟩
theorem lw_p9 : lw_okq (⟨"NotationDesk$Compiler", "integer", "(I)LNotationDesk$Type;"⟩, 15) := ⟨⟨by decide +kernel, by decide +kernel⟩, lw_t1 (List.mem_of_getElem? (i := 37) rfl), lw_t2 (List.mem_of_getElem? (i := 126) rfl), lw_t2 (List.mem_of_getElem? (i := 127) rfl)⟩
theorem lw_p10 : lw_okq (⟨"NotationDesk$Compiler", "bounds", "()Z"⟩, 15) := ⟨⟨by decide +kernel, by decide +kernel⟩, lw_t1 (List.mem_of_getElem? (i := 37) rfl), lw_t2 (List.mem_of_getElem? (i := 130) rfl), lw_t2 (List.mem_of_getElem? (i := 131) rfl)⟩
theorem lw_p11 : lw_okq (⟨"NotationDesk$Compiler", "number", "()Z"⟩, 15) := ⟨⟨by decide +kernel, by decide +kernel⟩, lw_t1 (List.mem_of_getElem? (i := 37) rfl), lw_t2 (List.mem_of_getElem? (i := 134) rfl), lw_t2 (List.mem_of_getElem? (i := 135) rfl)⟩
theorem lw_p12 : lw_okq (⟨"NotationDesk$Compiler", "component", "(LNotationDesk$Sequence;LNotationDesk$Type;)Z"⟩, 15) := ⟨⟨by decide +kernel, by decide +kernel⟩, lw_t1 (List.mem_of_getElem? (i := 37) rfl), lw_t2 (List.mem_of_getElem? (i := 176) rfl), lw_t2 (List.mem_of_getElem? (i := 177) rfl)⟩
theorem lw_p13 : lw_okq (⟨"NotationDesk$Numeric", "isRight", "(I)Z"⟩, 5) := ⟨⟨by decide +kernel, by decide +kernel⟩, lw_t2 (List.mem_of_getElem? (i := 88) rfl), lw_t2 (List.mem_of_getElem? (i := 187) rfl), lw_t2 (List.mem_of_getElem? (i := 188) rfl)⟩
theorem lw_p14 : lw_okq (⟨"NotationDesk$Compiler", "another", "(I)Z"⟩, 15) := ⟨⟨by decide +kernel, by decide +kernel⟩, lw_t1 (List.mem_of_getElem? (i := 37) rfl), lw_t2 (List.mem_of_getElem? (i := 208) rfl), lw_t2 (List.mem_of_getElem? (i := 209) rfl)⟩
theorem lw_p15 : lw_okq (⟨"NotationDesk$Compiler", "octetsAt", "(I)LNotationDesk$Type;"⟩, 15) := ⟨⟨by decide +kernel, by decide +kernel⟩, lw_t1 (List.mem_of_getElem? (i := 37) rfl), lw_t3 (List.mem_of_getElem? (i := 16) rfl), lw_t3 (List.mem_of_getElem? (i := 17) rfl)⟩
def lw_privs_1 : List (MethodName × Nat) := [(⟨"NotationDesk", "forget", "()V"⟩, 12), (⟨"NotationDesk$Compiler", "isName", "()Z"⟩, 15), (⟨"NotationDesk$Compiler", "look", "()I"⟩, 15), (⟨"NotationDesk$Compiler", "wrong", "(II)Z"⟩, 15), (⟨"NotationDesk$Compiler", "expect", "(I)Z"⟩, 15), (⟨"NotationDesk$Compiler", "isTag", "()Z"⟩, 15), (⟨"NotationDesk$Compiler", "named", "(I)LNotationDesk$Type;"⟩, 15), (⟨"NotationDesk$Compiler", "noType", "(II)LNotationDesk$Type;"⟩, 15), (⟨"NotationDesk$Compiler", "numeric", "(I)LNotationDesk$Numeric;"⟩, 15), (⟨"NotationDesk$Compiler", "integer", "(I)LNotationDesk$Type;"⟩, 15), (⟨"NotationDesk$Compiler", "bounds", "()Z"⟩, 15), (⟨"NotationDesk$Compiler", "number", "()Z"⟩, 15), (⟨"NotationDesk$Compiler", "component", "(LNotationDesk$Sequence;LNotationDesk$Type;)Z"⟩, 15), (⟨"NotationDesk$Numeric", "isRight", "(I)Z"⟩, 5), (⟨"NotationDesk$Compiler", "another", "(I)Z"⟩, 15), (⟨"NotationDesk$Compiler", "octetsAt", "(I)LNotationDesk$Type;"⟩, 15)]
theorem lw_r1 : ∀ q ∈ lw_privs_1, lw_okq q := List.forall_mem_cons.mpr ⟨lw_p0, List.forall_mem_cons.mpr ⟨lw_p1, List.forall_mem_cons.mpr ⟨lw_p2, List.forall_mem_cons.mpr ⟨lw_p3, List.forall_mem_cons.mpr ⟨lw_p4, List.forall_mem_cons.mpr ⟨lw_p5, List.forall_mem_cons.mpr ⟨lw_p6, List.forall_mem_cons.mpr ⟨lw_p7, List.forall_mem_cons.mpr ⟨lw_p8, List.forall_mem_cons.mpr ⟨lw_p9, List.forall_mem_cons.mpr ⟨lw_p10, List.forall_mem_cons.mpr ⟨lw_p11, List.forall_mem_cons.mpr ⟨lw_p12, List.forall_mem_cons.mpr ⟨lw_p13, List.forall_mem_cons.mpr ⟨lw_p14, List.forall_mem_cons.mpr ⟨lw_p15, fun _ h => absurd h List.not_mem_nil⟩⟩⟩⟩⟩⟩⟩⟩⟩⟩⟩⟩⟩⟩⟩⟩
theorem lw_p16 : lw_okq (⟨"NotationDesk$Compiler", "bounded", "(LNotationDesk$Size;)Z"⟩, 15) := ⟨⟨by decide +kernel, by decide +kernel⟩, lw_t1 (List.mem_of_getElem? (i := 37) rfl), lw_t3 (List.mem_of_getElem? (i := 50) rfl), lw_t3 (List.mem_of_getElem? (i := 51) rfl)⟩
theorem lw_p17 : lw_okq (⟨"java/lang/Throwable", "fillInStackTrace", "(I)Ljava/lang/Throwable;"⟩, 6) := ⟨⟨by decide +kernel, by decide +kernel⟩, lw_t3 (List.mem_of_getElem? (i := 158) rfl), lw_t3 (List.mem_of_getElem? (i := 156) rfl), lw_t3 (List.mem_of_getElem? (i := 157) rfl)⟩
theorem lw_p18 : lw_okq (⟨"NotationDesk", "named", "(C)LNotationDesk$Type;"⟩, 12) := ⟨⟨by decide +kernel, by decide +kernel⟩, lw_t1 (List.mem_of_getElem? (i := 29) rfl), lw_t4 (List.mem_of_getElem? (i := 18) rfl), lw_t4 (List.mem_of_getElem? (i := 19) rfl)⟩
theorem lw_p19 : lw_okq (⟨"NotationDesk", "read", "(LNotationDesk$Type;II)LNotationDesk$Part;"⟩, 12) := ⟨⟨by decide +kernel, by decide +kernel⟩, lw_t1 (List.mem_of_getElem? (i := 29) rfl), lw_t4 (List.mem_of_getElem? (i := 52) rfl), lw_t4 (List.mem_of_getElem? (i := 53) rfl)⟩
theorem lw_p20 : lw_okq (⟨"NotationDesk$Choice", "rank", "(I)I"⟩, 2) := ⟨⟨by decide +kernel, by decide +kernel⟩, lw_t3 (List.mem_of_getElem? (i := 0) rfl), lw_t4 (List.mem_of_getElem? (i := 85) rfl), lw_t4 (List.mem_of_getElem? (i := 86) rfl)⟩
theorem lw_p21 : lw_okq (⟨"NotationDesk$Sequence", "add", "(LNotationDesk$Part;ILNotationDesk$Part;ZLNotationDesk$Store;)Z"⟩, 4) := ⟨⟨by decide +kernel, by decide +kernel⟩, lw_t2 (List.mem_of_getElem? (i := 141) rfl), lw_t4 (List.mem_of_getElem? (i := 209) rfl), lw_t4 (List.mem_of_getElem? (i := 210) rfl)⟩
theorem lw_p22 : lw_okq (⟨"NotationDesk", "write", "(LNotationDesk$Type;LNotationDesk$Part;I)V"⟩, 12) := ⟨⟨by decide +kernel, by decide +kernel⟩, lw_t1 (List.mem_of_getElem? (i := 29) rfl), lw_t5 (List.mem_of_getElem? (i := 61) rfl), lw_t5 (List.mem_of_getElem? (i := 62) rfl)⟩
theorem lw_p23 : lw_okq (⟨"NotationDesk$Sequence", "content", "(LNotationDesk$Part;)I"⟩, 4) := ⟨⟨by decide +kernel, by decide +kernel⟩, lw_t2 (List.mem_of_getElem? (i := 141) rfl), lw_t5 (List.mem_of_getElem? (i := 117) rfl), lw_t5 (List.mem_of_getElem? (i := 118) rfl)⟩
theorem lw_p24 : lw_okq (⟨"NotationDesk$Sequence", "isWritten", "(LNotationDesk$Part;I)Z"⟩, 4) := ⟨⟨by decide +kernel, by decide +kernel⟩, lw_t2 (List.mem_of_getElem? (i := 141) rfl), lw_t5 (List.mem_of_getElem? (i := 121) rfl), lw_t5 (List.mem_of_getElem? (i := 122) rfl)⟩
theorem lw_p25 : lw_okq (⟨"NotationDesk$Series", "content", "(LNotationDesk$Part;)I"⟩, 2) := ⟨⟨by decide +kernel, by decide +kernel⟩, lw_t3 (List.mem_of_getElem? (i := 60) rfl), lw_t5 (List.mem_of_getElem? (i := 146) rfl), lw_t5 (List.mem_of_getElem? (i := 147) rfl)⟩
theorem lw_p26 : lw_okq (⟨"NotationDesk", "keep", "(LNotationDesk$Part;)V"⟩, 12) := ⟨⟨by decide +kernel, by decide +kernel⟩, lw_t1 (List.mem_of_getElem? (i := 29) rfl), lw_t6 (List.mem_of_getElem? (i := 2) rfl), lw_t6 (List.mem_of_getElem? (i := 3) rfl)⟩
theorem lw_p27 : lw_okq (⟨"NotationDesk", "known", "(I)LNotationDesk$Part;"⟩, 12) := ⟨⟨by decide +kernel, by decide +kernel⟩, lw_t1 (List.mem_of_getElem? (i := 29) rfl), lw_t6 (List.mem_of_getElem? (i := 17) rfl), lw_t6 (List.mem_of_getElem? (i := 18) rfl)⟩
theorem lw_p28 : lw_okq (⟨"NotationDesk", "replies", "(III)I"⟩, 12) := ⟨⟨by decide +kernel, by decide +kernel⟩, lw_t1 (List.mem_of_getElem? (i := 29) rfl), lw_t6 (List.mem_of_getElem? (i := 42) rfl), lw_t6 (List.mem_of_getElem? (i := 43) rfl)⟩
theorem lw_p29 : lw_okq (⟨"NotationDeskModel", "leave", "()V"⟩, 59) := ⟨⟨by decide +kernel, by decide +kernel⟩, lw_t6 (List.mem_of_getElem? (i := 46) rfl), lw_t6 (List.mem_of_getElem? (i := 52) rfl), lw_t6 (List.mem_of_getElem? (i := 53) rfl)⟩
theorem lw_p30 : lw_okq (⟨"NotationDeskModel", "definition", "()V"⟩, 59) := ⟨⟨by decide +kernel, by decide +kernel⟩, lw_t6 (List.mem_of_getElem? (i := 46) rfl), lw_t7 (List.mem_of_getElem? (i := 10) rfl), lw_t7 (List.mem_of_getElem? (i := 11) rfl)⟩
theorem lw_p31 : lw_okq (⟨"NotationDeskModel", "look", "()I"⟩, 59) := ⟨⟨by decide +kernel, by decide +kernel⟩, lw_t6 (List.mem_of_getElem? (i := 46) rfl), lw_t7 (List.mem_of_getElem? (i := 14) rfl), lw_t7 (List.mem_of_getElem? (i := 15) rfl)⟩
def lw_privs_2 : List (MethodName × Nat) := [(⟨"NotationDesk$Compiler", "bounded", "(LNotationDesk$Size;)Z"⟩, 15), (⟨"java/lang/Throwable", "fillInStackTrace", "(I)Ljava/lang/Throwable;"⟩, 6), (⟨"NotationDesk", "named", "(C)LNotationDesk$Type;"⟩, 12), (⟨"NotationDesk", "read", "(LNotationDesk$Type;II)LNotationDesk$Part;"⟩, 12), (⟨"NotationDesk$Choice", "rank", "(I)I"⟩, 2), (⟨"NotationDesk$Sequence", "add", "(LNotationDesk$Part;ILNotationDesk$Part;ZLNotationDesk$Store;)Z"⟩, 4), (⟨"NotationDesk", "write", "(LNotationDesk$Type;LNotationDesk$Part;I)V"⟩, 12), (⟨"NotationDesk$Sequence", "content", "(LNotationDesk$Part;)I"⟩, 4), (⟨"NotationDesk$Sequence", "isWritten", "(LNotationDesk$Part;I)Z"⟩, 4), (⟨"NotationDesk$Series", "content", "(LNotationDesk$Part;)I"⟩, 2), (⟨"NotationDesk", "keep", "(LNotationDesk$Part;)V"⟩, 12), (⟨"NotationDesk", "known", "(I)LNotationDesk$Part;"⟩, 12), (⟨"NotationDesk", "replies", "(III)I"⟩, 12), (⟨"NotationDeskModel", "leave", "()V"⟩, 59), (⟨"NotationDeskModel", "definition", "()V"⟩, 59), (⟨"NotationDeskModel", "look", "()I"⟩, 59)]
theorem lw_r2 : ∀ q ∈ lw_privs_2, lw_okq q := List.forall_mem_cons.mpr ⟨lw_p16, List.forall_mem_cons.mpr ⟨lw_p17, List.forall_mem_cons.mpr ⟨lw_p18, List.forall_mem_cons.mpr ⟨lw_p19, List.forall_mem_cons.mpr ⟨lw_p20, List.forall_mem_cons.mpr ⟨lw_p21, List.forall_mem_cons.mpr ⟨lw_p22, List.forall_mem_cons.mpr ⟨lw_p23, List.forall_mem_cons.mpr ⟨lw_p24, List.forall_mem_cons.mpr ⟨lw_p25, List.forall_mem_cons.mpr ⟨lw_p26, List.forall_mem_cons.mpr ⟨lw_p27, List.forall_mem_cons.mpr ⟨lw_p28, List.forall_mem_cons.mpr ⟨lw_p29, List.forall_mem_cons.mpr ⟨lw_p30, List.forall_mem_cons.mpr ⟨lw_p31, fun _ h => absurd h List.not_mem_nil⟩⟩⟩⟩⟩⟩⟩⟩⟩⟩⟩⟩⟩⟩⟩⟩
theorem lw_p32 : lw_okq (⟨"NotationDeskModel", "stop", "(II)I"⟩, 59) := ⟨⟨by decide +kernel, by decide +kernel⟩, lw_t6 (List.mem_of_getElem? (i := 46) rfl), lw_t7 (List.mem_of_getElem? (i := 21) rfl), lw_t7 (List.mem_of_getElem? (i := 22) rfl)⟩
theorem lw_p33 : lw_okq (⟨"NotationDeskModel", "need", "(I)Z"⟩, 59) := ⟨⟨by decide +kernel, by decide +kernel⟩, lw_t6 (List.mem_of_getElem? (i := 46) rfl), lw_t7 (List.mem_of_getElem? (i := 25) rfl), lw_t7 (List.mem_of_getElem? (i := 26) rfl)⟩
theorem lw_p34 : lw_okq (⟨"NotationDeskModel", "whole", "()I"⟩, 59) := ⟨⟨by decide +kernel, by decide +kernel⟩, lw_t6 (List.mem_of_getElem? (i := 46) rfl), lw_t7 (List.mem_of_getElem? (i := 29) rfl), lw_t7 (List.mem_of_getElem? (i := 30) rfl)⟩
theorem lw_p35 : lw_okq (⟨"NotationDeskModel", "begin", "()I"⟩, 59) := ⟨⟨by decide +kernel, by decide +kernel⟩, lw_t6 (List.mem_of_getElem? (i := 46) rfl), lw_t7 (List.mem_of_getElem? (i := 33) rfl), lw_t7 (List.mem_of_getElem? (i := 34) rfl)⟩
theorem lw_p36 : lw_okq (⟨"NotationDeskModel", "tagged", "()I"⟩, 59) := ⟨⟨by decide +kernel, by decide +kernel⟩, lw_t6 (List.mem_of_getElem? (i := 46) rfl), lw_t7 (List.mem_of_getElem? (i := 37) rfl), lw_t7 (List.mem_of_getElem? (i := 38) rfl)⟩
theorem lw_p37 : lw_okq (⟨"NotationDeskModel", "add", "(I)I"⟩, 59) := ⟨⟨by decide +kernel, by decide +kernel⟩, lw_t6 (List.mem_of_getElem? (i := 46) rfl), lw_t7 (List.mem_of_getElem? (i := 41) rfl), lw_t7 (List.mem_of_getElem? (i := 42) rfl)⟩
theorem lw_p38 : lw_okq (⟨"NotationDeskModel", "push", "(I)I"⟩, 59) := ⟨⟨by decide +kernel, by decide +kernel⟩, lw_t6 (List.mem_of_getElem? (i := 46) rfl), lw_t7 (List.mem_of_getElem? (i := 45) rfl), lw_t7 (List.mem_of_getElem? (i := 46) rfl)⟩
theorem lw_p39 : lw_okq (⟨"NotationDeskModel", "named", "(I)I"⟩, 59) := ⟨⟨by decide +kernel, by decide +kernel⟩, lw_t6 (List.mem_of_getElem? (i := 46) rfl), lw_t7 (List.mem_of_getElem? (i := 49) rfl), lw_t7 (List.mem_of_getElem? (i := 50) rfl)⟩
theorem lw_p40 : lw_okq (⟨"NotationDeskModel", "ranged", "(IZ)V"⟩, 59) := ⟨⟨by decide +kernel, by decide +kernel⟩, lw_t6 (List.mem_of_getElem? (i := 46) rfl), lw_t7 (List.mem_of_getElem? (i := 53) rfl), lw_t7 (List.mem_of_getElem? (i := 54) rfl)⟩
theorem lw_p41 : lw_okq (⟨"NotationDeskModel", "numeral", "()Z"⟩, 59) := ⟨⟨by decide +kernel, by decide +kernel⟩, lw_t6 (List.mem_of_getElem? (i := 46) rfl), lw_t7 (List.mem_of_getElem? (i := 57) rfl), lw_t7 (List.mem_of_getElem? (i := 58) rfl)⟩
theorem lw_p42 : lw_okq (⟨"NotationDeskModel", "end", "(I)I"⟩, 59) := ⟨⟨by decide +kernel, by decide +kernel⟩, lw_t6 (List.mem_of_getElem? (i := 46) rfl), lw_t7 (List.mem_of_getElem? (i := 62) rfl), lw_t7 (List.mem_of_getElem? (i := 63) rfl)⟩
theorem lw_p43 : lw_okq (⟨"NotationDeskModel", "component", "(II)V"⟩, 59) := ⟨⟨by decide +kernel, by decide +kernel⟩, lw_t6 (List.mem_of_getElem? (i := 46) rfl), lw_t7 (List.mem_of_getElem? (i := 66) rfl), lw_t7 (List.mem_of_getElem? (i := 67) rfl)⟩
theorem lw_p44 : lw_okq (⟨"NotationDeskModel", "unwrap", "(I)V"⟩, 59) := ⟨⟨by decide +kernel, by decide +kernel⟩, lw_t6 (List.mem_of_getElem? (i := 46) rfl), lw_t7 (List.mem_of_getElem? (i := 70) rfl), lw_t7 (List.mem_of_getElem? (i := 71) rfl)⟩
theorem lw_p45 : lw_okq (⟨"NotationDeskModel", "clashes", "(I)Z"⟩, 59) := ⟨⟨by decide +kernel, by decide +kernel⟩, lw_t6 (List.mem_of_getElem? (i := 46) rfl), lw_t7 (List.mem_of_getElem? (i := 74) rfl), lw_t7 (List.mem_of_getElem? (i := 75) rfl)⟩
theorem lw_p46 : lw_okq (⟨"NotationDeskModel", "asked", "(ZC)I"⟩, 59) := ⟨⟨by decide +kernel, by decide +kernel⟩, lw_t6 (List.mem_of_getElem? (i := 46) rfl), lw_t7 (List.mem_of_getElem? (i := 95) rfl), lw_t7 (List.mem_of_getElem? (i := 96) rfl)⟩
theorem lw_p47 : lw_okq (⟨"NotationDeskModel", "typeOf", "(C)I"⟩, 59) := ⟨⟨by decide +kernel, by decide +kernel⟩, lw_t6 (List.mem_of_getElem? (i := 46) rfl), lw_t7 (List.mem_of_getElem? (i := 99) rfl), lw_t7 (List.mem_of_getElem? (i := 100) rfl)⟩
def lw_privs_3 : List (MethodName × Nat) := [(⟨"NotationDeskModel", "stop", "(II)I"⟩, 59), (⟨"NotationDeskModel", "need", "(I)Z"⟩, 59), (⟨"NotationDeskModel", "whole", "()I"⟩, 59), (⟨"NotationDeskModel", "begin", "()I"⟩, 59), (⟨"NotationDeskModel", "tagged", "()I"⟩, 59), (⟨"NotationDeskModel", "add", "(I)I"⟩, 59), (⟨"NotationDeskModel", "push", "(I)I"⟩, 59), (⟨"NotationDeskModel", "named", "(I)I"⟩, 59), (⟨"NotationDeskModel", "ranged", "(IZ)V"⟩, 59), (⟨"NotationDeskModel", "numeral", "()Z"⟩, 59), (⟨"NotationDeskModel", "end", "(I)I"⟩, 59), (⟨"NotationDeskModel", "component", "(II)V"⟩, 59), (⟨"NotationDeskModel", "unwrap", "(I)V"⟩, 59), (⟨"NotationDeskModel", "clashes", "(I)Z"⟩, 59), (⟨"NotationDeskModel", "asked", "(ZC)I"⟩, 59), (⟨"NotationDeskModel", "typeOf", "(C)I"⟩, 59)]
theorem lw_r3 : ∀ q ∈ lw_privs_3, lw_okq q := List.forall_mem_cons.mpr ⟨lw_p32, List.forall_mem_cons.mpr ⟨lw_p33, List.forall_mem_cons.mpr ⟨lw_p34, List.forall_mem_cons.mpr ⟨lw_p35, List.forall_mem_cons.mpr ⟨lw_p36, List.forall_mem_cons.mpr ⟨lw_p37, List.forall_mem_cons.mpr ⟨lw_p38, List.forall_mem_cons.mpr ⟨lw_p39, List.forall_mem_cons.mpr ⟨lw_p40, List.forall_mem_cons.mpr ⟨lw_p41, List.forall_mem_cons.mpr ⟨lw_p42, List.forall_mem_cons.mpr ⟨lw_p43, List.forall_mem_cons.mpr ⟨lw_p44, List.forall_mem_cons.mpr ⟨lw_p45, List.forall_mem_cons.mpr ⟨lw_p46, List.forall_mem_cons.mpr ⟨lw_p47, fun _ h => absurd h List.not_mem_nil⟩⟩⟩⟩⟩⟩⟩⟩⟩⟩⟩⟩⟩⟩⟩⟩
theorem lw_p48 : lw_okq (⟨"NotationDeskModel", "load", "(I)V"⟩, 59) := ⟨⟨by decide +kernel, by decide +kernel⟩, lw_t6 (List.mem_of_getElem? (i := 46) rfl), lw_t7 (List.mem_of_getElem? (i := 103) rfl), lw_t7 (List.mem_of_getElem? (i := 104) rfl)⟩
theorem lw_p49 : lw_okq (⟨"NotationDeskModel", "isValue", "(II)Z"⟩, 59) := ⟨⟨by decide +kernel, by decide +kernel⟩, lw_t6 (List.mem_of_getElem? (i := 46) rfl), lw_t7 (List.mem_of_getElem? (i := 107) rfl), lw_t7 (List.mem_of_getElem? (i := 108) rfl)⟩
theorem lw_p50 : lw_okq (⟨"NotationDeskModel", "element", "(III)V"⟩, 59) := ⟨⟨by decide +kernel, by decide +kernel⟩, lw_t6 (List.mem_of_getElem? (i := 46) rfl), lw_t7 (List.mem_of_getElem? (i := 111) rfl), lw_t7 (List.mem_of_getElem? (i := 112) rfl)⟩
theorem lw_p51 : lw_okq (⟨"NotationDeskModel", "next", "()I"⟩, 59) := ⟨⟨by decide +kernel, by decide +kernel⟩, lw_t6 (List.mem_of_getElem? (i := 46) rfl), lw_t7 (List.mem_of_getElem? (i := 115) rfl), lw_t7 (List.mem_of_getElem? (i := 116) rfl)⟩
theorem lw_p52 : lw_okq (⟨"NotationDeskModel", "bound", "()I"⟩, 59) := ⟨⟨by decide +kernel, by decide +kernel⟩, lw_t6 (List.mem_of_getElem? (i := 46) rfl), lw_t7 (List.mem_of_getElem? (i := 119) rfl), lw_t7 (List.mem_of_getElem? (i := 120) rfl)⟩
theorem lw_p53 : lw_okq (⟨"NotationDeskModel", "enter", "(I)V"⟩, 59) := ⟨⟨by decide +kernel, by decide +kernel⟩, lw_t6 (List.mem_of_getElem? (i := 46) rfl), lw_t7 (List.mem_of_getElem? (i := 123) rfl), lw_t7 (List.mem_of_getElem? (i := 124) rfl)⟩
theorem lw_p54 : lw_okq (⟨"NotationDeskModel", "length", "(Z)I"⟩, 59) := ⟨⟨by decide +kernel, by decide +kernel⟩, lw_t6 (List.mem_of_getElem? (i := 46) rfl), lw_t7 (List.mem_of_getElem? (i := 127) rfl), lw_t7 (List.mem_of_getElem? (i := 128) rfl)⟩
theorem lw_p55 : lw_okq (⟨"NotationDeskModel", "frame", "(IIZ)V"⟩, 59) := ⟨⟨by decide +kernel, by decide +kernel⟩, lw_t6 (List.mem_of_getElem? (i := 46) rfl), lw_t7 (List.mem_of_getElem? (i := 131) rfl), lw_t7 (List.mem_of_getElem? (i := 132) rfl)⟩
theorem lw_p56 : lw_okq (⟨"NotationDeskModel", "adds", "(IIII)I"⟩, 59) := ⟨⟨by decide +kernel, by decide +kernel⟩, lw_t6 (List.mem_of_getElem? (i := 46) rfl), lw_t7 (List.mem_of_getElem? (i := 138) rfl), lw_t7 (List.mem_of_getElem? (i := 139) rfl)⟩
theorem lw_p57 : lw_okq (⟨"NotationDeskModel", "inner", "(III)V"⟩, 59) := ⟨⟨by decide +kernel, by decide +kernel⟩, lw_t6 (List.mem_of_getElem? (i := 46) rfl), lw_t7 (List.mem_of_getElem? (i := 142) rfl), lw_t7 (List.mem_of_getElem? (i := 143) rfl)⟩
theorem lw_p58 : lw_okq (⟨"NotationDeskModel", "want", "(III)V"⟩, 59) := ⟨⟨by decide +kernel, by decide +kernel⟩, lw_t6 (List.mem_of_getElem? (i := 46) rfl), lw_t7 (List.mem_of_getElem? (i := 151) rfl), lw_t7 (List.mem_of_getElem? (i := 152) rfl)⟩
theorem lw_p59 : lw_okq (⟨"NotationDeskModel", "ranging", "(II)I"⟩, 59) := ⟨⟨by decide +kernel, by decide +kernel⟩, lw_t6 (List.mem_of_getElem? (i := 46) rfl), lw_t7 (List.mem_of_getElem? (i := 155) rfl), lw_t7 (List.mem_of_getElem? (i := 156) rfl)⟩
theorem lw_p60 : lw_okq (⟨"NotationDeskModel", "align", "()V"⟩, 59) := ⟨⟨by decide +kernel, by decide +kernel⟩, lw_t6 (List.mem_of_getElem? (i := 46) rfl), lw_t7 (List.mem_of_getElem? (i := 159) rfl), lw_t7 (List.mem_of_getElem? (i := 160) rfl)⟩
theorem lw_p61 : lw_okq (⟨"NotationDeskModel", "some", "(I)I"⟩, 59) := ⟨⟨by decide +kernel, by decide +kernel⟩, lw_t6 (List.mem_of_getElem? (i := 46) rfl), lw_t7 (List.mem_of_getElem? (i := 166) rfl), lw_t7 (List.mem_of_getElem? (i := 167) rfl)⟩
theorem lw_p62 : lw_okq (⟨"NotationDeskModel", "bit", "()I"⟩, 59) := ⟨⟨by decide +kernel, by decide +kernel⟩, lw_t6 (List.mem_of_getElem? (i := 46) rfl), lw_t7 (List.mem_of_getElem? (i := 170) rfl), lw_t7 (List.mem_of_getElem? (i := 171) rfl)⟩
theorem lw_p63 : lw_okq (⟨"NotationDeskModel", "rank", "(II)I"⟩, 59) := ⟨⟨by decide +kernel, by decide +kernel⟩, lw_t6 (List.mem_of_getElem? (i := 46) rfl), lw_t7 (List.mem_of_getElem? (i := 174) rfl), lw_t7 (List.mem_of_getElem? (i := 175) rfl)⟩
def lw_privs_4 : List (MethodName × Nat) := [(⟨"NotationDeskModel", "load", "(I)V"⟩, 59), (⟨"NotationDeskModel", "isValue", "(II)Z"⟩, 59), (⟨"NotationDeskModel", "element", "(III)V"⟩, 59), (⟨"NotationDeskModel", "next", "()I"⟩, 59), (⟨"NotationDeskModel", "bound", "()I"⟩, 59), (⟨"NotationDeskModel", "enter", "(I)V"⟩, 59), (⟨"NotationDeskModel", "length", "(Z)I"⟩, 59), (⟨"NotationDeskModel", "frame", "(IIZ)V"⟩, 59), (⟨"NotationDeskModel", "adds", "(IIII)I"⟩, 59), (⟨"NotationDeskModel", "inner", "(III)V"⟩, 59), (⟨"NotationDeskModel", "want", "(III)V"⟩, 59), (⟨"NotationDeskModel", "ranging", "(II)I"⟩, 59), (⟨"NotationDeskModel", "align", "()V"⟩, 59), (⟨"NotationDeskModel", "some", "(I)I"⟩, 59), (⟨"NotationDeskModel", "bit", "()I"⟩, 59), (⟨"NotationDeskModel", "rank", "(II)I"⟩, 59)]
theorem lw_r4 : ∀ q ∈ lw_privs_4, lw_okq q := List.forall_mem_cons.mpr ⟨lw_p48, List.forall_mem_cons.mpr ⟨lw_p49, List.forall_mem_cons.mpr ⟨lw_p50, List.forall_mem_cons.mpr ⟨lw_p51, List.forall_mem_cons.mpr ⟨lw_p52, List.forall_mem_cons.mpr ⟨lw_p53, List.forall_mem_cons.mpr ⟨lw_p54, List.forall_mem_cons.mpr ⟨lw_p55, List.forall_mem_cons.mpr ⟨lw_p56, List.forall_mem_cons.mpr ⟨lw_p57, List.forall_mem_cons.mpr ⟨lw_p58, List.forall_mem_cons.mpr ⟨lw_p59, List.forall_mem_cons.mpr ⟨lw_p60, List.forall_mem_cons.mpr ⟨lw_p61, List.forall_mem_cons.mpr ⟨lw_p62, List.forall_mem_cons.mpr ⟨lw_p63, fun _ h => absurd h List.not_mem_nil⟩⟩⟩⟩⟩⟩⟩⟩⟩⟩⟩⟩⟩⟩⟩⟩
theorem lw_p64 : lw_okq (⟨"NotationDeskModel", "counted", "(I)I"⟩, 59) := ⟨⟨by decide +kernel, by decide +kernel⟩, lw_t6 (List.mem_of_getElem? (i := 46) rfl), lw_t7 (List.mem_of_getElem? (i := 178) rfl), lw_t7 (List.mem_of_getElem? (i := 179) rfl)⟩
theorem lw_p65 : lw_okq (⟨"NotationDeskModel", "goOn", "()V"⟩, 59) := ⟨⟨by decide +kernel, by decide +kernel⟩, lw_t6 (List.mem_of_getElem? (i := 46) rfl), lw_t7 (List.mem_of_getElem? (i := 182) rfl), lw_t7 (List.mem_of_getElem? (i := 183) rfl)⟩
theorem lw_p66 : lw_okq (⟨"NotationDeskModel", "isEnd", "()Z"⟩, 59) := ⟨⟨by decide +kernel, by decide +kernel⟩, lw_t6 (List.mem_of_getElem? (i := 46) rfl), lw_t7 (List.mem_of_getElem? (i := 186) rfl), lw_t7 (List.mem_of_getElem? (i := 187) rfl)⟩
theorem lw_p67 : lw_okq (⟨"NotationDeskModel", "baseOf", "(I)I"⟩, 59) := ⟨⟨by decide +kernel, by decide +kernel⟩, lw_t6 (List.mem_of_getElem? (i := 46) rfl), lw_t7 (List.mem_of_getElem? (i := 190) rfl), lw_t7 (List.mem_of_getElem? (i := 191) rfl)⟩
theorem lw_p68 : lw_okq (⟨"NotationDeskModel", "leaveFrame", "()V"⟩, 59) := ⟨⟨by decide +kernel, by decide +kernel⟩, lw_t6 (List.mem_of_getElem? (i := 46) rfl), lw_t7 (List.mem_of_getElem? (i := 194) rfl), lw_t7 (List.mem_of_getElem? (i := 195) rfl)⟩
theorem lw_p69 : lw_okq (⟨"NotationDeskModel", "absent", "(III)V"⟩, 59) := ⟨⟨by decide +kernel, by decide +kernel⟩, lw_t6 (List.mem_of_getElem? (i := 46) rfl), lw_t7 (List.mem_of_getElem? (i := 198) rfl), lw_t7 (List.mem_of_getElem? (i := 199) rfl)⟩
theorem lw_p70 : lw_okq (⟨"NotationDeskModel", "goOnPacked", "()V"⟩, 59) := ⟨⟨by decide +kernel, by decide +kernel⟩, lw_t6 (List.mem_of_getElem? (i := 46) rfl), lw_t7 (List.mem_of_getElem? (i := 202) rfl), lw_t7 (List.mem_of_getElem? (i := 203) rfl)⟩
theorem lw_p71 : lw_okq (⟨"NotationDeskModel", "settle", "()V"⟩, 59) := ⟨⟨by decide +kernel, by decide +kernel⟩, lw_t6 (List.mem_of_getElem? (i := 46) rfl), lw_t7 (List.mem_of_getElem? (i := 206) rfl), lw_t7 (List.mem_of_getElem? (i := 207) rfl)⟩
theorem lw_p72 : lw_okq (⟨"NotationDeskModel", "write", "(I)V"⟩, 59) := ⟨⟨by decide +kernel, by decide +kernel⟩, lw_t6 (List.mem_of_getElem? (i := 46) rfl), lw_t7 (List.mem_of_getElem? (i := 210) rfl), lw_t7 (List.mem_of_getElem? (i := 211) rfl)⟩
theorem lw_p73 : lw_okq (⟨"NotationDeskModel", "isLeft", "(I)Z"⟩, 59) := ⟨⟨by decide +kernel, by decide +kernel⟩, lw_t6 (List.mem_of_getElem? (i := 46) rfl), lw_t7 (List.mem_of_getElem? (i := 214) rfl), lw_t7 (List.mem_of_getElem? (i := 215) rfl)⟩
theorem lw_p74 : lw_okq (⟨"NotationDeskModel", "encode", "(I)V"⟩, 59) := ⟨⟨by decide +kernel, by decide +kernel⟩, lw_t6 (List.mem_of_getElem? (i := 46) rfl), lw_t7 (List.mem_of_getElem? (i := 218) rfl), lw_t7 (List.mem_of_getElem? (i := 219) rfl)⟩
theorem lw_p75 : lw_okq (⟨"NotationDeskModel", "make", "(I)V"⟩, 59) := ⟨⟨by decide +kernel, by decide +kernel⟩, lw_t6 (List.mem_of_getElem? (i := 46) rfl), lw_t7 (List.mem_of_getElem? (i := 222) rfl), lw_t7 (List.mem_of_getElem? (i := 223) rfl)⟩
theorem lw_p76 : lw_okq (⟨"NotationDeskModel", "packed", "(I)V"⟩, 59) := ⟨⟨by decide +kernel, by decide +kernel⟩, lw_t6 (List.mem_of_getElem? (i := 46) rfl), lw_t7 (List.mem_of_getElem? (i := 226) rfl), lw_t7 (List.mem_of_getElem? (i := 227) rfl)⟩
theorem lw_p77 : lw_okq (⟨"NotationDeskModel", "bring", "(II)V"⟩, 59) := ⟨⟨by decide +kernel, by decide +kernel⟩, lw_t6 (List.mem_of_getElem? (i := 46) rfl), lw_t7 (List.mem_of_getElem? (i := 230) rfl), lw_t7 (List.mem_of_getElem? (i := 231) rfl)⟩
theorem lw_p78 : lw_okq (⟨"NotationDeskModel", "bringCount", "(II)V"⟩, 59) := ⟨⟨by decide +kernel, by decide +kernel⟩, lw_t6 (List.mem_of_getElem? (i := 46) rfl), lw_t7 (List.mem_of_getElem? (i := 234) rfl), lw_t7 (List.mem_of_getElem? (i := 235) rfl)⟩
theorem lw_p79 : lw_okq (⟨"NotationDeskModel", "fill", "()V"⟩, 59) := ⟨⟨by decide +kernel, by decide +kernel⟩, lw_t6 (List.mem_of_getElem? (i := 46) rfl), lw_t7 (List.mem_of_getElem? (i := 238) rfl), lw_t7 (List.mem_of_getElem? (i := 239) rfl)⟩
def lw_privs_5 : List (MethodName × Nat) := [(⟨"NotationDeskModel", "counted", "(I)I"⟩, 59), (⟨"NotationDeskModel", "goOn", "()V"⟩, 59), (⟨"NotationDeskModel", "isEnd", "()Z"⟩, 59), (⟨"NotationDeskModel", "baseOf", "(I)I"⟩, 59), (⟨"NotationDeskModel", "leaveFrame", "()V"⟩, 59), (⟨"NotationDeskModel", "absent", "(III)V"⟩, 59), (⟨"NotationDeskModel", "goOnPacked", "()V"⟩, 59), (⟨"NotationDeskModel", "settle", "()V"⟩, 59), (⟨"NotationDeskModel", "write", "(I)V"⟩, 59), (⟨"NotationDeskModel", "isLeft", "(I)Z"⟩, 59), (⟨"NotationDeskModel", "encode", "(I)V"⟩, 59), (⟨"NotationDeskModel", "make", "(I)V"⟩, 59), (⟨"NotationDeskModel", "packed", "(I)V"⟩, 59), (⟨"NotationDeskModel", "bring", "(II)V"⟩, 59), (⟨"NotationDeskModel", "bringCount", "(II)V"⟩, 59), (⟨"NotationDeskModel", "fill", "()V"⟩, 59)]
theorem lw_r5 : ∀ q ∈ lw_privs_5, lw_okq q := List.forall_mem_cons.mpr ⟨lw_p64, List.forall_mem_cons.mpr ⟨lw_p65, List.forall_mem_cons.mpr ⟨lw_p66, List.forall_mem_cons.mpr ⟨lw_p67, List.forall_mem_cons.mpr ⟨lw_p68, List.forall_mem_cons.mpr ⟨lw_p69, List.forall_mem_cons.mpr ⟨lw_p70, List.forall_mem_cons.mpr ⟨lw_p71, List.forall_mem_cons.mpr ⟨lw_p72, List.forall_mem_cons.mpr ⟨lw_p73, List.forall_mem_cons.mpr ⟨lw_p74, List.forall_mem_cons.mpr ⟨lw_p75, List.forall_mem_cons.mpr ⟨lw_p76, List.forall_mem_cons.mpr ⟨lw_p77, List.forall_mem_cons.mpr ⟨lw_p78, List.forall_mem_cons.mpr ⟨lw_p79, fun _ h => absurd h List.not_mem_nil⟩⟩⟩⟩⟩⟩⟩⟩⟩⟩⟩⟩⟩⟩⟩⟩
theorem lw_p80 : lw_okq (⟨"NotationDeskModel", "bringOf", "(III)V"⟩, 59) := ⟨⟨by decide +kernel, by decide +kernel⟩, lw_t6 (List.mem_of_getElem? (i := 46) rfl), lw_t8 (List.mem_of_getElem? (i := 2) rfl), lw_t8 (List.mem_of_getElem? (i := 3) rfl)⟩
theorem lw_p81 : lw_okq (⟨"NotationDeskModel", "marks", "(II)V"⟩, 59) := ⟨⟨by decide +kernel, by decide +kernel⟩, lw_t6 (List.mem_of_getElem? (i := 46) rfl), lw_t8 (List.mem_of_getElem? (i := 6) rfl), lw_t8 (List.mem_of_getElem? (i := 7) rfl)⟩
theorem lw_p82 : lw_okq (⟨"NotationDeskModel", "fails", "(I)I"⟩, 59) := ⟨⟨by decide +kernel, by decide +kernel⟩, lw_t6 (List.mem_of_getElem? (i := 46) rfl), lw_t8 (List.mem_of_getElem? (i := 10) rfl), lw_t8 (List.mem_of_getElem? (i := 11) rfl)⟩
theorem lw_p83 : lw_okq (⟨"NotationDeskModel", "keep", "()V"⟩, 59) := ⟨⟨by decide +kernel, by decide +kernel⟩, lw_t6 (List.mem_of_getElem? (i := 46) rfl), lw_t8 (List.mem_of_getElem? (i := 14) rfl), lw_t8 (List.mem_of_getElem? (i := 15) rfl)⟩
theorem lw_p84 : lw_okq (⟨"NotationDeskModel", "reply", "(IIII)I"⟩, 59) := ⟨⟨by decide +kernel, by decide +kernel⟩, lw_t6 (List.mem_of_getElem? (i := 46) rfl), lw_t8 (List.mem_of_getElem? (i := 38) rfl), lw_t8 (List.mem_of_getElem? (i := 39) rfl)⟩
def lw_privs_6 : List (MethodName × Nat) := [(⟨"NotationDeskModel", "bringOf", "(III)V"⟩, 59), (⟨"NotationDeskModel", "marks", "(II)V"⟩, 59), (⟨"NotationDeskModel", "fails", "(I)I"⟩, 59), (⟨"NotationDeskModel", "keep", "()V"⟩, 59), (⟨"NotationDeskModel", "reply", "(IIII)I"⟩, 59)]
theorem lw_r6 : ∀ q ∈ lw_privs_6, lw_okq q := List.forall_mem_cons.mpr ⟨lw_p80, List.forall_mem_cons.mpr ⟨lw_p81, List.forall_mem_cons.mpr ⟨lw_p82, List.forall_mem_cons.mpr ⟨lw_p83, List.forall_mem_cons.mpr ⟨lw_p84, fun _ h => absurd h List.not_mem_nil⟩⟩⟩⟩⟩
def lw_privs : List (MethodName × Nat) := lw_privs_1 ++ (lw_privs_2 ++ (lw_privs_3 ++ (lw_privs_4 ++ (lw_privs_5 ++ (lw_privs_6)))))
def lw_tbl : List Cond := k2_sels lw_privs ++ tables_1
theorem lw_privs_ok : ∀ q ∈ lw_privs, lw_okq q := by
  show ∀ q ∈ lw_privs_1 ++ (lw_privs_2 ++ (lw_privs_3 ++ (lw_privs_4 ++ (lw_privs_5 ++ (lw_privs_6))))), lw_okq q
  exact List.forall_mem_append.mpr ⟨lw_r1, List.forall_mem_append.mpr ⟨lw_r2, List.forall_mem_append.mpr ⟨lw_r3, List.forall_mem_append.mpr ⟨lw_r4, List.forall_mem_append.mpr ⟨lw_r5, lw_r6⟩⟩⟩⟩⟩
-- ===== ONE list of words for every method: the tables' words that hold all through a run =====
def lw_all : List Cond := lw_tbl.filter goodWord
/-- a word of the tables by its place: claim/WORDS.tsv -/
theorem lw_w {w : Cond} (i : Nat) (h : lw_tbl[i]? = some w) (g : goodWord w = true) : w ∈ lw_all := List.mem_filter.mpr ⟨List.mem_of_getElem? h, g⟩
theorem lw_all_tbl {w : Cond} (h : w ∈ lw_all) : w ∈ lw_tbl := (List.mem_filter.mp h).1
theorem lw_self : GoodIn lw_all lw_all := fun w h => ⟨h, good_of_word (List.mem_filter.mp h).2⟩
/-- a class's field words, by their places -/
theorem lw_in (ws : List Cond) (ps : List Nat) (hp : ws = ps.filterMap (fun i => lw_tbl[i]?)) (hg : ws.all goodWord = true) : ∀ w ∈ ws, w ∈ lw_all := by
  intro w h
  have h1 := List.all_eq_true.mp hg w h
  rw [hp] at h
  obtain ⟨i, -, hi⟩ := List.mem_filterMap.mp h
  exact lw_w i hi h1
/-- the words of a contract for the method y with code b, L locals, answer r -/
abbrev ws_ (y : MethodName) (b : ByteArray) (L : Nat) (r : Option FieldType) : List Cond := Cond.code y b L r :: lw_all
theorem lw_meth {y : MethodName} {b : ByteArray} {L : Nat} {r : Option FieldType} (h : Cond.code y b L r ∈ lw_all) : GoodIn lw_all (ws_ y b L r) := by
  intro w hw
  rcases List.mem_cons.mp hw with e | e
  · rw [e]
    exact lw_self _ h
  · exact lw_self _ e
theorem lw_app {a c : List Cond} (ha : ∀ w ∈ a, w ∈ lw_all) (hc : GoodIn lw_all c) : GoodIn lw_all (a ++ c) := by
  intro w hw
  rcases List.mem_append.mp hw with e | e
  · exact lw_self w (ha w e)
  · exact hc w e
/-- what a call through an object asks: cwV n hts (lw_V ..) -/
theorem lw_V {own : String} {idx : Nat} {C : String} {y : MethodName} {b : ByteArray} {L : Nat} {r : Option FieldType} (h1 : Cond.methodLink own idx y ∈ lw_all) (h2 : Cond.instanceMethod y ∈ lw_all) (h3 : Cond.selects C y y ∈ lw_all) (h4 : Cond.initialized C ∈ lw_all) (h5 : Cond.code y b L r ∈ lw_all) : GoodIn lw_all (wsV own idx C y (ws_ y b L r)) := by
  refine lw_app ?_ (lw_meth h5)
  intro w hw
  simp only [List.mem_cons, List.not_mem_nil, or_false] at hw
  rcases hw with e | e | e | e
  · rw [e]; exact h1
  · rw [e]; exact h2
  · rw [e]; exact h3
  · rw [e]; exact h4
/-- what a static call asks: va_cwS n hts (lw_S ..) -/
theorem lw_S {own : String} {idx : Nat} {y : MethodName} {b : ByteArray} {L : Nat} {r : Option FieldType} (h1 : Cond.methodLink own idx y ∈ lw_all) (h2 : Cond.static y ∈ lw_all) (h3 : Cond.initialized y.cls ∈ lw_all) (h4 : Cond.code y b L r ∈ lw_all) : GoodIn lw_all (va_wsS own idx y (ws_ y b L r)) := by
  refine lw_app ?_ (lw_meth h4)
  intro w hw
  simp only [List.mem_cons, List.not_mem_nil, or_false] at hw
  rcases hw with e | e | e
  · rw [e]; exact h1
  · rw [e]; exact h2
  · rw [e]; exact h3
/-- the words of a contract for a method WITH HANDLERS (hh: its table) -/
abbrev wsW_ (y : MethodName) (b : ByteArray) (L : Nat) (r : Option FieldType) (hh : List (Nat × Nat × Nat × Nat)) : List Cond := Cond.codeWith y b L r hh :: lw_all
theorem lw_methW {y : MethodName} {b : ByteArray} {L : Nat} {r : Option FieldType} {hh : List (Nat × Nat × Nat × Nat)} (h : Cond.codeWith y b L r hh ∈ lw_all) : GoodIn lw_all (wsW_ y b L r hh) := by
  intro w hw
  rcases List.mem_cons.mp hw with e | e
  · rw [e]
    exact lw_self _ h
  · exact lw_self _ e
/-- any list of words by their places (lw_in), good -/
theorem lw_good {ws : List Cond} (h : ∀ w ∈ ws, w ∈ lw_all) : GoodIn lw_all ws := fun w hw => lw_self w (h w hw)
/-- what a call of a method with handlers asks: vx_cwVW n hts (lw_VW ..), vx_cwSW n hts (lw_SW ..) -/
theorem lw_VW {own : String} {idx : Nat} {C : String} {y : MethodName} {b : ByteArray} {L : Nat} {r : Option FieldType} {hh : List (Nat × Nat × Nat × Nat)} (h1 : Cond.methodLink own idx y ∈ lw_all) (h2 : Cond.instanceMethod y ∈ lw_all) (h3 : Cond.selects C y y ∈ lw_all) (h4 : Cond.initialized C ∈ lw_all) (h5 : Cond.codeWith y b L r hh ∈ lw_all) : GoodIn lw_all (wsV own idx C y (wsW_ y b L r hh)) := by
  refine lw_app ?_ (lw_methW h5)
  intro w hw
  simp only [List.mem_cons, List.not_mem_nil, or_false] at hw
  rcases hw with e | e | e | e
  · rw [e]; exact h1
  · rw [e]; exact h2
  · rw [e]; exact h3
  · rw [e]; exact h4
theorem lw_SW {own : String} {idx : Nat} {y : MethodName} {b : ByteArray} {L : Nat} {r : Option FieldType} {hh : List (Nat × Nat × Nat × Nat)} (h1 : Cond.methodLink own idx y ∈ lw_all) (h2 : Cond.static y ∈ lw_all) (h3 : Cond.initialized y.cls ∈ lw_all) (h4 : Cond.codeWith y b L r hh ∈ lw_all) : GoodIn lw_all (va_wsS own idx y (wsW_ y b L r hh)) := by
  refine lw_app ?_ (lw_methW h4)
  intro w hw
  simp only [List.mem_cons, List.not_mem_nil, or_false] at hw
  rcases hw with e | e | e
  · rw [e]; exact h1
  · rw [e]; exact h2
  · rw [e]; exact h3
/-- a word by its place in its run of the tables -/
theorem lw_at {r : List Cond} (hr : ∀ w ∈ r, w ∈ lw_tbl) {w : Cond} (i : Nat) (h : r[i]? = some w) : w ∈ lw_tbl := hr w (List.mem_of_getElem? h)
theorem lw_g {w : Cond} (h : w ∈ lw_tbl) (g : goodWord w = true) : w ∈ lw_all := List.mem_filter.mpr ⟨h, g⟩
theorem lw_ms : ∀ w ∈ k2_sels lw_privs, w ∈ lw_tbl := fun w h => show w ∈ k2_sels lw_privs ++ tables_1 from List.mem_append_left _ h
theorem lw_m1 : ∀ w ∈ tables_1_1, w ∈ lw_tbl := fun w h => show w ∈ k2_sels lw_privs ++ tables_1 from List.mem_append_right (k2_sels lw_privs) (show w ∈ tables_1 from List.mem_append_left _ h)
theorem lw_m2 : ∀ w ∈ tables_1_2, w ∈ lw_tbl := fun w h => show w ∈ k2_sels lw_privs ++ tables_1 from List.mem_append_right (k2_sels lw_privs) (show w ∈ tables_1 from List.mem_append_right _ (List.mem_append_left _ h))
theorem lw_m3 : ∀ w ∈ tables_1_3, w ∈ lw_tbl := fun w h => show w ∈ k2_sels lw_privs ++ tables_1 from List.mem_append_right (k2_sels lw_privs) (show w ∈ tables_1 from List.mem_append_right _ (List.mem_append_right _ (List.mem_append_left _ h)))
theorem lw_m4 : ∀ w ∈ tables_1_4, w ∈ lw_tbl := fun w h => show w ∈ k2_sels lw_privs ++ tables_1 from List.mem_append_right (k2_sels lw_privs) (show w ∈ tables_1 from List.mem_append_right _ (List.mem_append_right _ (List.mem_append_right _ (List.mem_append_left _ h))))
theorem lw_m5 : ∀ w ∈ tables_1_5, w ∈ lw_tbl := fun w h => show w ∈ k2_sels lw_privs ++ tables_1 from List.mem_append_right (k2_sels lw_privs) (show w ∈ tables_1 from List.mem_append_right _ (List.mem_append_right _ (List.mem_append_right _ (List.mem_append_right _ (List.mem_append_left _ h)))))
theorem lw_m6 : ∀ w ∈ tables_1_6, w ∈ lw_tbl := fun w h => show w ∈ k2_sels lw_privs ++ tables_1 from List.mem_append_right (k2_sels lw_privs) (show w ∈ tables_1 from List.mem_append_right _ (List.mem_append_right _ (List.mem_append_right _ (List.mem_append_right _ (List.mem_append_right _ (List.mem_append_left _ h))))))
theorem lw_m7 : ∀ w ∈ tables_1_7, w ∈ lw_tbl := fun w h => show w ∈ k2_sels lw_privs ++ tables_1 from List.mem_append_right (k2_sels lw_privs) (show w ∈ tables_1 from List.mem_append_right _ (List.mem_append_right _ (List.mem_append_right _ (List.mem_append_right _ (List.mem_append_right _ (List.mem_append_right _ (List.mem_append_left _ h)))))))
theorem lw_m8 : ∀ w ∈ tables_1_8, w ∈ lw_tbl := fun w h => show w ∈ k2_sels lw_privs ++ tables_1 from List.mem_append_right (k2_sels lw_privs) (show w ∈ tables_1 from List.mem_append_right _ (List.mem_append_right _ (List.mem_append_right _ (List.mem_append_right _ (List.mem_append_right _ (List.mem_append_right _ (List.mem_append_right _ h)))))))
theorem qs0 : (Cond.selects "NotationDesk" ⟨"NotationDesk", "forget", "()V"⟩ ⟨"NotationDesk", "forget", "()V"⟩) ∈ lw_all := lw_g (lw_at lw_ms 0 rfl) rfl
theorem qs1 : (Cond.selects "NotationDesk$Compiler" ⟨"NotationDesk$Compiler", "isName", "()Z"⟩ ⟨"NotationDesk$Compiler", "isName", "()Z"⟩) ∈ lw_all := lw_g (lw_at lw_ms 1 rfl) rfl
theorem qs2 : (Cond.selects "NotationDesk$Compiler" ⟨"NotationDesk$Compiler", "look", "()I"⟩ ⟨"NotationDesk$Compiler", "look", "()I"⟩) ∈ lw_all := lw_g (lw_at lw_ms 2 rfl) rfl
theorem qs3 : (Cond.selects "NotationDesk$Compiler" ⟨"NotationDesk$Compiler", "wrong", "(II)Z"⟩ ⟨"NotationDesk$Compiler", "wrong", "(II)Z"⟩) ∈ lw_all := lw_g (lw_at lw_ms 3 rfl) rfl
theorem qs4 : (Cond.selects "NotationDesk$Compiler" ⟨"NotationDesk$Compiler", "expect", "(I)Z"⟩ ⟨"NotationDesk$Compiler", "expect", "(I)Z"⟩) ∈ lw_all := lw_g (lw_at lw_ms 4 rfl) rfl
theorem qs5 : (Cond.selects "NotationDesk$Compiler" ⟨"NotationDesk$Compiler", "isTag", "()Z"⟩ ⟨"NotationDesk$Compiler", "isTag", "()Z"⟩) ∈ lw_all := lw_g (lw_at lw_ms 5 rfl) rfl
theorem qs6 : (Cond.selects "NotationDesk$Compiler" ⟨"NotationDesk$Compiler", "named", "(I)LNotationDesk$Type;"⟩ ⟨"NotationDesk$Compiler", "named", "(I)LNotationDesk$Type;"⟩) ∈ lw_all := lw_g (lw_at lw_ms 6 rfl) rfl
theorem qs7 : (Cond.selects "NotationDesk$Compiler" ⟨"NotationDesk$Compiler", "noType", "(II)LNotationDesk$Type;"⟩ ⟨"NotationDesk$Compiler", "noType", "(II)LNotationDesk$Type;"⟩) ∈ lw_all := lw_g (lw_at lw_ms 7 rfl) rfl
theorem qs8 : (Cond.selects "NotationDesk$Compiler" ⟨"NotationDesk$Compiler", "numeric", "(I)LNotationDesk$Numeric;"⟩ ⟨"NotationDesk$Compiler", "numeric", "(I)LNotationDesk$Numeric;"⟩) ∈ lw_all := lw_g (lw_at lw_ms 8 rfl) rfl
theorem qs9 : (Cond.selects "NotationDesk$Compiler" ⟨"NotationDesk$Compiler", "integer", "(I)LNotationDesk$Type;"⟩ ⟨"NotationDesk$Compiler", "integer", "(I)LNotationDesk$Type;"⟩) ∈ lw_all := lw_g (lw_at lw_ms 9 rfl) rfl
theorem qs10 : (Cond.selects "NotationDesk$Compiler" ⟨"NotationDesk$Compiler", "bounds", "()Z"⟩ ⟨"NotationDesk$Compiler", "bounds", "()Z"⟩) ∈ lw_all := lw_g (lw_at lw_ms 10 rfl) rfl
theorem qs11 : (Cond.selects "NotationDesk$Compiler" ⟨"NotationDesk$Compiler", "number", "()Z"⟩ ⟨"NotationDesk$Compiler", "number", "()Z"⟩) ∈ lw_all := lw_g (lw_at lw_ms 11 rfl) rfl
theorem qs12 : (Cond.selects "NotationDesk$Compiler" ⟨"NotationDesk$Compiler", "component", "(LNotationDesk$Sequence;LNotationDesk$Type;)Z"⟩ ⟨"NotationDesk$Compiler", "component", "(LNotationDesk$Sequence;LNotationDesk$Type;)Z"⟩) ∈ lw_all := lw_g (lw_at lw_ms 12 rfl) rfl
theorem qs13 : (Cond.selects "NotationDesk$Numeric" ⟨"NotationDesk$Numeric", "isRight", "(I)Z"⟩ ⟨"NotationDesk$Numeric", "isRight", "(I)Z"⟩) ∈ lw_all := lw_g (lw_at lw_ms 13 rfl) rfl
theorem qs14 : (Cond.selects "NotationDesk$Compiler" ⟨"NotationDesk$Compiler", "another", "(I)Z"⟩ ⟨"NotationDesk$Compiler", "another", "(I)Z"⟩) ∈ lw_all := lw_g (lw_at lw_ms 14 rfl) rfl
theorem qs15 : (Cond.selects "NotationDesk$Compiler" ⟨"NotationDesk$Compiler", "octetsAt", "(I)LNotationDesk$Type;"⟩ ⟨"NotationDesk$Compiler", "octetsAt", "(I)LNotationDesk$Type;"⟩) ∈ lw_all := lw_g (lw_at lw_ms 15 rfl) rfl
theorem qs16 : (Cond.selects "NotationDesk$Compiler" ⟨"NotationDesk$Compiler", "bounded", "(LNotationDesk$Size;)Z"⟩ ⟨"NotationDesk$Compiler", "bounded", "(LNotationDesk$Size;)Z"⟩) ∈ lw_all := lw_g (lw_at lw_ms 16 rfl) rfl
theorem qs17 : (Cond.selects "java/lang/Throwable" ⟨"java/lang/Throwable", "fillInStackTrace", "(I)Ljava/lang/Throwable;"⟩ ⟨"java/lang/Throwable", "fillInStackTrace", "(I)Ljava/lang/Throwable;"⟩) ∈ lw_all := lw_g (lw_at lw_ms 17 rfl) rfl
theorem qs18 : (Cond.selects "NotationDesk" ⟨"NotationDesk", "named", "(C)LNotationDesk$Type;"⟩ ⟨"NotationDesk", "named", "(C)LNotationDesk$Type;"⟩) ∈ lw_all := lw_g (lw_at lw_ms 18 rfl) rfl
theorem qs19 : (Cond.selects "NotationDesk" ⟨"NotationDesk", "read", "(LNotationDesk$Type;II)LNotationDesk$Part;"⟩ ⟨"NotationDesk", "read", "(LNotationDesk$Type;II)LNotationDesk$Part;"⟩) ∈ lw_all := lw_g (lw_at lw_ms 19 rfl) rfl
theorem qs20 : (Cond.selects "NotationDesk$Choice" ⟨"NotationDesk$Choice", "rank", "(I)I"⟩ ⟨"NotationDesk$Choice", "rank", "(I)I"⟩) ∈ lw_all := lw_g (lw_at lw_ms 20 rfl) rfl
theorem qs21 : (Cond.selects "NotationDesk$Sequence" ⟨"NotationDesk$Sequence", "add", "(LNotationDesk$Part;ILNotationDesk$Part;ZLNotationDesk$Store;)Z"⟩ ⟨"NotationDesk$Sequence", "add", "(LNotationDesk$Part;ILNotationDesk$Part;ZLNotationDesk$Store;)Z"⟩) ∈ lw_all := lw_g (lw_at lw_ms 21 rfl) rfl
theorem qs22 : (Cond.selects "NotationDesk" ⟨"NotationDesk", "write", "(LNotationDesk$Type;LNotationDesk$Part;I)V"⟩ ⟨"NotationDesk", "write", "(LNotationDesk$Type;LNotationDesk$Part;I)V"⟩) ∈ lw_all := lw_g (lw_at lw_ms 22 rfl) rfl
theorem qs23 : (Cond.selects "NotationDesk$Sequence" ⟨"NotationDesk$Sequence", "content", "(LNotationDesk$Part;)I"⟩ ⟨"NotationDesk$Sequence", "content", "(LNotationDesk$Part;)I"⟩) ∈ lw_all := lw_g (lw_at lw_ms 23 rfl) rfl
theorem qs24 : (Cond.selects "NotationDesk$Sequence" ⟨"NotationDesk$Sequence", "isWritten", "(LNotationDesk$Part;I)Z"⟩ ⟨"NotationDesk$Sequence", "isWritten", "(LNotationDesk$Part;I)Z"⟩) ∈ lw_all := lw_g (lw_at lw_ms 24 rfl) rfl
theorem qs25 : (Cond.selects "NotationDesk$Series" ⟨"NotationDesk$Series", "content", "(LNotationDesk$Part;)I"⟩ ⟨"NotationDesk$Series", "content", "(LNotationDesk$Part;)I"⟩) ∈ lw_all := lw_g (lw_at lw_ms 25 rfl) rfl
theorem qs26 : (Cond.selects "NotationDesk" ⟨"NotationDesk", "keep", "(LNotationDesk$Part;)V"⟩ ⟨"NotationDesk", "keep", "(LNotationDesk$Part;)V"⟩) ∈ lw_all := lw_g (lw_at lw_ms 26 rfl) rfl
theorem qs27 : (Cond.selects "NotationDesk" ⟨"NotationDesk", "known", "(I)LNotationDesk$Part;"⟩ ⟨"NotationDesk", "known", "(I)LNotationDesk$Part;"⟩) ∈ lw_all := lw_g (lw_at lw_ms 27 rfl) rfl
theorem qs28 : (Cond.selects "NotationDesk" ⟨"NotationDesk", "replies", "(III)I"⟩ ⟨"NotationDesk", "replies", "(III)I"⟩) ∈ lw_all := lw_g (lw_at lw_ms 28 rfl) rfl
theorem qs29 : (Cond.selects "NotationDeskModel" ⟨"NotationDeskModel", "leave", "()V"⟩ ⟨"NotationDeskModel", "leave", "()V"⟩) ∈ lw_all := lw_g (lw_at lw_ms 29 rfl) rfl
theorem qs30 : (Cond.selects "NotationDeskModel" ⟨"NotationDeskModel", "definition", "()V"⟩ ⟨"NotationDeskModel", "definition", "()V"⟩) ∈ lw_all := lw_g (lw_at lw_ms 30 rfl) rfl
theorem qs31 : (Cond.selects "NotationDeskModel" ⟨"NotationDeskModel", "look", "()I"⟩ ⟨"NotationDeskModel", "look", "()I"⟩) ∈ lw_all := lw_g (lw_at lw_ms 31 rfl) rfl
theorem qs32 : (Cond.selects "NotationDeskModel" ⟨"NotationDeskModel", "stop", "(II)I"⟩ ⟨"NotationDeskModel", "stop", "(II)I"⟩) ∈ lw_all := lw_g (lw_at lw_ms 32 rfl) rfl
theorem qs33 : (Cond.selects "NotationDeskModel" ⟨"NotationDeskModel", "need", "(I)Z"⟩ ⟨"NotationDeskModel", "need", "(I)Z"⟩) ∈ lw_all := lw_g (lw_at lw_ms 33 rfl) rfl
theorem qs34 : (Cond.selects "NotationDeskModel" ⟨"NotationDeskModel", "whole", "()I"⟩ ⟨"NotationDeskModel", "whole", "()I"⟩) ∈ lw_all := lw_g (lw_at lw_ms 34 rfl) rfl
theorem qs35 : (Cond.selects "NotationDeskModel" ⟨"NotationDeskModel", "begin", "()I"⟩ ⟨"NotationDeskModel", "begin", "()I"⟩) ∈ lw_all := lw_g (lw_at lw_ms 35 rfl) rfl
theorem qs36 : (Cond.selects "NotationDeskModel" ⟨"NotationDeskModel", "tagged", "()I"⟩ ⟨"NotationDeskModel", "tagged", "()I"⟩) ∈ lw_all := lw_g (lw_at lw_ms 36 rfl) rfl
theorem qs37 : (Cond.selects "NotationDeskModel" ⟨"NotationDeskModel", "add", "(I)I"⟩ ⟨"NotationDeskModel", "add", "(I)I"⟩) ∈ lw_all := lw_g (lw_at lw_ms 37 rfl) rfl
theorem qs38 : (Cond.selects "NotationDeskModel" ⟨"NotationDeskModel", "push", "(I)I"⟩ ⟨"NotationDeskModel", "push", "(I)I"⟩) ∈ lw_all := lw_g (lw_at lw_ms 38 rfl) rfl
theorem qs39 : (Cond.selects "NotationDeskModel" ⟨"NotationDeskModel", "named", "(I)I"⟩ ⟨"NotationDeskModel", "named", "(I)I"⟩) ∈ lw_all := lw_g (lw_at lw_ms 39 rfl) rfl
theorem qs40 : (Cond.selects "NotationDeskModel" ⟨"NotationDeskModel", "ranged", "(IZ)V"⟩ ⟨"NotationDeskModel", "ranged", "(IZ)V"⟩) ∈ lw_all := lw_g (lw_at lw_ms 40 rfl) rfl
theorem qs41 : (Cond.selects "NotationDeskModel" ⟨"NotationDeskModel", "numeral", "()Z"⟩ ⟨"NotationDeskModel", "numeral", "()Z"⟩) ∈ lw_all := lw_g (lw_at lw_ms 41 rfl) rfl
theorem qs42 : (Cond.selects "NotationDeskModel" ⟨"NotationDeskModel", "end", "(I)I"⟩ ⟨"NotationDeskModel", "end", "(I)I"⟩) ∈ lw_all := lw_g (lw_at lw_ms 42 rfl) rfl
theorem qs43 : (Cond.selects "NotationDeskModel" ⟨"NotationDeskModel", "component", "(II)V"⟩ ⟨"NotationDeskModel", "component", "(II)V"⟩) ∈ lw_all := lw_g (lw_at lw_ms 43 rfl) rfl
theorem qs44 : (Cond.selects "NotationDeskModel" ⟨"NotationDeskModel", "unwrap", "(I)V"⟩ ⟨"NotationDeskModel", "unwrap", "(I)V"⟩) ∈ lw_all := lw_g (lw_at lw_ms 44 rfl) rfl
theorem qs45 : (Cond.selects "NotationDeskModel" ⟨"NotationDeskModel", "clashes", "(I)Z"⟩ ⟨"NotationDeskModel", "clashes", "(I)Z"⟩) ∈ lw_all := lw_g (lw_at lw_ms 45 rfl) rfl
theorem qs46 : (Cond.selects "NotationDeskModel" ⟨"NotationDeskModel", "asked", "(ZC)I"⟩ ⟨"NotationDeskModel", "asked", "(ZC)I"⟩) ∈ lw_all := lw_g (lw_at lw_ms 46 rfl) rfl
theorem qs47 : (Cond.selects "NotationDeskModel" ⟨"NotationDeskModel", "typeOf", "(C)I"⟩ ⟨"NotationDeskModel", "typeOf", "(C)I"⟩) ∈ lw_all := lw_g (lw_at lw_ms 47 rfl) rfl
theorem qs48 : (Cond.selects "NotationDeskModel" ⟨"NotationDeskModel", "load", "(I)V"⟩ ⟨"NotationDeskModel", "load", "(I)V"⟩) ∈ lw_all := lw_g (lw_at lw_ms 48 rfl) rfl
theorem qs49 : (Cond.selects "NotationDeskModel" ⟨"NotationDeskModel", "isValue", "(II)Z"⟩ ⟨"NotationDeskModel", "isValue", "(II)Z"⟩) ∈ lw_all := lw_g (lw_at lw_ms 49 rfl) rfl
theorem qs50 : (Cond.selects "NotationDeskModel" ⟨"NotationDeskModel", "element", "(III)V"⟩ ⟨"NotationDeskModel", "element", "(III)V"⟩) ∈ lw_all := lw_g (lw_at lw_ms 50 rfl) rfl
theorem qs51 : (Cond.selects "NotationDeskModel" ⟨"NotationDeskModel", "next", "()I"⟩ ⟨"NotationDeskModel", "next", "()I"⟩) ∈ lw_all := lw_g (lw_at lw_ms 51 rfl) rfl
theorem qs52 : (Cond.selects "NotationDeskModel" ⟨"NotationDeskModel", "bound", "()I"⟩ ⟨"NotationDeskModel", "bound", "()I"⟩) ∈ lw_all := lw_g (lw_at lw_ms 52 rfl) rfl
theorem qs53 : (Cond.selects "NotationDeskModel" ⟨"NotationDeskModel", "enter", "(I)V"⟩ ⟨"NotationDeskModel", "enter", "(I)V"⟩) ∈ lw_all := lw_g (lw_at lw_ms 53 rfl) rfl
theorem qs54 : (Cond.selects "NotationDeskModel" ⟨"NotationDeskModel", "length", "(Z)I"⟩ ⟨"NotationDeskModel", "length", "(Z)I"⟩) ∈ lw_all := lw_g (lw_at lw_ms 54 rfl) rfl
theorem qs55 : (Cond.selects "NotationDeskModel" ⟨"NotationDeskModel", "frame", "(IIZ)V"⟩ ⟨"NotationDeskModel", "frame", "(IIZ)V"⟩) ∈ lw_all := lw_g (lw_at lw_ms 55 rfl) rfl
theorem qs56 : (Cond.selects "NotationDeskModel" ⟨"NotationDeskModel", "adds", "(IIII)I"⟩ ⟨"NotationDeskModel", "adds", "(IIII)I"⟩) ∈ lw_all := lw_g (lw_at lw_ms 56 rfl) rfl
theorem qs57 : (Cond.selects "NotationDeskModel" ⟨"NotationDeskModel", "inner", "(III)V"⟩ ⟨"NotationDeskModel", "inner", "(III)V"⟩) ∈ lw_all := lw_g (lw_at lw_ms 57 rfl) rfl
theorem qs58 : (Cond.selects "NotationDeskModel" ⟨"NotationDeskModel", "want", "(III)V"⟩ ⟨"NotationDeskModel", "want", "(III)V"⟩) ∈ lw_all := lw_g (lw_at lw_ms 58 rfl) rfl
theorem qs59 : (Cond.selects "NotationDeskModel" ⟨"NotationDeskModel", "ranging", "(II)I"⟩ ⟨"NotationDeskModel", "ranging", "(II)I"⟩) ∈ lw_all := lw_g (lw_at lw_ms 59 rfl) rfl
theorem qs60 : (Cond.selects "NotationDeskModel" ⟨"NotationDeskModel", "align", "()V"⟩ ⟨"NotationDeskModel", "align", "()V"⟩) ∈ lw_all := lw_g (lw_at lw_ms 60 rfl) rfl
theorem qs61 : (Cond.selects "NotationDeskModel" ⟨"NotationDeskModel", "some", "(I)I"⟩ ⟨"NotationDeskModel", "some", "(I)I"⟩) ∈ lw_all := lw_g (lw_at lw_ms 61 rfl) rfl
theorem qs62 : (Cond.selects "NotationDeskModel" ⟨"NotationDeskModel", "bit", "()I"⟩ ⟨"NotationDeskModel", "bit", "()I"⟩) ∈ lw_all := lw_g (lw_at lw_ms 62 rfl) rfl
theorem qs63 : (Cond.selects "NotationDeskModel" ⟨"NotationDeskModel", "rank", "(II)I"⟩ ⟨"NotationDeskModel", "rank", "(II)I"⟩) ∈ lw_all := lw_g (lw_at lw_ms 63 rfl) rfl
theorem qs64 : (Cond.selects "NotationDeskModel" ⟨"NotationDeskModel", "counted", "(I)I"⟩ ⟨"NotationDeskModel", "counted", "(I)I"⟩) ∈ lw_all := lw_g (lw_at lw_ms 64 rfl) rfl
theorem qs65 : (Cond.selects "NotationDeskModel" ⟨"NotationDeskModel", "goOn", "()V"⟩ ⟨"NotationDeskModel", "goOn", "()V"⟩) ∈ lw_all := lw_g (lw_at lw_ms 65 rfl) rfl
theorem qs66 : (Cond.selects "NotationDeskModel" ⟨"NotationDeskModel", "isEnd", "()Z"⟩ ⟨"NotationDeskModel", "isEnd", "()Z"⟩) ∈ lw_all := lw_g (lw_at lw_ms 66 rfl) rfl
theorem qs67 : (Cond.selects "NotationDeskModel" ⟨"NotationDeskModel", "baseOf", "(I)I"⟩ ⟨"NotationDeskModel", "baseOf", "(I)I"⟩) ∈ lw_all := lw_g (lw_at lw_ms 67 rfl) rfl
theorem qs68 : (Cond.selects "NotationDeskModel" ⟨"NotationDeskModel", "leaveFrame", "()V"⟩ ⟨"NotationDeskModel", "leaveFrame", "()V"⟩) ∈ lw_all := lw_g (lw_at lw_ms 68 rfl) rfl
theorem qs69 : (Cond.selects "NotationDeskModel" ⟨"NotationDeskModel", "absent", "(III)V"⟩ ⟨"NotationDeskModel", "absent", "(III)V"⟩) ∈ lw_all := lw_g (lw_at lw_ms 69 rfl) rfl
theorem qs70 : (Cond.selects "NotationDeskModel" ⟨"NotationDeskModel", "goOnPacked", "()V"⟩ ⟨"NotationDeskModel", "goOnPacked", "()V"⟩) ∈ lw_all := lw_g (lw_at lw_ms 70 rfl) rfl
theorem qs71 : (Cond.selects "NotationDeskModel" ⟨"NotationDeskModel", "settle", "()V"⟩ ⟨"NotationDeskModel", "settle", "()V"⟩) ∈ lw_all := lw_g (lw_at lw_ms 71 rfl) rfl
theorem qs72 : (Cond.selects "NotationDeskModel" ⟨"NotationDeskModel", "write", "(I)V"⟩ ⟨"NotationDeskModel", "write", "(I)V"⟩) ∈ lw_all := lw_g (lw_at lw_ms 72 rfl) rfl
theorem qs73 : (Cond.selects "NotationDeskModel" ⟨"NotationDeskModel", "isLeft", "(I)Z"⟩ ⟨"NotationDeskModel", "isLeft", "(I)Z"⟩) ∈ lw_all := lw_g (lw_at lw_ms 73 rfl) rfl
theorem qs74 : (Cond.selects "NotationDeskModel" ⟨"NotationDeskModel", "encode", "(I)V"⟩ ⟨"NotationDeskModel", "encode", "(I)V"⟩) ∈ lw_all := lw_g (lw_at lw_ms 74 rfl) rfl
theorem qs75 : (Cond.selects "NotationDeskModel" ⟨"NotationDeskModel", "make", "(I)V"⟩ ⟨"NotationDeskModel", "make", "(I)V"⟩) ∈ lw_all := lw_g (lw_at lw_ms 75 rfl) rfl
theorem qs76 : (Cond.selects "NotationDeskModel" ⟨"NotationDeskModel", "packed", "(I)V"⟩ ⟨"NotationDeskModel", "packed", "(I)V"⟩) ∈ lw_all := lw_g (lw_at lw_ms 76 rfl) rfl
theorem qs77 : (Cond.selects "NotationDeskModel" ⟨"NotationDeskModel", "bring", "(II)V"⟩ ⟨"NotationDeskModel", "bring", "(II)V"⟩) ∈ lw_all := lw_g (lw_at lw_ms 77 rfl) rfl
theorem qs78 : (Cond.selects "NotationDeskModel" ⟨"NotationDeskModel", "bringCount", "(II)V"⟩ ⟨"NotationDeskModel", "bringCount", "(II)V"⟩) ∈ lw_all := lw_g (lw_at lw_ms 78 rfl) rfl
theorem qs79 : (Cond.selects "NotationDeskModel" ⟨"NotationDeskModel", "fill", "()V"⟩ ⟨"NotationDeskModel", "fill", "()V"⟩) ∈ lw_all := lw_g (lw_at lw_ms 79 rfl) rfl
theorem qs80 : (Cond.selects "NotationDeskModel" ⟨"NotationDeskModel", "bringOf", "(III)V"⟩ ⟨"NotationDeskModel", "bringOf", "(III)V"⟩) ∈ lw_all := lw_g (lw_at lw_ms 80 rfl) rfl
theorem qs81 : (Cond.selects "NotationDeskModel" ⟨"NotationDeskModel", "marks", "(II)V"⟩ ⟨"NotationDeskModel", "marks", "(II)V"⟩) ∈ lw_all := lw_g (lw_at lw_ms 81 rfl) rfl
theorem qs82 : (Cond.selects "NotationDeskModel" ⟨"NotationDeskModel", "fails", "(I)I"⟩ ⟨"NotationDeskModel", "fails", "(I)I"⟩) ∈ lw_all := lw_g (lw_at lw_ms 82 rfl) rfl
theorem qs83 : (Cond.selects "NotationDeskModel" ⟨"NotationDeskModel", "keep", "()V"⟩ ⟨"NotationDeskModel", "keep", "()V"⟩) ∈ lw_all := lw_g (lw_at lw_ms 83 rfl) rfl
theorem qs84 : (Cond.selects "NotationDeskModel" ⟨"NotationDeskModel", "reply", "(IIII)I"⟩ ⟨"NotationDeskModel", "reply", "(IIII)I"⟩) ∈ lw_all := lw_g (lw_at lw_ms 84 rfl) rfl
