-- ===== PART A: goes FIRST, ahead of the names: the tables' words, and 'selects' of the private methods out of them =====
/-- a private method of a class that the tables say can be made, by its rows of tables_1 -/
def lw_okq (q : MethodName × Nat) : Prop := (q.1.cls ≠ "java/lang/invoke/MethodHandle" ∧ q.1.cls ≠ "java/lang/invoke/VarHandle") ∧ Cond.instantiable q.1.cls q.2 ∈ tables_1 ∧ Cond.privateMethod q.1 ∈ tables_1 ∧ Cond.instanceMethod q.1 ∈ tables_1
set_option maxRecDepth 100000
theorem lw_t1 {w : Cond} (h : w ∈ tables_1_1) : w ∈ tables_1 := List.mem_append_left _ h
theorem lw_t2 {w : Cond} (h : w ∈ tables_1_2) : w ∈ tables_1 := List.mem_append_right _ (List.mem_append_left _ h)
theorem lw_t3 {w : Cond} (h : w ∈ tables_1_3) : w ∈ tables_1 := List.mem_append_right _ (List.mem_append_right _ (List.mem_append_left _ h))
theorem lw_t4 {w : Cond} (h : w ∈ tables_1_4) : w ∈ tables_1 := List.mem_append_right _ (List.mem_append_right _ (List.mem_append_right _ (List.mem_append_left _ h)))
theorem lw_t5 {w : Cond} (h : w ∈ tables_1_5) : w ∈ tables_1 := List.mem_append_right _ (List.mem_append_right _ (List.mem_append_right _ (List.mem_append_right _ (List.mem_append_left _ h))))
theorem lw_t6 {w : Cond} (h : w ∈ tables_1_6) : w ∈ tables_1 := List.mem_append_right _ (List.mem_append_right _ (List.mem_append_right _ (List.mem_append_right _ (List.mem_append_right _ (List.mem_append_left _ h)))))
theorem lw_t7 {w : Cond} (h : w ∈ tables_1_7) : w ∈ tables_1 := List.mem_append_right _ (List.mem_append_right _ (List.mem_append_right _ (List.mem_append_right _ (List.mem_append_right _ (List.mem_append_right _ (List.mem_append_left _ h))))))
theorem lw_t8 {w : Cond} (h : w ∈ tables_1_8) : w ∈ tables_1 := List.mem_append_right _ (List.mem_append_right _ (List.mem_append_right _ (List.mem_append_right _ (List.mem_append_right _ (List.mem_append_right _ (List.mem_append_right _ (List.mem_append_left _ h)))))))
theorem lw_t9 {w : Cond} (h : w ∈ tables_1_9) : w ∈ tables_1 := List.mem_append_right _ (List.mem_append_right _ (List.mem_append_right _ (List.mem_append_right _ (List.mem_append_right _ (List.mem_append_right _ (List.mem_append_right _ (List.mem_append_right _ (List.mem_append_left _ h))))))))
theorem lw_t10 {w : Cond} (h : w ∈ tables_1_10) : w ∈ tables_1 := List.mem_append_right _ (List.mem_append_right _ (List.mem_append_right _ (List.mem_append_right _ (List.mem_append_right _ (List.mem_append_right _ (List.mem_append_right _ (List.mem_append_right _ (List.mem_append_right _ h))))))))
theorem lw_p0 : lw_okq (⟨"java/lang/Throwable", "fillInStackTrace", "(I)Ljava/lang/Throwable;"⟩, 6) := ⟨⟨by decide +kernel, by decide +kernel⟩, lw_t1 (List.mem_of_getElem? (i := 77) rfl), lw_t1 (List.mem_of_getElem? (i := 75) rfl), lw_t1 (List.mem_of_getElem? (i := 76) rfl)⟩
theorem lw_p1 : lw_okq (⟨"PailRow", "four", "(I)V"⟩, 52) := ⟨⟨by decide +kernel, by decide +kernel⟩, lw_t1 (List.mem_of_getElem? (i := 34) rfl), lw_t3 (List.mem_of_getElem? (i := 236) rfl), lw_t3 (List.mem_of_getElem? (i := 237) rfl)⟩
theorem lw_p2 : lw_okq (⟨"PailRow", "taken", "()V"⟩, 52) := ⟨⟨by decide +kernel, by decide +kernel⟩, lw_t1 (List.mem_of_getElem? (i := 34) rfl), lw_t4 (List.mem_of_getElem? (i := 8) rfl), lw_t4 (List.mem_of_getElem? (i := 9) rfl)⟩
theorem lw_p3 : lw_okq (⟨"PailRow$YardReader", "line", "(I)V"⟩, 10) := ⟨⟨by decide +kernel, by decide +kernel⟩, lw_t2 (List.mem_of_getElem? (i := 37) rfl), lw_t4 (List.mem_of_getElem? (i := 128) rfl), lw_t4 (List.mem_of_getElem? (i := 129) rfl)⟩
theorem lw_p4 : lw_okq (⟨"PailRow$YardReader", "man", "()V"⟩, 10) := ⟨⟨by decide +kernel, by decide +kernel⟩, lw_t2 (List.mem_of_getElem? (i := 37) rfl), lw_t4 (List.mem_of_getElem? (i := 132) rfl), lw_t4 (List.mem_of_getElem? (i := 133) rfl)⟩
theorem lw_p5 : lw_okq (⟨"PailRow$YardReader", "cells", "()V"⟩, 10) := ⟨⟨by decide +kernel, by decide +kernel⟩, lw_t2 (List.mem_of_getElem? (i := 37) rfl), lw_t4 (List.mem_of_getElem? (i := 182) rfl), lw_t4 (List.mem_of_getElem? (i := 183) rfl)⟩
theorem lw_p6 : lw_okq (⟨"PailRow$YardReader", "burn", "()V"⟩, 10) := ⟨⟨by decide +kernel, by decide +kernel⟩, lw_t2 (List.mem_of_getElem? (i := 37) rfl), lw_t4 (List.mem_of_getElem? (i := 186) rfl), lw_t4 (List.mem_of_getElem? (i := 187) rfl)⟩
theorem lw_p7 : lw_okq (⟨"PailRow$PlanReader", "thing", "()LPailRow$Thing;"⟩, 10) := ⟨⟨by decide +kernel, by decide +kernel⟩, lw_t2 (List.mem_of_getElem? (i := 95) rfl), lw_t4 (List.mem_of_getElem? (i := 236) rfl), lw_t4 (List.mem_of_getElem? (i := 237) rfl)⟩
theorem lw_p8 : lw_okq (⟨"PailRow$PlanReader", "men", "(I)LPailRow$Thing;"⟩, 10) := ⟨⟨by decide +kernel, by decide +kernel⟩, lw_t2 (List.mem_of_getElem? (i := 95) rfl), lw_t5 (List.mem_of_getElem? (i := 3) rfl), lw_t5 (List.mem_of_getElem? (i := 4) rfl)⟩
theorem lw_p9 : lw_okq (⟨"PailRow", "areAsked", "(III)Z"⟩, 52) := ⟨⟨by decide +kernel, by decide +kernel⟩, lw_t1 (List.mem_of_getElem? (i := 34) rfl), lw_t5 (List.mem_of_getElem? (i := 56) rfl), lw_t5 (List.mem_of_getElem? (i := 57) rfl)⟩
theorem lw_p10 : lw_okq (⟨"PailRow", "one", "(I)I"⟩, 52) := ⟨⟨by decide +kernel, by decide +kernel⟩, lw_t1 (List.mem_of_getElem? (i := 34) rfl), lw_t5 (List.mem_of_getElem? (i := 61) rfl), lw_t5 (List.mem_of_getElem? (i := 62) rfl)⟩
theorem lw_p11 : lw_okq (⟨"PailRow", "isMan", "(I)Z"⟩, 52) := ⟨⟨by decide +kernel, by decide +kernel⟩, lw_t1 (List.mem_of_getElem? (i := 34) rfl), lw_t5 (List.mem_of_getElem? (i := 65) rfl), lw_t5 (List.mem_of_getElem? (i := 66) rfl)⟩
theorem lw_p12 : lw_okq (⟨"PailRow$Row", "ends", "(I)V"⟩, 19) := ⟨⟨by decide +kernel, by decide +kernel⟩, lw_t2 (List.mem_of_getElem? (i := 116) rfl), lw_t5 (List.mem_of_getElem? (i := 94) rfl), lw_t5 (List.mem_of_getElem? (i := 95) rfl)⟩
theorem lw_p13 : lw_okq (⟨"PailRow$Row", "starts", "(I)V"⟩, 19) := ⟨⟨by decide +kernel, by decide +kernel⟩, lw_t2 (List.mem_of_getElem? (i := 116) rfl), lw_t5 (List.mem_of_getElem? (i := 98) rfl), lw_t5 (List.mem_of_getElem? (i := 99) rfl)⟩
theorem lw_p14 : lw_okq (⟨"PailRow$Runners", "ends", "(I)V"⟩, 10) := ⟨⟨by decide +kernel, by decide +kernel⟩, lw_t2 (List.mem_of_getElem? (i := 211) rfl), lw_t5 (List.mem_of_getElem? (i := 130) rfl), lw_t5 (List.mem_of_getElem? (i := 131) rfl)⟩
theorem lw_p15 : lw_okq (⟨"PailRow", "keep", "()V"⟩, 52) := ⟨⟨by decide +kernel, by decide +kernel⟩, lw_t1 (List.mem_of_getElem? (i := 34) rfl), lw_t5 (List.mem_of_getElem? (i := 141) rfl), lw_t5 (List.mem_of_getElem? (i := 142) rfl)⟩
def lw_privs_1 : List (MethodName × Nat) := [(⟨"java/lang/Throwable", "fillInStackTrace", "(I)Ljava/lang/Throwable;"⟩, 6), (⟨"PailRow", "four", "(I)V"⟩, 52), (⟨"PailRow", "taken", "()V"⟩, 52), (⟨"PailRow$YardReader", "line", "(I)V"⟩, 10), (⟨"PailRow$YardReader", "man", "()V"⟩, 10), (⟨"PailRow$YardReader", "cells", "()V"⟩, 10), (⟨"PailRow$YardReader", "burn", "()V"⟩, 10), (⟨"PailRow$PlanReader", "thing", "()LPailRow$Thing;"⟩, 10), (⟨"PailRow$PlanReader", "men", "(I)LPailRow$Thing;"⟩, 10), (⟨"PailRow", "areAsked", "(III)Z"⟩, 52), (⟨"PailRow", "one", "(I)I"⟩, 52), (⟨"PailRow", "isMan", "(I)Z"⟩, 52), (⟨"PailRow$Row", "ends", "(I)V"⟩, 19), (⟨"PailRow$Row", "starts", "(I)V"⟩, 19), (⟨"PailRow$Runners", "ends", "(I)V"⟩, 10), (⟨"PailRow", "keep", "()V"⟩, 52)]
theorem lw_r1 : ∀ q ∈ lw_privs_1, lw_okq q := List.forall_mem_cons.mpr ⟨lw_p0, List.forall_mem_cons.mpr ⟨lw_p1, List.forall_mem_cons.mpr ⟨lw_p2, List.forall_mem_cons.mpr ⟨lw_p3, List.forall_mem_cons.mpr ⟨lw_p4, List.forall_mem_cons.mpr ⟨lw_p5, List.forall_mem_cons.mpr ⟨lw_p6, List.forall_mem_cons.mpr ⟨lw_p7, List.forall_mem_cons.mpr ⟨lw_p8, List.forall_mem_cons.mpr ⟨lw_p9, List.forall_mem_cons.mpr ⟨lw_p10, List.forall_mem_cons.mpr ⟨lw_p11, List.forall_mem_cons.mpr ⟨lw_p12, List.forall_mem_cons.mpr ⟨lw_p13, List.forall_mem_cons.mpr ⟨lw_p14, List.forall_mem_cons.mpr ⟨lw_p15, fun _ h => absurd h List.not_mem_nil⟩⟩⟩⟩⟩⟩⟩⟩⟩⟩⟩⟩⟩⟩⟩⟩
theorem lw_p16 : lw_okq (⟨"PailRow", "orders", "(II)V"⟩, 52) := ⟨⟨by decide +kernel, by decide +kernel⟩, lw_t1 (List.mem_of_getElem? (i := 34) rfl), lw_t5 (List.mem_of_getElem? (i := 171) rfl), lw_t5 (List.mem_of_getElem? (i := 172) rfl)⟩
theorem lw_p17 : lw_okq (⟨"PailRow", "runs", "([III)I"⟩, 52) := ⟨⟨by decide +kernel, by decide +kernel⟩, lw_t1 (List.mem_of_getElem? (i := 34) rfl), lw_t5 (List.mem_of_getElem? (i := 183) rfl), lw_t5 (List.mem_of_getElem? (i := 184) rfl)⟩
theorem lw_p18 : lw_okq (⟨"PailRow", "rows", "([IIII)I"⟩, 52) := ⟨⟨by decide +kernel, by decide +kernel⟩, lw_t1 (List.mem_of_getElem? (i := 34) rfl), lw_t5 (List.mem_of_getElem? (i := 200) rfl), lw_t5 (List.mem_of_getElem? (i := 201) rfl)⟩
theorem lw_p19 : lw_okq (⟨"PailRow", "slowest", "()I"⟩, 52) := ⟨⟨by decide +kernel, by decide +kernel⟩, lw_t1 (List.mem_of_getElem? (i := 34) rfl), lw_t5 (List.mem_of_getElem? (i := 208) rfl), lw_t5 (List.mem_of_getElem? (i := 209) rfl)⟩
theorem lw_p20 : lw_okq (⟨"PailRow", "timeBy", "(I)I"⟩, 52) := ⟨⟨by decide +kernel, by decide +kernel⟩, lw_t1 (List.mem_of_getElem? (i := 34) rfl), lw_t5 (List.mem_of_getElem? (i := 212) rfl), lw_t5 (List.mem_of_getElem? (i := 213) rfl)⟩
theorem lw_p21 : lw_okq (⟨"PailRow", "relieves", "(I)Z"⟩, 52) := ⟨⟨by decide +kernel, by decide +kernel⟩, lw_t1 (List.mem_of_getElem? (i := 34) rfl), lw_t5 (List.mem_of_getElem? (i := 226) rfl), lw_t5 (List.mem_of_getElem? (i := 227) rfl)⟩
theorem lw_p22 : lw_okq (⟨"PailRow", "hang", "(III)V"⟩, 52) := ⟨⟨by decide +kernel, by decide +kernel⟩, lw_t1 (List.mem_of_getElem? (i := 34) rfl), lw_t5 (List.mem_of_getElem? (i := 235) rfl), lw_t5 (List.mem_of_getElem? (i := 236) rfl)⟩
theorem lw_p23 : lw_okq (⟨"PailRow", "wayBy", "(I)I"⟩, 52) := ⟨⟨by decide +kernel, by decide +kernel⟩, lw_t1 (List.mem_of_getElem? (i := 34) rfl), lw_t5 (List.mem_of_getElem? (i := 239) rfl), lw_t6 (List.mem_of_getElem? (i := 0) rfl)⟩
theorem lw_p24 : lw_okq (⟨"PailRow$Barn", "hottest", "()I"⟩, 6) := ⟨⟨by decide +kernel, by decide +kernel⟩, lw_t2 (List.mem_of_getElem? (i := 236) rfl), lw_t6 (List.mem_of_getElem? (i := 36) rfl), lw_t6 (List.mem_of_getElem? (i := 37) rfl)⟩
theorem lw_p25 : lw_okq (⟨"PailRow$Barn", "gives", "(III)I"⟩, 6) := ⟨⟨by decide +kernel, by decide +kernel⟩, lw_t2 (List.mem_of_getElem? (i := 236) rfl), lw_t6 (List.mem_of_getElem? (i := 44) rfl), lw_t6 (List.mem_of_getElem? (i := 45) rfl)⟩
theorem lw_p26 : lw_okq (⟨"PailRow", "tries", "(III)V"⟩, 52) := ⟨⟨by decide +kernel, by decide +kernel⟩, lw_t1 (List.mem_of_getElem? (i := 34) rfl), lw_t6 (List.mem_of_getElem? (i := 66) rfl), lw_t6 (List.mem_of_getElem? (i := 67) rfl)⟩
theorem lw_p27 : lw_okq (⟨"PailRow", "next", "(IIIII)V"⟩, 52) := ⟨⟨by decide +kernel, by decide +kernel⟩, lw_t1 (List.mem_of_getElem? (i := 34) rfl), lw_t6 (List.mem_of_getElem? (i := 70) rfl), lw_t6 (List.mem_of_getElem? (i := 71) rfl)⟩
theorem lw_p28 : lw_okq (⟨"PailRow", "lostBy", "(II)I"⟩, 52) := ⟨⟨by decide +kernel, by decide +kernel⟩, lw_t1 (List.mem_of_getElem? (i := 34) rfl), lw_t6 (List.mem_of_getElem? (i := 82) rfl), lw_t6 (List.mem_of_getElem? (i := 83) rfl)⟩
theorem lw_p29 : lw_okq (⟨"PailRow", "nights", "()V"⟩, 52) := ⟨⟨by decide +kernel, by decide +kernel⟩, lw_t1 (List.mem_of_getElem? (i := 34) rfl), lw_t6 (List.mem_of_getElem? (i := 98) rfl), lw_t6 (List.mem_of_getElem? (i := 99) rfl)⟩
theorem lw_p30 : lw_okq (⟨"PailRow$SentenceReader", "any", "(I)LPailRow$Cond;"⟩, 11) := ⟨⟨by decide +kernel, by decide +kernel⟩, lw_t3 (List.mem_of_getElem? (i := 27) rfl), lw_t6 (List.mem_of_getElem? (i := 115) rfl), lw_t6 (List.mem_of_getElem? (i := 116) rfl)⟩
theorem lw_p31 : lw_okq (⟨"PailRow$SentenceReader", "both", "(I)LPailRow$Cond;"⟩, 11) := ⟨⟨by decide +kernel, by decide +kernel⟩, lw_t3 (List.mem_of_getElem? (i := 27) rfl), lw_t6 (List.mem_of_getElem? (i := 119) rfl), lw_t6 (List.mem_of_getElem? (i := 120) rfl)⟩
def lw_privs_2 : List (MethodName × Nat) := [(⟨"PailRow", "orders", "(II)V"⟩, 52), (⟨"PailRow", "runs", "([III)I"⟩, 52), (⟨"PailRow", "rows", "([IIII)I"⟩, 52), (⟨"PailRow", "slowest", "()I"⟩, 52), (⟨"PailRow", "timeBy", "(I)I"⟩, 52), (⟨"PailRow", "relieves", "(I)Z"⟩, 52), (⟨"PailRow", "hang", "(III)V"⟩, 52), (⟨"PailRow", "wayBy", "(I)I"⟩, 52), (⟨"PailRow$Barn", "hottest", "()I"⟩, 6), (⟨"PailRow$Barn", "gives", "(III)I"⟩, 6), (⟨"PailRow", "tries", "(III)V"⟩, 52), (⟨"PailRow", "next", "(IIIII)V"⟩, 52), (⟨"PailRow", "lostBy", "(II)I"⟩, 52), (⟨"PailRow", "nights", "()V"⟩, 52), (⟨"PailRow$SentenceReader", "any", "(I)LPailRow$Cond;"⟩, 11), (⟨"PailRow$SentenceReader", "both", "(I)LPailRow$Cond;"⟩, 11)]
theorem lw_r2 : ∀ q ∈ lw_privs_2, lw_okq q := List.forall_mem_cons.mpr ⟨lw_p16, List.forall_mem_cons.mpr ⟨lw_p17, List.forall_mem_cons.mpr ⟨lw_p18, List.forall_mem_cons.mpr ⟨lw_p19, List.forall_mem_cons.mpr ⟨lw_p20, List.forall_mem_cons.mpr ⟨lw_p21, List.forall_mem_cons.mpr ⟨lw_p22, List.forall_mem_cons.mpr ⟨lw_p23, List.forall_mem_cons.mpr ⟨lw_p24, List.forall_mem_cons.mpr ⟨lw_p25, List.forall_mem_cons.mpr ⟨lw_p26, List.forall_mem_cons.mpr ⟨lw_p27, List.forall_mem_cons.mpr ⟨lw_p28, List.forall_mem_cons.mpr ⟨lw_p29, List.forall_mem_cons.mpr ⟨lw_p30, List.forall_mem_cons.mpr ⟨lw_p31, fun _ h => absurd h List.not_mem_nil⟩⟩⟩⟩⟩⟩⟩⟩⟩⟩⟩⟩⟩⟩⟩⟩
theorem lw_p32 : lw_okq (⟨"PailRow$SentenceReader", "single", "(I)LPailRow$Cond;"⟩, 11) := ⟨⟨by decide +kernel, by decide +kernel⟩, lw_t3 (List.mem_of_getElem? (i := 27) rfl), lw_t6 (List.mem_of_getElem? (i := 123) rfl), lw_t6 (List.mem_of_getElem? (i := 124) rfl)⟩
theorem lw_p33 : lw_okq (⟨"PailRow$SentenceReader", "counts", "(I)LPailRow$Cond;"⟩, 11) := ⟨⟨by decide +kernel, by decide +kernel⟩, lw_t3 (List.mem_of_getElem? (i := 27) rfl), lw_t6 (List.mem_of_getElem? (i := 161) rfl), lw_t6 (List.mem_of_getElem? (i := 162) rfl)⟩
theorem lw_p34 : lw_okq (⟨"PailRow$Counts", "of", "(LPailRow;I)I"⟩, 3) := ⟨⟨by decide +kernel, by decide +kernel⟩, lw_t6 (List.mem_of_getElem? (i := 165) rfl), lw_t6 (List.mem_of_getElem? (i := 232) rfl), lw_t6 (List.mem_of_getElem? (i := 233) rfl)⟩
theorem lw_p35 : lw_okq (⟨"PailRowModel", "come", "(I)V"⟩, 91) := ⟨⟨by decide +kernel, by decide +kernel⟩, lw_t7 (List.mem_of_getElem? (i := 69) rfl), lw_t8 (List.mem_of_getElem? (i := 118) rfl), lw_t8 (List.mem_of_getElem? (i := 119) rfl)⟩
theorem lw_p36 : lw_okq (⟨"PailRowModel", "begin", "(I)V"⟩, 91) := ⟨⟨by decide +kernel, by decide +kernel⟩, lw_t7 (List.mem_of_getElem? (i := 69) rfl), lw_t8 (List.mem_of_getElem? (i := 130) rfl), lw_t8 (List.mem_of_getElem? (i := 131) rfl)⟩
theorem lw_p37 : lw_okq (⟨"PailRowModel", "lay", "()V"⟩, 91) := ⟨⟨by decide +kernel, by decide +kernel⟩, lw_t7 (List.mem_of_getElem? (i := 69) rfl), lw_t8 (List.mem_of_getElem? (i := 134) rfl), lw_t8 (List.mem_of_getElem? (i := 135) rfl)⟩
theorem lw_p38 : lw_okq (⟨"PailRowModel", "take", "()I"⟩, 91) := ⟨⟨by decide +kernel, by decide +kernel⟩, lw_t7 (List.mem_of_getElem? (i := 69) rfl), lw_t8 (List.mem_of_getElem? (i := 141) rfl), lw_t8 (List.mem_of_getElem? (i := 142) rfl)⟩
theorem lw_p39 : lw_okq (⟨"PailRowModel", "go", "()V"⟩, 91) := ⟨⟨by decide +kernel, by decide +kernel⟩, lw_t7 (List.mem_of_getElem? (i := 69) rfl), lw_t8 (List.mem_of_getElem? (i := 145) rfl), lw_t8 (List.mem_of_getElem? (i := 146) rfl)⟩
theorem lw_p40 : lw_okq (⟨"PailRowModel", "byteAt", "(I)I"⟩, 91) := ⟨⟨by decide +kernel, by decide +kernel⟩, lw_t7 (List.mem_of_getElem? (i := 69) rfl), lw_t8 (List.mem_of_getElem? (i := 155) rfl), lw_t8 (List.mem_of_getElem? (i := 156) rfl)⟩
theorem lw_p41 : lw_okq (⟨"PailRowModel", "readLine", "()Z"⟩, 91) := ⟨⟨by decide +kernel, by decide +kernel⟩, lw_t7 (List.mem_of_getElem? (i := 69) rfl), lw_t8 (List.mem_of_getElem? (i := 161) rfl), lw_t8 (List.mem_of_getElem? (i := 162) rfl)⟩
theorem lw_p42 : lw_okq (⟨"PailRowModel", "isWord", "(I)Z"⟩, 91) := ⟨⟨by decide +kernel, by decide +kernel⟩, lw_t7 (List.mem_of_getElem? (i := 69) rfl), lw_t8 (List.mem_of_getElem? (i := 165) rfl), lw_t8 (List.mem_of_getElem? (i := 166) rfl)⟩
theorem lw_p43 : lw_okq (⟨"PailRowModel", "bad", "(I)Z"⟩, 91) := ⟨⟨by decide +kernel, by decide +kernel⟩, lw_t7 (List.mem_of_getElem? (i := 69) rfl), lw_t8 (List.mem_of_getElem? (i := 178) rfl), lw_t8 (List.mem_of_getElem? (i := 179) rfl)⟩
theorem lw_p44 : lw_okq (⟨"PailRowModel", "readMan", "()Z"⟩, 91) := ⟨⟨by decide +kernel, by decide +kernel⟩, lw_t7 (List.mem_of_getElem? (i := 69) rfl), lw_t8 (List.mem_of_getElem? (i := 182) rfl), lw_t8 (List.mem_of_getElem? (i := 183) rfl)⟩
theorem lw_p45 : lw_okq (⟨"PailRowModel", "isName", "()Z"⟩, 91) := ⟨⟨by decide +kernel, by decide +kernel⟩, lw_t7 (List.mem_of_getElem? (i := 69) rfl), lw_t8 (List.mem_of_getElem? (i := 186) rfl), lw_t8 (List.mem_of_getElem? (i := 187) rfl)⟩
theorem lw_p46 : lw_okq (⟨"PailRowModel", "readNumber", "(II)Z"⟩, 91) := ⟨⟨by decide +kernel, by decide +kernel⟩, lw_t7 (List.mem_of_getElem? (i := 69) rfl), lw_t8 (List.mem_of_getElem? (i := 190) rfl), lw_t8 (List.mem_of_getElem? (i := 191) rfl)⟩
theorem lw_p47 : lw_okq (⟨"PailRowModel", "readCells", "()Z"⟩, 91) := ⟨⟨by decide +kernel, by decide +kernel⟩, lw_t7 (List.mem_of_getElem? (i := 69) rfl), lw_t8 (List.mem_of_getElem? (i := 197) rfl), lw_t8 (List.mem_of_getElem? (i := 198) rfl)⟩
def lw_privs_3 : List (MethodName × Nat) := [(⟨"PailRow$SentenceReader", "single", "(I)LPailRow$Cond;"⟩, 11), (⟨"PailRow$SentenceReader", "counts", "(I)LPailRow$Cond;"⟩, 11), (⟨"PailRow$Counts", "of", "(LPailRow;I)I"⟩, 3), (⟨"PailRowModel", "come", "(I)V"⟩, 91), (⟨"PailRowModel", "begin", "(I)V"⟩, 91), (⟨"PailRowModel", "lay", "()V"⟩, 91), (⟨"PailRowModel", "take", "()I"⟩, 91), (⟨"PailRowModel", "go", "()V"⟩, 91), (⟨"PailRowModel", "byteAt", "(I)I"⟩, 91), (⟨"PailRowModel", "readLine", "()Z"⟩, 91), (⟨"PailRowModel", "isWord", "(I)Z"⟩, 91), (⟨"PailRowModel", "bad", "(I)Z"⟩, 91), (⟨"PailRowModel", "readMan", "()Z"⟩, 91), (⟨"PailRowModel", "isName", "()Z"⟩, 91), (⟨"PailRowModel", "readNumber", "(II)Z"⟩, 91), (⟨"PailRowModel", "readCells", "()Z"⟩, 91)]
theorem lw_r3 : ∀ q ∈ lw_privs_3, lw_okq q := List.forall_mem_cons.mpr ⟨lw_p32, List.forall_mem_cons.mpr ⟨lw_p33, List.forall_mem_cons.mpr ⟨lw_p34, List.forall_mem_cons.mpr ⟨lw_p35, List.forall_mem_cons.mpr ⟨lw_p36, List.forall_mem_cons.mpr ⟨lw_p37, List.forall_mem_cons.mpr ⟨lw_p38, List.forall_mem_cons.mpr ⟨lw_p39, List.forall_mem_cons.mpr ⟨lw_p40, List.forall_mem_cons.mpr ⟨lw_p41, List.forall_mem_cons.mpr ⟨lw_p42, List.forall_mem_cons.mpr ⟨lw_p43, List.forall_mem_cons.mpr ⟨lw_p44, List.forall_mem_cons.mpr ⟨lw_p45, List.forall_mem_cons.mpr ⟨lw_p46, List.forall_mem_cons.mpr ⟨lw_p47, fun _ h => absurd h List.not_mem_nil⟩⟩⟩⟩⟩⟩⟩⟩⟩⟩⟩⟩⟩⟩⟩⟩
theorem lw_p48 : lw_okq (⟨"PailRowModel", "readBurn", "()Z"⟩, 91) := ⟨⟨by decide +kernel, by decide +kernel⟩, lw_t7 (List.mem_of_getElem? (i := 69) rfl), lw_t8 (List.mem_of_getElem? (i := 201) rfl), lw_t8 (List.mem_of_getElem? (i := 202) rfl)⟩
theorem lw_p49 : lw_okq (⟨"PailRowModel", "readOnce", "(I)Z"⟩, 91) := ⟨⟨by decide +kernel, by decide +kernel⟩, lw_t7 (List.mem_of_getElem? (i := 69) rfl), lw_t8 (List.mem_of_getElem? (i := 205) rfl), lw_t8 (List.mem_of_getElem? (i := 206) rfl)⟩
theorem lw_p50 : lw_okq (⟨"PailRowModel", "readInto", "(III)Z"⟩, 91) := ⟨⟨by decide +kernel, by decide +kernel⟩, lw_t7 (List.mem_of_getElem? (i := 69) rfl), lw_t8 (List.mem_of_getElem? (i := 212) rfl), lw_t8 (List.mem_of_getElem? (i := 213) rfl)⟩
theorem lw_p51 : lw_okq (⟨"PailRowModel", "readEnd", "()Z"⟩, 91) := ⟨⟨by decide +kernel, by decide +kernel⟩, lw_t7 (List.mem_of_getElem? (i := 69) rfl), lw_t8 (List.mem_of_getElem? (i := 216) rfl), lw_t8 (List.mem_of_getElem? (i := 217) rfl)⟩
theorem lw_p52 : lw_okq (⟨"PailRowModel", "isSign", "(I)Z"⟩, 91) := ⟨⟨by decide +kernel, by decide +kernel⟩, lw_t7 (List.mem_of_getElem? (i := 69) rfl), lw_t8 (List.mem_of_getElem? (i := 220) rfl), lw_t8 (List.mem_of_getElem? (i := 221) rfl)⟩
theorem lw_p53 : lw_okq (⟨"PailRowModel", "men", "()I"⟩, 91) := ⟨⟨by decide +kernel, by decide +kernel⟩, lw_t7 (List.mem_of_getElem? (i := 69) rfl), lw_t8 (List.mem_of_getElem? (i := 232) rfl), lw_t8 (List.mem_of_getElem? (i := 233) rfl)⟩
theorem lw_p54 : lw_okq (⟨"PailRowModel", "refuse", "()I"⟩, 91) := ⟨⟨by decide +kernel, by decide +kernel⟩, lw_t7 (List.mem_of_getElem? (i := 69) rfl), lw_t8 (List.mem_of_getElem? (i := 236) rfl), lw_t8 (List.mem_of_getElem? (i := 237) rfl)⟩
theorem lw_p55 : lw_okq (⟨"PailRowModel", "manOf", "(II)I"⟩, 91) := ⟨⟨by decide +kernel, by decide +kernel⟩, lw_t7 (List.mem_of_getElem? (i := 69) rfl), lw_t9 (List.mem_of_getElem? (i := 0) rfl), lw_t9 (List.mem_of_getElem? (i := 1) rfl)⟩
theorem lw_p56 : lw_okq (⟨"PailRowModel", "columns", "()I"⟩, 91) := ⟨⟨by decide +kernel, by decide +kernel⟩, lw_t7 (List.mem_of_getElem? (i := 69) rfl), lw_t9 (List.mem_of_getElem? (i := 8) rfl), lw_t9 (List.mem_of_getElem? (i := 9) rfl)⟩
theorem lw_p57 : lw_okq (⟨"PailRowModel", "takesTeam", "(IIZ)Z"⟩, 91) := ⟨⟨by decide +kernel, by decide +kernel⟩, lw_t7 (List.mem_of_getElem? (i := 69) rfl), lw_t9 (List.mem_of_getElem? (i := 16) rfl), lw_t9 (List.mem_of_getElem? (i := 17) rfl)⟩
theorem lw_p58 : lw_okq (⟨"PailRowModel", "throwsIn", "(IIII)I"⟩, 91) := ⟨⟨by decide +kernel, by decide +kernel⟩, lw_t7 (List.mem_of_getElem? (i := 69) rfl), lw_t9 (List.mem_of_getElem? (i := 20) rfl), lw_t9 (List.mem_of_getElem? (i := 21) rfl)⟩
theorem lw_p59 : lw_okq (⟨"PailRowModel", "start", "(II)V"⟩, 91) := ⟨⟨by decide +kernel, by decide +kernel⟩, lw_t7 (List.mem_of_getElem? (i := 69) rfl), lw_t9 (List.mem_of_getElem? (i := 24) rfl), lw_t9 (List.mem_of_getElem? (i := 25) rfl)⟩
theorem lw_p60 : lw_okq (⟨"PailRowModel", "teamTick", "()V"⟩, 91) := ⟨⟨by decide +kernel, by decide +kernel⟩, lw_t7 (List.mem_of_getElem? (i := 69) rfl), lw_t9 (List.mem_of_getElem? (i := 28) rfl), lw_t9 (List.mem_of_getElem? (i := 29) rfl)⟩
theorem lw_p61 : lw_okq (⟨"PailRowModel", "rowTick", "()V"⟩, 91) := ⟨⟨by decide +kernel, by decide +kernel⟩, lw_t7 (List.mem_of_getElem? (i := 69) rfl), lw_t9 (List.mem_of_getElem? (i := 32) rfl), lw_t9 (List.mem_of_getElem? (i := 33) rfl)⟩
theorem lw_p62 : lw_okq (⟨"PailRowModel", "finishes", "(I)V"⟩, 91) := ⟨⟨by decide +kernel, by decide +kernel⟩, lw_t7 (List.mem_of_getElem? (i := 69) rfl), lw_t9 (List.mem_of_getElem? (i := 36) rfl), lw_t9 (List.mem_of_getElem? (i := 37) rfl)⟩
theorem lw_p63 : lw_okq (⟨"PailRowModel", "push", "(II)V"⟩, 91) := ⟨⟨by decide +kernel, by decide +kernel⟩, lw_t7 (List.mem_of_getElem? (i := 69) rfl), lw_t9 (List.mem_of_getElem? (i := 40) rfl), lw_t9 (List.mem_of_getElem? (i := 41) rfl)⟩
def lw_privs_4 : List (MethodName × Nat) := [(⟨"PailRowModel", "readBurn", "()Z"⟩, 91), (⟨"PailRowModel", "readOnce", "(I)Z"⟩, 91), (⟨"PailRowModel", "readInto", "(III)Z"⟩, 91), (⟨"PailRowModel", "readEnd", "()Z"⟩, 91), (⟨"PailRowModel", "isSign", "(I)Z"⟩, 91), (⟨"PailRowModel", "men", "()I"⟩, 91), (⟨"PailRowModel", "refuse", "()I"⟩, 91), (⟨"PailRowModel", "manOf", "(II)I"⟩, 91), (⟨"PailRowModel", "columns", "()I"⟩, 91), (⟨"PailRowModel", "takesTeam", "(IIZ)Z"⟩, 91), (⟨"PailRowModel", "throwsIn", "(IIII)I"⟩, 91), (⟨"PailRowModel", "start", "(II)V"⟩, 91), (⟨"PailRowModel", "teamTick", "()V"⟩, 91), (⟨"PailRowModel", "rowTick", "()V"⟩, 91), (⟨"PailRowModel", "finishes", "(I)V"⟩, 91), (⟨"PailRowModel", "push", "(II)V"⟩, 91)]
theorem lw_r4 : ∀ q ∈ lw_privs_4, lw_okq q := List.forall_mem_cons.mpr ⟨lw_p48, List.forall_mem_cons.mpr ⟨lw_p49, List.forall_mem_cons.mpr ⟨lw_p50, List.forall_mem_cons.mpr ⟨lw_p51, List.forall_mem_cons.mpr ⟨lw_p52, List.forall_mem_cons.mpr ⟨lw_p53, List.forall_mem_cons.mpr ⟨lw_p54, List.forall_mem_cons.mpr ⟨lw_p55, List.forall_mem_cons.mpr ⟨lw_p56, List.forall_mem_cons.mpr ⟨lw_p57, List.forall_mem_cons.mpr ⟨lw_p58, List.forall_mem_cons.mpr ⟨lw_p59, List.forall_mem_cons.mpr ⟨lw_p60, List.forall_mem_cons.mpr ⟨lw_p61, List.forall_mem_cons.mpr ⟨lw_p62, List.forall_mem_cons.mpr ⟨lw_p63, fun _ h => absurd h List.not_mem_nil⟩⟩⟩⟩⟩⟩⟩⟩⟩⟩⟩⟩⟩⟩⟩⟩
theorem lw_p64 : lw_okq (⟨"PailRowModel", "takesUp", "(I)V"⟩, 91) := ⟨⟨by decide +kernel, by decide +kernel⟩, lw_t7 (List.mem_of_getElem? (i := 69) rfl), lw_t9 (List.mem_of_getElem? (i := 44) rfl), lw_t9 (List.mem_of_getElem? (i := 45) rfl)⟩
theorem lw_p65 : lw_okq (⟨"PailRowModel", "draws", "()I"⟩, 91) := ⟨⟨by decide +kernel, by decide +kernel⟩, lw_t7 (List.mem_of_getElem? (i := 69) rfl), lw_t9 (List.mem_of_getElem? (i := 48) rfl), lw_t9 (List.mem_of_getElem? (i := 49) rfl)⟩
theorem lw_p66 : lw_okq (⟨"PailRowModel", "shift", "(I)I"⟩, 91) := ⟨⟨by decide +kernel, by decide +kernel⟩, lw_t7 (List.mem_of_getElem? (i := 69) rfl), lw_t9 (List.mem_of_getElem? (i := 52) rfl), lw_t9 (List.mem_of_getElem? (i := 53) rfl)⟩
theorem lw_p67 : lw_okq (⟨"PailRowModel", "timeOf", "(III)I"⟩, 91) := ⟨⟨by decide +kernel, by decide +kernel⟩, lw_t7 (List.mem_of_getElem? (i := 69) rfl), lw_t9 (List.mem_of_getElem? (i := 56) rfl), lw_t9 (List.mem_of_getElem? (i := 57) rfl)⟩
theorem lw_p68 : lw_okq (⟨"PailRowModel", "yards", "(I)I"⟩, 91) := ⟨⟨by decide +kernel, by decide +kernel⟩, lw_t7 (List.mem_of_getElem? (i := 69) rfl), lw_t9 (List.mem_of_getElem? (i := 60) rfl), lw_t9 (List.mem_of_getElem? (i := 61) rfl)⟩
theorem lw_p69 : lw_okq (⟨"PailRowModel", "runTick", "()V"⟩, 91) := ⟨⟨by decide +kernel, by decide +kernel⟩, lw_t7 (List.mem_of_getElem? (i := 69) rfl), lw_t9 (List.mem_of_getElem? (i := 67) rfl), lw_t9 (List.mem_of_getElem? (i := 68) rfl)⟩
theorem lw_p70 : lw_okq (⟨"PailRowModel", "isDrawn", "()Z"⟩, 91) := ⟨⟨by decide +kernel, by decide +kernel⟩, lw_t7 (List.mem_of_getElem? (i := 69) rfl), lw_t9 (List.mem_of_getElem? (i := 71) rfl), lw_t9 (List.mem_of_getElem? (i := 72) rfl)⟩
theorem lw_p71 : lw_okq (⟨"PailRowModel", "periodOf", "(I)I"⟩, 91) := ⟨⟨by decide +kernel, by decide +kernel⟩, lw_t7 (List.mem_of_getElem? (i := 69) rfl), lw_t9 (List.mem_of_getElem? (i := 87) rfl), lw_t9 (List.mem_of_getElem? (i := 88) rfl)⟩
theorem lw_p72 : lw_okq (⟨"PailRowModel", "tryOrder", "(III)V"⟩, 91) := ⟨⟨by decide +kernel, by decide +kernel⟩, lw_t7 (List.mem_of_getElem? (i := 69) rfl), lw_t9 (List.mem_of_getElem? (i := 95) rfl), lw_t9 (List.mem_of_getElem? (i := 96) rfl)⟩
theorem lw_p73 : lw_okq (⟨"PailRowModel", "longest", "(I)I"⟩, 91) := ⟨⟨by decide +kernel, by decide +kernel⟩, lw_t7 (List.mem_of_getElem? (i := 69) rfl), lw_t9 (List.mem_of_getElem? (i := 119) rfl), lw_t9 (List.mem_of_getElem? (i := 120) rfl)⟩
theorem lw_p74 : lw_okq (⟨"PailRowModel", "shared", "(II)I"⟩, 91) := ⟨⟨by decide +kernel, by decide +kernel⟩, lw_t7 (List.mem_of_getElem? (i := 69) rfl), lw_t9 (List.mem_of_getElem? (i := 123) rfl), lw_t9 (List.mem_of_getElem? (i := 124) rfl)⟩
theorem lw_p75 : lw_okq (⟨"PailRowModel", "canThrow", "(I)Z"⟩, 91) := ⟨⟨by decide +kernel, by decide +kernel⟩, lw_t7 (List.mem_of_getElem? (i := 69) rfl), lw_t9 (List.mem_of_getElem? (i := 135) rfl), lw_t9 (List.mem_of_getElem? (i := 136) rfl)⟩
theorem lw_p76 : lw_okq (⟨"PailRowModel", "tryHooks", "(III)V"⟩, 91) := ⟨⟨by decide +kernel, by decide +kernel⟩, lw_t7 (List.mem_of_getElem? (i := 69) rfl), lw_t9 (List.mem_of_getElem? (i := 143) rfl), lw_t9 (List.mem_of_getElem? (i := 144) rfl)⟩
theorem lw_p77 : lw_okq (⟨"PailRowModel", "isAim", "(I)Z"⟩, 91) := ⟨⟨by decide +kernel, by decide +kernel⟩, lw_t7 (List.mem_of_getElem? (i := 69) rfl), lw_t9 (List.mem_of_getElem? (i := 155) rfl), lw_t9 (List.mem_of_getElem? (i := 156) rfl)⟩
theorem lw_p78 : lw_okq (⟨"PailRowModel", "light", "()V"⟩, 91) := ⟨⟨by decide +kernel, by decide +kernel⟩, lw_t7 (List.mem_of_getElem? (i := 69) rfl), lw_t9 (List.mem_of_getElem? (i := 159) rfl), lw_t9 (List.mem_of_getElem? (i := 160) rfl)⟩
theorem lw_p79 : lw_okq (⟨"PailRowModel", "cells", "()I"⟩, 91) := ⟨⟨by decide +kernel, by decide +kernel⟩, lw_t7 (List.mem_of_getElem? (i := 69) rfl), lw_t9 (List.mem_of_getElem? (i := 163) rfl), lw_t9 (List.mem_of_getElem? (i := 164) rfl)⟩
def lw_privs_5 : List (MethodName × Nat) := [(⟨"PailRowModel", "takesUp", "(I)V"⟩, 91), (⟨"PailRowModel", "draws", "()I"⟩, 91), (⟨"PailRowModel", "shift", "(I)I"⟩, 91), (⟨"PailRowModel", "timeOf", "(III)I"⟩, 91), (⟨"PailRowModel", "yards", "(I)I"⟩, 91), (⟨"PailRowModel", "runTick", "()V"⟩, 91), (⟨"PailRowModel", "isDrawn", "()Z"⟩, 91), (⟨"PailRowModel", "periodOf", "(I)I"⟩, 91), (⟨"PailRowModel", "tryOrder", "(III)V"⟩, 91), (⟨"PailRowModel", "longest", "(I)I"⟩, 91), (⟨"PailRowModel", "shared", "(II)I"⟩, 91), (⟨"PailRowModel", "canThrow", "(I)Z"⟩, 91), (⟨"PailRowModel", "tryHooks", "(III)V"⟩, 91), (⟨"PailRowModel", "isAim", "(I)Z"⟩, 91), (⟨"PailRowModel", "light", "()V"⟩, 91), (⟨"PailRowModel", "cells", "()I"⟩, 91)]
theorem lw_r5 : ∀ q ∈ lw_privs_5, lw_okq q := List.forall_mem_cons.mpr ⟨lw_p64, List.forall_mem_cons.mpr ⟨lw_p65, List.forall_mem_cons.mpr ⟨lw_p66, List.forall_mem_cons.mpr ⟨lw_p67, List.forall_mem_cons.mpr ⟨lw_p68, List.forall_mem_cons.mpr ⟨lw_p69, List.forall_mem_cons.mpr ⟨lw_p70, List.forall_mem_cons.mpr ⟨lw_p71, List.forall_mem_cons.mpr ⟨lw_p72, List.forall_mem_cons.mpr ⟨lw_p73, List.forall_mem_cons.mpr ⟨lw_p74, List.forall_mem_cons.mpr ⟨lw_p75, List.forall_mem_cons.mpr ⟨lw_p76, List.forall_mem_cons.mpr ⟨lw_p77, List.forall_mem_cons.mpr ⟨lw_p78, List.forall_mem_cons.mpr ⟨lw_p79, fun _ h => absurd h List.not_mem_nil⟩⟩⟩⟩⟩⟩⟩⟩⟩⟩⟩⟩⟩⟩⟩⟩
theorem lw_p80 : lw_okq (⟨"PailRowModel", "fires", "(IIII)V"⟩, 91) := ⟨⟨by decide +kernel, by decide +kernel⟩, lw_t7 (List.mem_of_getElem? (i := 69) rfl), lw_t9 (List.mem_of_getElem? (i := 167) rfl), lw_t9 (List.mem_of_getElem? (i := 168) rfl)⟩
theorem lw_p81 : lw_okq (⟨"PailRowModel", "burning", "()I"⟩, 91) := ⟨⟨by decide +kernel, by decide +kernel⟩, lw_t7 (List.mem_of_getElem? (i := 69) rfl), lw_t9 (List.mem_of_getElem? (i := 171) rfl), lw_t9 (List.mem_of_getElem? (i := 172) rfl)⟩
theorem lw_p82 : lw_okq (⟨"PailRowModel", "aimed", "(I[I[II)I"⟩, 91) := ⟨⟨by decide +kernel, by decide +kernel⟩, lw_t7 (List.mem_of_getElem? (i := 69) rfl), lw_t9 (List.mem_of_getElem? (i := 175) rfl), lw_t9 (List.mem_of_getElem? (i := 176) rfl)⟩
theorem lw_p83 : lw_okq (⟨"PailRowModel", "heatOf", "(I[I[II)I"⟩, 91) := ⟨⟨by decide +kernel, by decide +kernel⟩, lw_t7 (List.mem_of_getElem? (i := 69) rfl), lw_t9 (List.mem_of_getElem? (i := 179) rfl), lw_t9 (List.mem_of_getElem? (i := 180) rfl)⟩
theorem lw_p84 : lw_okq (⟨"PailRowModel", "neighbour", "(II)I"⟩, 91) := ⟨⟨by decide +kernel, by decide +kernel⟩, lw_t7 (List.mem_of_getElem? (i := 69) rfl), lw_t9 (List.mem_of_getElem? (i := 183) rfl), lw_t9 (List.mem_of_getElem? (i := 184) rfl)⟩
theorem lw_p85 : lw_okq (⟨"PailRowModel", "minute", "(II)V"⟩, 91) := ⟨⟨by decide +kernel, by decide +kernel⟩, lw_t7 (List.mem_of_getElem? (i := 69) rfl), lw_t9 (List.mem_of_getElem? (i := 187) rfl), lw_t9 (List.mem_of_getElem? (i := 188) rfl)⟩
theorem lw_p86 : lw_okq (⟨"PailRowModel", "tryAims", "(II)V"⟩, 91) := ⟨⟨by decide +kernel, by decide +kernel⟩, lw_t7 (List.mem_of_getElem? (i := 69) rfl), lw_t9 (List.mem_of_getElem? (i := 203) rfl), lw_t9 (List.mem_of_getElem? (i := 204) rfl)⟩
theorem lw_p87 : lw_okq (⟨"PailRowModel", "keepFire", "(I)V"⟩, 91) := ⟨⟨by decide +kernel, by decide +kernel⟩, lw_t7 (List.mem_of_getElem? (i := 69) rfl), lw_t9 (List.mem_of_getElem? (i := 207) rfl), lw_t9 (List.mem_of_getElem? (i := 208) rfl)⟩
theorem lw_p88 : lw_okq (⟨"PailRowModel", "bringFire", "(I)V"⟩, 91) := ⟨⟨by decide +kernel, by decide +kernel⟩, lw_t7 (List.mem_of_getElem? (i := 69) rfl), lw_t9 (List.mem_of_getElem? (i := 211) rfl), lw_t9 (List.mem_of_getElem? (i := 212) rfl)⟩
theorem lw_p89 : lw_okq (⟨"PailRowModel", "givesUp", "(I)I"⟩, 91) := ⟨⟨by decide +kernel, by decide +kernel⟩, lw_t7 (List.mem_of_getElem? (i := 69) rfl), lw_t9 (List.mem_of_getElem? (i := 223) rfl), lw_t9 (List.mem_of_getElem? (i := 224) rfl)⟩
theorem lw_p90 : lw_okq (⟨"PailRowModel", "readTold", "()Z"⟩, 91) := ⟨⟨by decide +kernel, by decide +kernel⟩, lw_t7 (List.mem_of_getElem? (i := 69) rfl), lw_t9 (List.mem_of_getElem? (i := 235) rfl), lw_t9 (List.mem_of_getElem? (i := 236) rfl)⟩
theorem lw_p91 : lw_okq (⟨"PailRowModel", "readMen", "(II)Z"⟩, 91) := ⟨⟨by decide +kernel, by decide +kernel⟩, lw_t7 (List.mem_of_getElem? (i := 69) rfl), lw_t9 (List.mem_of_getElem? (i := 239) rfl), lw_t10 (List.mem_of_getElem? (i := 0) rfl)⟩
theorem lw_p92 : lw_okq (⟨"PailRowModel", "manAtHand", "()I"⟩, 91) := ⟨⟨by decide +kernel, by decide +kernel⟩, lw_t7 (List.mem_of_getElem? (i := 69) rfl), lw_t10 (List.mem_of_getElem? (i := 3) rfl), lw_t10 (List.mem_of_getElem? (i := 4) rfl)⟩
theorem lw_p93 : lw_okq (⟨"PailRowModel", "spend", "()V"⟩, 91) := ⟨⟨by decide +kernel, by decide +kernel⟩, lw_t7 (List.mem_of_getElem? (i := 69) rfl), lw_t10 (List.mem_of_getElem? (i := 11) rfl), lw_t10 (List.mem_of_getElem? (i := 12) rfl)⟩
theorem lw_p94 : lw_okq (⟨"PailRowModel", "readOr", "()Z"⟩, 91) := ⟨⟨by decide +kernel, by decide +kernel⟩, lw_t7 (List.mem_of_getElem? (i := 69) rfl), lw_t10 (List.mem_of_getElem? (i := 19) rfl), lw_t10 (List.mem_of_getElem? (i := 20) rfl)⟩
theorem lw_p95 : lw_okq (⟨"PailRowModel", "readAnd", "()Z"⟩, 91) := ⟨⟨by decide +kernel, by decide +kernel⟩, lw_t7 (List.mem_of_getElem? (i := 69) rfl), lw_t10 (List.mem_of_getElem? (i := 23) rfl), lw_t10 (List.mem_of_getElem? (i := 24) rfl)⟩
def lw_privs_6 : List (MethodName × Nat) := [(⟨"PailRowModel", "fires", "(IIII)V"⟩, 91), (⟨"PailRowModel", "burning", "()I"⟩, 91), (⟨"PailRowModel", "aimed", "(I[I[II)I"⟩, 91), (⟨"PailRowModel", "heatOf", "(I[I[II)I"⟩, 91), (⟨"PailRowModel", "neighbour", "(II)I"⟩, 91), (⟨"PailRowModel", "minute", "(II)V"⟩, 91), (⟨"PailRowModel", "tryAims", "(II)V"⟩, 91), (⟨"PailRowModel", "keepFire", "(I)V"⟩, 91), (⟨"PailRowModel", "bringFire", "(I)V"⟩, 91), (⟨"PailRowModel", "givesUp", "(I)I"⟩, 91), (⟨"PailRowModel", "readTold", "()Z"⟩, 91), (⟨"PailRowModel", "readMen", "(II)Z"⟩, 91), (⟨"PailRowModel", "manAtHand", "()I"⟩, 91), (⟨"PailRowModel", "spend", "()V"⟩, 91), (⟨"PailRowModel", "readOr", "()Z"⟩, 91), (⟨"PailRowModel", "readAnd", "()Z"⟩, 91)]
theorem lw_r6 : ∀ q ∈ lw_privs_6, lw_okq q := List.forall_mem_cons.mpr ⟨lw_p80, List.forall_mem_cons.mpr ⟨lw_p81, List.forall_mem_cons.mpr ⟨lw_p82, List.forall_mem_cons.mpr ⟨lw_p83, List.forall_mem_cons.mpr ⟨lw_p84, List.forall_mem_cons.mpr ⟨lw_p85, List.forall_mem_cons.mpr ⟨lw_p86, List.forall_mem_cons.mpr ⟨lw_p87, List.forall_mem_cons.mpr ⟨lw_p88, List.forall_mem_cons.mpr ⟨lw_p89, List.forall_mem_cons.mpr ⟨lw_p90, List.forall_mem_cons.mpr ⟨lw_p91, List.forall_mem_cons.mpr ⟨lw_p92, List.forall_mem_cons.mpr ⟨lw_p93, List.forall_mem_cons.mpr ⟨lw_p94, List.forall_mem_cons.mpr ⟨lw_p95, fun _ h => absurd h List.not_mem_nil⟩⟩⟩⟩⟩⟩⟩⟩⟩⟩⟩⟩⟩⟩⟩⟩
theorem lw_p96 : lw_okq (⟨"PailRowModel", "readOne", "()Z"⟩, 91) := ⟨⟨by decide +kernel, by decide +kernel⟩, lw_t7 (List.mem_of_getElem? (i := 69) rfl), lw_t10 (List.mem_of_getElem? (i := 27) rfl), lw_t10 (List.mem_of_getElem? (i := 28) rfl)⟩
theorem lw_p97 : lw_okq (⟨"PailRowModel", "readBracket", "()Z"⟩, 91) := ⟨⟨by decide +kernel, by decide +kernel⟩, lw_t7 (List.mem_of_getElem? (i := 69) rfl), lw_t10 (List.mem_of_getElem? (i := 31) rfl), lw_t10 (List.mem_of_getElem? (i := 32) rfl)⟩
theorem lw_p98 : lw_okq (⟨"PailRowModel", "readNot", "()Z"⟩, 91) := ⟨⟨by decide +kernel, by decide +kernel⟩, lw_t7 (List.mem_of_getElem? (i := 69) rfl), lw_t10 (List.mem_of_getElem? (i := 35) rfl), lw_t10 (List.mem_of_getElem? (i := 36) rfl)⟩
theorem lw_p99 : lw_okq (⟨"PailRowModel", "lays", "(IIII)I"⟩, 91) := ⟨⟨by decide +kernel, by decide +kernel⟩, lw_t7 (List.mem_of_getElem? (i := 69) rfl), lw_t10 (List.mem_of_getElem? (i := 39) rfl), lw_t10 (List.mem_of_getElem? (i := 40) rfl)⟩
theorem lw_p100 : lw_okq (⟨"PailRowModel", "readCompare", "(I)Z"⟩, 91) := ⟨⟨by decide +kernel, by decide +kernel⟩, lw_t7 (List.mem_of_getElem? (i := 69) rfl), lw_t10 (List.mem_of_getElem? (i := 43) rfl), lw_t10 (List.mem_of_getElem? (i := 44) rfl)⟩
theorem lw_p101 : lw_okq (⟨"PailRowModel", "isSo", "(II)Z"⟩, 91) := ⟨⟨by decide +kernel, by decide +kernel⟩, lw_t7 (List.mem_of_getElem? (i := 69) rfl), lw_t10 (List.mem_of_getElem? (i := 52) rfl), lw_t10 (List.mem_of_getElem? (i := 53) rfl)⟩
def lw_privs_7 : List (MethodName × Nat) := [(⟨"PailRowModel", "readOne", "()Z"⟩, 91), (⟨"PailRowModel", "readBracket", "()Z"⟩, 91), (⟨"PailRowModel", "readNot", "()Z"⟩, 91), (⟨"PailRowModel", "lays", "(IIII)I"⟩, 91), (⟨"PailRowModel", "readCompare", "(I)Z"⟩, 91), (⟨"PailRowModel", "isSo", "(II)Z"⟩, 91)]
theorem lw_r7 : ∀ q ∈ lw_privs_7, lw_okq q := List.forall_mem_cons.mpr ⟨lw_p96, List.forall_mem_cons.mpr ⟨lw_p97, List.forall_mem_cons.mpr ⟨lw_p98, List.forall_mem_cons.mpr ⟨lw_p99, List.forall_mem_cons.mpr ⟨lw_p100, List.forall_mem_cons.mpr ⟨lw_p101, fun _ h => absurd h List.not_mem_nil⟩⟩⟩⟩⟩⟩
def lw_privs : List (MethodName × Nat) := lw_privs_1 ++ (lw_privs_2 ++ (lw_privs_3 ++ (lw_privs_4 ++ (lw_privs_5 ++ (lw_privs_6 ++ (lw_privs_7))))))
def lw_tbl : List Cond := k2_sels lw_privs ++ tables_1
theorem lw_privs_ok : ∀ q ∈ lw_privs, lw_okq q := by
  show ∀ q ∈ lw_privs_1 ++ (lw_privs_2 ++ (lw_privs_3 ++ (lw_privs_4 ++ (lw_privs_5 ++ (lw_privs_6 ++ (lw_privs_7)))))), lw_okq q
  exact List.forall_mem_append.mpr ⟨lw_r1, List.forall_mem_append.mpr ⟨lw_r2, List.forall_mem_append.mpr ⟨lw_r3, List.forall_mem_append.mpr ⟨lw_r4, List.forall_mem_append.mpr ⟨lw_r5, List.forall_mem_append.mpr ⟨lw_r6, lw_r7⟩⟩⟩⟩⟩⟩
-- ===== ONE list of words for every method: the tables' words that hold all through a run =====
def lw_all : List Cond := lw_tbl.filter goodWord
/-- a word of the tables by its place: claim/WORDS.tsv -/
theorem lw_w {w : Cond} (i : Nat) (h : lw_tbl[i]? = some w) (g : goodWord w = true) : w ∈ lw_all := List.mem_filter.mpr ⟨List.mem_of_getElem? h, g⟩
theorem lw_all_tbl {w : Cond} (h : w ∈ lw_all) : w ∈ lw_tbl := (List.mem_filter.mp h).1
theorem lw_self : GoodIn lw_all lw_all := fun w h => ⟨h, good_of_word (List.mem_filter.mp h).2⟩
/-- a class's field words, by their places -/
theorem lw_in (ws : List Cond) (ps : List Nat) (hp : ws = ps.filterMap (fun i => lw_tbl[i]?)) (hg : ws.all goodWord = true) : ∀ w ∈ ws, w ∈ lw_all := by
  intro w h
  have h1 := List.all_eq_true.mp hg w h
  rw [hp] at h
  obtain ⟨i, -, hi⟩ := List.mem_filterMap.mp h
  exact lw_w i hi h1
/-- the words of a contract for the method y with code b, L locals, answer r -/
abbrev ws_ (y : MethodName) (b : ByteArray) (L : Nat) (r : Option FieldType) : List Cond := Cond.code y b L r :: lw_all
theorem lw_meth {y : MethodName} {b : ByteArray} {L : Nat} {r : Option FieldType} (h : Cond.code y b L r ∈ lw_all) : GoodIn lw_all (ws_ y b L r) := by
  intro w hw
  rcases List.mem_cons.mp hw with e | e
  · rw [e]
    exact lw_self _ h
  · exact lw_self _ e
theorem lw_app {a c : List Cond} (ha : ∀ w ∈ a, w ∈ lw_all) (hc : GoodIn lw_all c) : GoodIn lw_all (a ++ c) := by
  intro w hw
  rcases List.mem_append.mp hw with e | e
  · exact lw_self w (ha w e)
  · exact hc w e
/-- what a call through an object asks: cwV n hts (lw_V ..) -/
theorem lw_V {own : String} {idx : Nat} {C : String} {y : MethodName} {b : ByteArray} {L : Nat} {r : Option FieldType} (h1 : Cond.methodLink own idx y ∈ lw_all) (h2 : Cond.instanceMethod y ∈ lw_all) (h3 : Cond.selects C y y ∈ lw_all) (h4 : Cond.initialized C ∈ lw_all) (h5 : Cond.code y b L r ∈ lw_all) : GoodIn lw_all (wsV own idx C y (ws_ y b L r)) := by
  refine lw_app ?_ (lw_meth h5)
  intro w hw
  simp only [List.mem_cons, List.not_mem_nil, or_false] at hw
  rcases hw with e | e | e | e
  · rw [e]; exact h1
  · rw [e]; exact h2
  · rw [e]; exact h3
  · rw [e]; exact h4
/-- what a static call asks: va_cwS n hts (lw_S ..) -/
theorem lw_S {own : String} {idx : Nat} {y : MethodName} {b : ByteArray} {L : Nat} {r : Option FieldType} (h1 : Cond.methodLink own idx y ∈ lw_all) (h2 : Cond.static y ∈ lw_all) (h3 : Cond.initialized y.cls ∈ lw_all) (h4 : Cond.code y b L r ∈ lw_all) : GoodIn lw_all (va_wsS own idx y (ws_ y b L r)) := by
  refine lw_app ?_ (lw_meth h4)
  intro w hw
  simp only [List.mem_cons, List.not_mem_nil, or_false] at hw
  rcases hw with e | e | e
  · rw [e]; exact h1
  · rw [e]; exact h2
  · rw [e]; exact h3
/-- the words of a contract for a method WITH HANDLERS (hh: its table) -/
abbrev wsW_ (y : MethodName) (b : ByteArray) (L : Nat) (r : Option FieldType) (hh : List (Nat × Nat × Nat × Nat)) : List Cond := Cond.codeWith y b L r hh :: lw_all
theorem lw_methW {y : MethodName} {b : ByteArray} {L : Nat} {r : Option FieldType} {hh : List (Nat × Nat × Nat × Nat)} (h : Cond.codeWith y b L r hh ∈ lw_all) : GoodIn lw_all (wsW_ y b L r hh) := by
  intro w hw
  rcases List.mem_cons.mp hw with e | e
  · rw [e]
    exact lw_self _ h
  · exact lw_self _ e
/-- any list of words by their places (lw_in), good -/
theorem lw_good {ws : List Cond} (h : ∀ w ∈ ws, w ∈ lw_all) : GoodIn lw_all ws := fun w hw => lw_self w (h w hw)
/-- what a call of a method with handlers asks: vx_cwVW n hts (lw_VW ..), vx_cwSW n hts (lw_SW ..) -/
theorem lw_VW {own : String} {idx : Nat} {C : String} {y : MethodName} {b : ByteArray} {L : Nat} {r : Option FieldType} {hh : List (Nat × Nat × Nat × Nat)} (h1 : Cond.methodLink own idx y ∈ lw_all) (h2 : Cond.instanceMethod y ∈ lw_all) (h3 : Cond.selects C y y ∈ lw_all) (h4 : Cond.initialized C ∈ lw_all) (h5 : Cond.codeWith y b L r hh ∈ lw_all) : GoodIn lw_all (wsV own idx C y (wsW_ y b L r hh)) := by
  refine lw_app ?_ (lw_methW h5)
  intro w hw
  simp only [List.mem_cons, List.not_mem_nil, or_false] at hw
  rcases hw with e | e | e | e
  · rw [e]; exact h1
  · rw [e]; exact h2
  · rw [e]; exact h3
  · rw [e]; exact h4
theorem lw_SW {own : String} {idx : Nat} {y : MethodName} {b : ByteArray} {L : Nat} {r : Option FieldType} {hh : List (Nat × Nat × Nat × Nat)} (h1 : Cond.methodLink own idx y ∈ lw_all) (h2 : Cond.static y ∈ lw_all) (h3 : Cond.initialized y.cls ∈ lw_all) (h4 : Cond.codeWith y b L r hh ∈ lw_all) : GoodIn lw_all (va_wsS own idx y (wsW_ y b L r hh)) := by
  refine lw_app ?_ (lw_methW h4)
  intro w hw
  simp only [List.mem_cons, List.not_mem_nil, or_false] at hw
  rcases hw with e | e | e
  · rw [e]; exact h1
  · rw [e]; exact h2
  · rw [e]; exact h3
/-- a word by its place in its run of the tables -/
theorem lw_at {r : List Cond} (hr : ∀ w ∈ r, w ∈ lw_tbl) {w : Cond} (i : Nat) (h : r[i]? = some w) : w ∈ lw_tbl := hr w (List.mem_of_getElem? h)
theorem lw_g {w : Cond} (h : w ∈ lw_tbl) (g : goodWord w = true) : w ∈ lw_all := List.mem_filter.mpr ⟨h, g⟩
theorem lw_ms : ∀ w ∈ k2_sels lw_privs, w ∈ lw_tbl := fun w h => show w ∈ k2_sels lw_privs ++ tables_1 from List.mem_append_left _ h
theorem lw_m1 : ∀ w ∈ tables_1_1, w ∈ lw_tbl := fun w h => show w ∈ k2_sels lw_privs ++ tables_1 from List.mem_append_right (k2_sels lw_privs) (show w ∈ tables_1 from List.mem_append_left _ h)
theorem lw_m2 : ∀ w ∈ tables_1_2, w ∈ lw_tbl := fun w h => show w ∈ k2_sels lw_privs ++ tables_1 from List.mem_append_right (k2_sels lw_privs) (show w ∈ tables_1 from List.mem_append_right _ (List.mem_append_left _ h))
theorem lw_m3 : ∀ w ∈ tables_1_3, w ∈ lw_tbl := fun w h => show w ∈ k2_sels lw_privs ++ tables_1 from List.mem_append_right (k2_sels lw_privs) (show w ∈ tables_1 from List.mem_append_right _ (List.mem_append_right _ (List.mem_append_left _ h)))
theorem lw_m4 : ∀ w ∈ tables_1_4, w ∈ lw_tbl := fun w h => show w ∈ k2_sels lw_privs ++ tables_1 from List.mem_append_right (k2_sels lw_privs) (show w ∈ tables_1 from List.mem_append_right _ (List.mem_append_right _ (List.mem_append_right _ (List.mem_append_left _ h))))
theorem lw_m5 : ∀ w ∈ tables_1_5, w ∈ lw_tbl := fun w h => show w ∈ k2_sels lw_privs ++ tables_1 from List.mem_append_right (k2_sels lw_privs) (show w ∈ tables_1 from List.mem_append_right _ (List.mem_append_right _ (List.mem_append_right _ (List.mem_append_right _ (List.mem_append_left _ h)))))
theorem lw_m6 : ∀ w ∈ tables_1_6, w ∈ lw_tbl := fun w h => show w ∈ k2_sels lw_privs ++ tables_1 from List.mem_append_right (k2_sels lw_privs) (show w ∈ tables_1 from List.mem_append_right _ (List.mem_append_right _ (List.mem_append_right _ (List.mem_append_right _ (List.mem_append_right _ (List.mem_append_left _ h))))))
theorem lw_m7 : ∀ w ∈ tables_1_7, w ∈ lw_tbl := fun w h => show w ∈ k2_sels lw_privs ++ tables_1 from List.mem_append_right (k2_sels lw_privs) (show w ∈ tables_1 from List.mem_append_right _ (List.mem_append_right _ (List.mem_append_right _ (List.mem_append_right _ (List.mem_append_right _ (List.mem_append_right _ (List.mem_append_left _ h)))))))
theorem lw_m8 : ∀ w ∈ tables_1_8, w ∈ lw_tbl := fun w h => show w ∈ k2_sels lw_privs ++ tables_1 from List.mem_append_right (k2_sels lw_privs) (show w ∈ tables_1 from List.mem_append_right _ (List.mem_append_right _ (List.mem_append_right _ (List.mem_append_right _ (List.mem_append_right _ (List.mem_append_right _ (List.mem_append_right _ (List.mem_append_left _ h))))))))
theorem lw_m9 : ∀ w ∈ tables_1_9, w ∈ lw_tbl := fun w h => show w ∈ k2_sels lw_privs ++ tables_1 from List.mem_append_right (k2_sels lw_privs) (show w ∈ tables_1 from List.mem_append_right _ (List.mem_append_right _ (List.mem_append_right _ (List.mem_append_right _ (List.mem_append_right _ (List.mem_append_right _ (List.mem_append_right _ (List.mem_append_right _ (List.mem_append_left _ h)))))))))
theorem lw_m10 : ∀ w ∈ tables_1_10, w ∈ lw_tbl := fun w h => show w ∈ k2_sels lw_privs ++ tables_1 from List.mem_append_right (k2_sels lw_privs) (show w ∈ tables_1 from List.mem_append_right _ (List.mem_append_right _ (List.mem_append_right _ (List.mem_append_right _ (List.mem_append_right _ (List.mem_append_right _ (List.mem_append_right _ (List.mem_append_right _ (List.mem_append_right _ h)))))))))
theorem qs0 : (Cond.selects "java/lang/Throwable" ⟨"java/lang/Throwable", "fillInStackTrace", "(I)Ljava/lang/Throwable;"⟩ ⟨"java/lang/Throwable", "fillInStackTrace", "(I)Ljava/lang/Throwable;"⟩) ∈ lw_all := lw_g (lw_at lw_ms 0 rfl) rfl
theorem qs1 : (Cond.selects "PailRow" ⟨"PailRow", "four", "(I)V"⟩ ⟨"PailRow", "four", "(I)V"⟩) ∈ lw_all := lw_g (lw_at lw_ms 1 rfl) rfl
theorem qs2 : (Cond.selects "PailRow" ⟨"PailRow", "taken", "()V"⟩ ⟨"PailRow", "taken", "()V"⟩) ∈ lw_all := lw_g (lw_at lw_ms 2 rfl) rfl
theorem qs3 : (Cond.selects "PailRow$YardReader" ⟨"PailRow$YardReader", "line", "(I)V"⟩ ⟨"PailRow$YardReader", "line", "(I)V"⟩) ∈ lw_all := lw_g (lw_at lw_ms 3 rfl) rfl
theorem qs4 : (Cond.selects "PailRow$YardReader" ⟨"PailRow$YardReader", "man", "()V"⟩ ⟨"PailRow$YardReader", "man", "()V"⟩) ∈ lw_all := lw_g (lw_at lw_ms 4 rfl) rfl
theorem qs5 : (Cond.selects "PailRow$YardReader" ⟨"PailRow$YardReader", "cells", "()V"⟩ ⟨"PailRow$YardReader", "cells", "()V"⟩) ∈ lw_all := lw_g (lw_at lw_ms 5 rfl) rfl
theorem qs6 : (Cond.selects "PailRow$YardReader" ⟨"PailRow$YardReader", "burn", "()V"⟩ ⟨"PailRow$YardReader", "burn", "()V"⟩) ∈ lw_all := lw_g (lw_at lw_ms 6 rfl) rfl
theorem qs7 : (Cond.selects "PailRow$PlanReader" ⟨"PailRow$PlanReader", "thing", "()LPailRow$Thing;"⟩ ⟨"PailRow$PlanReader", "thing", "()LPailRow$Thing;"⟩) ∈ lw_all := lw_g (lw_at lw_ms 7 rfl) rfl
theorem qs8 : (Cond.selects "PailRow$PlanReader" ⟨"PailRow$PlanReader", "men", "(I)LPailRow$Thing;"⟩ ⟨"PailRow$PlanReader", "men", "(I)LPailRow$Thing;"⟩) ∈ lw_all := lw_g (lw_at lw_ms 8 rfl) rfl
theorem qs9 : (Cond.selects "PailRow" ⟨"PailRow", "areAsked", "(III)Z"⟩ ⟨"PailRow", "areAsked", "(III)Z"⟩) ∈ lw_all := lw_g (lw_at lw_ms 9 rfl) rfl
theorem qs10 : (Cond.selects "PailRow" ⟨"PailRow", "one", "(I)I"⟩ ⟨"PailRow", "one", "(I)I"⟩) ∈ lw_all := lw_g (lw_at lw_ms 10 rfl) rfl
theorem qs11 : (Cond.selects "PailRow" ⟨"PailRow", "isMan", "(I)Z"⟩ ⟨"PailRow", "isMan", "(I)Z"⟩) ∈ lw_all := lw_g (lw_at lw_ms 11 rfl) rfl
theorem qs12 : (Cond.selects "PailRow$Row" ⟨"PailRow$Row", "ends", "(I)V"⟩ ⟨"PailRow$Row", "ends", "(I)V"⟩) ∈ lw_all := lw_g (lw_at lw_ms 12 rfl) rfl
theorem qs13 : (Cond.selects "PailRow$Row" ⟨"PailRow$Row", "starts", "(I)V"⟩ ⟨"PailRow$Row", "starts", "(I)V"⟩) ∈ lw_all := lw_g (lw_at lw_ms 13 rfl) rfl
theorem qs14 : (Cond.selects "PailRow$Runners" ⟨"PailRow$Runners", "ends", "(I)V"⟩ ⟨"PailRow$Runners", "ends", "(I)V"⟩) ∈ lw_all := lw_g (lw_at lw_ms 14 rfl) rfl
theorem qs15 : (Cond.selects "PailRow" ⟨"PailRow", "keep", "()V"⟩ ⟨"PailRow", "keep", "()V"⟩) ∈ lw_all := lw_g (lw_at lw_ms 15 rfl) rfl
theorem qs16 : (Cond.selects "PailRow" ⟨"PailRow", "orders", "(II)V"⟩ ⟨"PailRow", "orders", "(II)V"⟩) ∈ lw_all := lw_g (lw_at lw_ms 16 rfl) rfl
theorem qs17 : (Cond.selects "PailRow" ⟨"PailRow", "runs", "([III)I"⟩ ⟨"PailRow", "runs", "([III)I"⟩) ∈ lw_all := lw_g (lw_at lw_ms 17 rfl) rfl
theorem qs18 : (Cond.selects "PailRow" ⟨"PailRow", "rows", "([IIII)I"⟩ ⟨"PailRow", "rows", "([IIII)I"⟩) ∈ lw_all := lw_g (lw_at lw_ms 18 rfl) rfl
theorem qs19 : (Cond.selects "PailRow" ⟨"PailRow", "slowest", "()I"⟩ ⟨"PailRow", "slowest", "()I"⟩) ∈ lw_all := lw_g (lw_at lw_ms 19 rfl) rfl
theorem qs20 : (Cond.selects "PailRow" ⟨"PailRow", "timeBy", "(I)I"⟩ ⟨"PailRow", "timeBy", "(I)I"⟩) ∈ lw_all := lw_g (lw_at lw_ms 20 rfl) rfl
theorem qs21 : (Cond.selects "PailRow" ⟨"PailRow", "relieves", "(I)Z"⟩ ⟨"PailRow", "relieves", "(I)Z"⟩) ∈ lw_all := lw_g (lw_at lw_ms 21 rfl) rfl
theorem qs22 : (Cond.selects "PailRow" ⟨"PailRow", "hang", "(III)V"⟩ ⟨"PailRow", "hang", "(III)V"⟩) ∈ lw_all := lw_g (lw_at lw_ms 22 rfl) rfl
theorem qs23 : (Cond.selects "PailRow" ⟨"PailRow", "wayBy", "(I)I"⟩ ⟨"PailRow", "wayBy", "(I)I"⟩) ∈ lw_all := lw_g (lw_at lw_ms 23 rfl) rfl
theorem qs24 : (Cond.selects "PailRow$Barn" ⟨"PailRow$Barn", "hottest", "()I"⟩ ⟨"PailRow$Barn", "hottest", "()I"⟩) ∈ lw_all := lw_g (lw_at lw_ms 24 rfl) rfl
theorem qs25 : (Cond.selects "PailRow$Barn" ⟨"PailRow$Barn", "gives", "(III)I"⟩ ⟨"PailRow$Barn", "gives", "(III)I"⟩) ∈ lw_all := lw_g (lw_at lw_ms 25 rfl) rfl
theorem qs26 : (Cond.selects "PailRow" ⟨"PailRow", "tries", "(III)V"⟩ ⟨"PailRow", "tries", "(III)V"⟩) ∈ lw_all := lw_g (lw_at lw_ms 26 rfl) rfl
theorem qs27 : (Cond.selects "PailRow" ⟨"PailRow", "next", "(IIIII)V"⟩ ⟨"PailRow", "next", "(IIIII)V"⟩) ∈ lw_all := lw_g (lw_at lw_ms 27 rfl) rfl
theorem qs28 : (Cond.selects "PailRow" ⟨"PailRow", "lostBy", "(II)I"⟩ ⟨"PailRow", "lostBy", "(II)I"⟩) ∈ lw_all := lw_g (lw_at lw_ms 28 rfl) rfl
theorem qs29 : (Cond.selects "PailRow" ⟨"PailRow", "nights", "()V"⟩ ⟨"PailRow", "nights", "()V"⟩) ∈ lw_all := lw_g (lw_at lw_ms 29 rfl) rfl
theorem qs30 : (Cond.selects "PailRow$SentenceReader" ⟨"PailRow$SentenceReader", "any", "(I)LPailRow$Cond;"⟩ ⟨"PailRow$SentenceReader", "any", "(I)LPailRow$Cond;"⟩) ∈ lw_all := lw_g (lw_at lw_ms 30 rfl) rfl
theorem qs31 : (Cond.selects "PailRow$SentenceReader" ⟨"PailRow$SentenceReader", "both", "(I)LPailRow$Cond;"⟩ ⟨"PailRow$SentenceReader", "both", "(I)LPailRow$Cond;"⟩) ∈ lw_all := lw_g (lw_at lw_ms 31 rfl) rfl
theorem qs32 : (Cond.selects "PailRow$SentenceReader" ⟨"PailRow$SentenceReader", "single", "(I)LPailRow$Cond;"⟩ ⟨"PailRow$SentenceReader", "single", "(I)LPailRow$Cond;"⟩) ∈ lw_all := lw_g (lw_at lw_ms 32 rfl) rfl
theorem qs33 : (Cond.selects "PailRow$SentenceReader" ⟨"PailRow$SentenceReader", "counts", "(I)LPailRow$Cond;"⟩ ⟨"PailRow$SentenceReader", "counts", "(I)LPailRow$Cond;"⟩) ∈ lw_all := lw_g (lw_at lw_ms 33 rfl) rfl
theorem qs34 : (Cond.selects "PailRow$Counts" ⟨"PailRow$Counts", "of", "(LPailRow;I)I"⟩ ⟨"PailRow$Counts", "of", "(LPailRow;I)I"⟩) ∈ lw_all := lw_g (lw_at lw_ms 34 rfl) rfl
theorem qs35 : (Cond.selects "PailRowModel" ⟨"PailRowModel", "come", "(I)V"⟩ ⟨"PailRowModel", "come", "(I)V"⟩) ∈ lw_all := lw_g (lw_at lw_ms 35 rfl) rfl
theorem qs36 : (Cond.selects "PailRowModel" ⟨"PailRowModel", "begin", "(I)V"⟩ ⟨"PailRowModel", "begin", "(I)V"⟩) ∈ lw_all := lw_g (lw_at lw_ms 36 rfl) rfl
theorem qs37 : (Cond.selects "PailRowModel" ⟨"PailRowModel", "lay", "()V"⟩ ⟨"PailRowModel", "lay", "()V"⟩) ∈ lw_all := lw_g (lw_at lw_ms 37 rfl) rfl
theorem qs38 : (Cond.selects "PailRowModel" ⟨"PailRowModel", "take", "()I"⟩ ⟨"PailRowModel", "take", "()I"⟩) ∈ lw_all := lw_g (lw_at lw_ms 38 rfl) rfl
theorem qs39 : (Cond.selects "PailRowModel" ⟨"PailRowModel", "go", "()V"⟩ ⟨"PailRowModel", "go", "()V"⟩) ∈ lw_all := lw_g (lw_at lw_ms 39 rfl) rfl
theorem qs40 : (Cond.selects "PailRowModel" ⟨"PailRowModel", "byteAt", "(I)I"⟩ ⟨"PailRowModel", "byteAt", "(I)I"⟩) ∈ lw_all := lw_g (lw_at lw_ms 40 rfl) rfl
theorem qs41 : (Cond.selects "PailRowModel" ⟨"PailRowModel", "readLine", "()Z"⟩ ⟨"PailRowModel", "readLine", "()Z"⟩) ∈ lw_all := lw_g (lw_at lw_ms 41 rfl) rfl
theorem qs42 : (Cond.selects "PailRowModel" ⟨"PailRowModel", "isWord", "(I)Z"⟩ ⟨"PailRowModel", "isWord", "(I)Z"⟩) ∈ lw_all := lw_g (lw_at lw_ms 42 rfl) rfl
theorem qs43 : (Cond.selects "PailRowModel" ⟨"PailRowModel", "bad", "(I)Z"⟩ ⟨"PailRowModel", "bad", "(I)Z"⟩) ∈ lw_all := lw_g (lw_at lw_ms 43 rfl) rfl
theorem qs44 : (Cond.selects "PailRowModel" ⟨"PailRowModel", "readMan", "()Z"⟩ ⟨"PailRowModel", "readMan", "()Z"⟩) ∈ lw_all := lw_g (lw_at lw_ms 44 rfl) rfl
theorem qs45 : (Cond.selects "PailRowModel" ⟨"PailRowModel", "isName", "()Z"⟩ ⟨"PailRowModel", "isName", "()Z"⟩) ∈ lw_all := lw_g (lw_at lw_ms 45 rfl) rfl
theorem qs46 : (Cond.selects "PailRowModel" ⟨"PailRowModel", "readNumber", "(II)Z"⟩ ⟨"PailRowModel", "readNumber", "(II)Z"⟩) ∈ lw_all := lw_g (lw_at lw_ms 46 rfl) rfl
theorem qs47 : (Cond.selects "PailRowModel" ⟨"PailRowModel", "readCells", "()Z"⟩ ⟨"PailRowModel", "readCells", "()Z"⟩) ∈ lw_all := lw_g (lw_at lw_ms 47 rfl) rfl
theorem qs48 : (Cond.selects "PailRowModel" ⟨"PailRowModel", "readBurn", "()Z"⟩ ⟨"PailRowModel", "readBurn", "()Z"⟩) ∈ lw_all := lw_g (lw_at lw_ms 48 rfl) rfl
theorem qs49 : (Cond.selects "PailRowModel" ⟨"PailRowModel", "readOnce", "(I)Z"⟩ ⟨"PailRowModel", "readOnce", "(I)Z"⟩) ∈ lw_all := lw_g (lw_at lw_ms 49 rfl) rfl
theorem qs50 : (Cond.selects "PailRowModel" ⟨"PailRowModel", "readInto", "(III)Z"⟩ ⟨"PailRowModel", "readInto", "(III)Z"⟩) ∈ lw_all := lw_g (lw_at lw_ms 50 rfl) rfl
theorem qs51 : (Cond.selects "PailRowModel" ⟨"PailRowModel", "readEnd", "()Z"⟩ ⟨"PailRowModel", "readEnd", "()Z"⟩) ∈ lw_all := lw_g (lw_at lw_ms 51 rfl) rfl
theorem qs52 : (Cond.selects "PailRowModel" ⟨"PailRowModel", "isSign", "(I)Z"⟩ ⟨"PailRowModel", "isSign", "(I)Z"⟩) ∈ lw_all := lw_g (lw_at lw_ms 52 rfl) rfl
theorem qs53 : (Cond.selects "PailRowModel" ⟨"PailRowModel", "men", "()I"⟩ ⟨"PailRowModel", "men", "()I"⟩) ∈ lw_all := lw_g (lw_at lw_ms 53 rfl) rfl
theorem qs54 : (Cond.selects "PailRowModel" ⟨"PailRowModel", "refuse", "()I"⟩ ⟨"PailRowModel", "refuse", "()I"⟩) ∈ lw_all := lw_g (lw_at lw_ms 54 rfl) rfl
theorem qs55 : (Cond.selects "PailRowModel" ⟨"PailRowModel", "manOf", "(II)I"⟩ ⟨"PailRowModel", "manOf", "(II)I"⟩) ∈ lw_all := lw_g (lw_at lw_ms 55 rfl) rfl
theorem qs56 : (Cond.selects "PailRowModel" ⟨"PailRowModel", "columns", "()I"⟩ ⟨"PailRowModel", "columns", "()I"⟩) ∈ lw_all := lw_g (lw_at lw_ms 56 rfl) rfl
theorem qs57 : (Cond.selects "PailRowModel" ⟨"PailRowModel", "takesTeam", "(IIZ)Z"⟩ ⟨"PailRowModel", "takesTeam", "(IIZ)Z"⟩) ∈ lw_all := lw_g (lw_at lw_ms 57 rfl) rfl
theorem qs58 : (Cond.selects "PailRowModel" ⟨"PailRowModel", "throwsIn", "(IIII)I"⟩ ⟨"PailRowModel", "throwsIn", "(IIII)I"⟩) ∈ lw_all := lw_g (lw_at lw_ms 58 rfl) rfl
theorem qs59 : (Cond.selects "PailRowModel" ⟨"PailRowModel", "start", "(II)V"⟩ ⟨"PailRowModel", "start", "(II)V"⟩) ∈ lw_all := lw_g (lw_at lw_ms 59 rfl) rfl
theorem qs60 : (Cond.selects "PailRowModel" ⟨"PailRowModel", "teamTick", "()V"⟩ ⟨"PailRowModel", "teamTick", "()V"⟩) ∈ lw_all := lw_g (lw_at lw_ms 60 rfl) rfl
theorem qs61 : (Cond.selects "PailRowModel" ⟨"PailRowModel", "rowTick", "()V"⟩ ⟨"PailRowModel", "rowTick", "()V"⟩) ∈ lw_all := lw_g (lw_at lw_ms 61 rfl) rfl
theorem qs62 : (Cond.selects "PailRowModel" ⟨"PailRowModel", "finishes", "(I)V"⟩ ⟨"PailRowModel", "finishes", "(I)V"⟩) ∈ lw_all := lw_g (lw_at lw_ms 62 rfl) rfl
theorem qs63 : (Cond.selects "PailRowModel" ⟨"PailRowModel", "push", "(II)V"⟩ ⟨"PailRowModel", "push", "(II)V"⟩) ∈ lw_all := lw_g (lw_at lw_ms 63 rfl) rfl
theorem qs64 : (Cond.selects "PailRowModel" ⟨"PailRowModel", "takesUp", "(I)V"⟩ ⟨"PailRowModel", "takesUp", "(I)V"⟩) ∈ lw_all := lw_g (lw_at lw_ms 64 rfl) rfl
theorem qs65 : (Cond.selects "PailRowModel" ⟨"PailRowModel", "draws", "()I"⟩ ⟨"PailRowModel", "draws", "()I"⟩) ∈ lw_all := lw_g (lw_at lw_ms 65 rfl) rfl
theorem qs66 : (Cond.selects "PailRowModel" ⟨"PailRowModel", "shift", "(I)I"⟩ ⟨"PailRowModel", "shift", "(I)I"⟩) ∈ lw_all := lw_g (lw_at lw_ms 66 rfl) rfl
theorem qs67 : (Cond.selects "PailRowModel" ⟨"PailRowModel", "timeOf", "(III)I"⟩ ⟨"PailRowModel", "timeOf", "(III)I"⟩) ∈ lw_all := lw_g (lw_at lw_ms 67 rfl) rfl
theorem qs68 : (Cond.selects "PailRowModel" ⟨"PailRowModel", "yards", "(I)I"⟩ ⟨"PailRowModel", "yards", "(I)I"⟩) ∈ lw_all := lw_g (lw_at lw_ms 68 rfl) rfl
theorem qs69 : (Cond.selects "PailRowModel" ⟨"PailRowModel", "runTick", "()V"⟩ ⟨"PailRowModel", "runTick", "()V"⟩) ∈ lw_all := lw_g (lw_at lw_ms 69 rfl) rfl
theorem qs70 : (Cond.selects "PailRowModel" ⟨"PailRowModel", "isDrawn", "()Z"⟩ ⟨"PailRowModel", "isDrawn", "()Z"⟩) ∈ lw_all := lw_g (lw_at lw_ms 70 rfl) rfl
theorem qs71 : (Cond.selects "PailRowModel" ⟨"PailRowModel", "periodOf", "(I)I"⟩ ⟨"PailRowModel", "periodOf", "(I)I"⟩) ∈ lw_all := lw_g (lw_at lw_ms 71 rfl) rfl
theorem qs72 : (Cond.selects "PailRowModel" ⟨"PailRowModel", "tryOrder", "(III)V"⟩ ⟨"PailRowModel", "tryOrder", "(III)V"⟩) ∈ lw_all := lw_g (lw_at lw_ms 72 rfl) rfl
theorem qs73 : (Cond.selects "PailRowModel" ⟨"PailRowModel", "longest", "(I)I"⟩ ⟨"PailRowModel", "longest", "(I)I"⟩) ∈ lw_all := lw_g (lw_at lw_ms 73 rfl) rfl
theorem qs74 : (Cond.selects "PailRowModel" ⟨"PailRowModel", "shared", "(II)I"⟩ ⟨"PailRowModel", "shared", "(II)I"⟩) ∈ lw_all := lw_g (lw_at lw_ms 74 rfl) rfl
theorem qs75 : (Cond.selects "PailRowModel" ⟨"PailRowModel", "canThrow", "(I)Z"⟩ ⟨"PailRowModel", "canThrow", "(I)Z"⟩) ∈ lw_all := lw_g (lw_at lw_ms 75 rfl) rfl
theorem qs76 : (Cond.selects "PailRowModel" ⟨"PailRowModel", "tryHooks", "(III)V"⟩ ⟨"PailRowModel", "tryHooks", "(III)V"⟩) ∈ lw_all := lw_g (lw_at lw_ms 76 rfl) rfl
theorem qs77 : (Cond.selects "PailRowModel" ⟨"PailRowModel", "isAim", "(I)Z"⟩ ⟨"PailRowModel", "isAim", "(I)Z"⟩) ∈ lw_all := lw_g (lw_at lw_ms 77 rfl) rfl
theorem qs78 : (Cond.selects "PailRowModel" ⟨"PailRowModel", "light", "()V"⟩ ⟨"PailRowModel", "light", "()V"⟩) ∈ lw_all := lw_g (lw_at lw_ms 78 rfl) rfl
theorem qs79 : (Cond.selects "PailRowModel" ⟨"PailRowModel", "cells", "()I"⟩ ⟨"PailRowModel", "cells", "()I"⟩) ∈ lw_all := lw_g (lw_at lw_ms 79 rfl) rfl
theorem qs80 : (Cond.selects "PailRowModel" ⟨"PailRowModel", "fires", "(IIII)V"⟩ ⟨"PailRowModel", "fires", "(IIII)V"⟩) ∈ lw_all := lw_g (lw_at lw_ms 80 rfl) rfl
theorem qs81 : (Cond.selects "PailRowModel" ⟨"PailRowModel", "burning", "()I"⟩ ⟨"PailRowModel", "burning", "()I"⟩) ∈ lw_all := lw_g (lw_at lw_ms 81 rfl) rfl
theorem qs82 : (Cond.selects "PailRowModel" ⟨"PailRowModel", "aimed", "(I[I[II)I"⟩ ⟨"PailRowModel", "aimed", "(I[I[II)I"⟩) ∈ lw_all := lw_g (lw_at lw_ms 82 rfl) rfl
theorem qs83 : (Cond.selects "PailRowModel" ⟨"PailRowModel", "heatOf", "(I[I[II)I"⟩ ⟨"PailRowModel", "heatOf", "(I[I[II)I"⟩) ∈ lw_all := lw_g (lw_at lw_ms 83 rfl) rfl
theorem qs84 : (Cond.selects "PailRowModel" ⟨"PailRowModel", "neighbour", "(II)I"⟩ ⟨"PailRowModel", "neighbour", "(II)I"⟩) ∈ lw_all := lw_g (lw_at lw_ms 84 rfl) rfl
theorem qs85 : (Cond.selects "PailRowModel" ⟨"PailRowModel", "minute", "(II)V"⟩ ⟨"PailRowModel", "minute", "(II)V"⟩) ∈ lw_all := lw_g (lw_at lw_ms 85 rfl) rfl
theorem qs86 : (Cond.selects "PailRowModel" ⟨"PailRowModel", "tryAims", "(II)V"⟩ ⟨"PailRowModel", "tryAims", "(II)V"⟩) ∈ lw_all := lw_g (lw_at lw_ms 86 rfl) rfl
theorem qs87 : (Cond.selects "PailRowModel" ⟨"PailRowModel", "keepFire", "(I)V"⟩ ⟨"PailRowModel", "keepFire", "(I)V"⟩) ∈ lw_all := lw_g (lw_at lw_ms 87 rfl) rfl
theorem qs88 : (Cond.selects "PailRowModel" ⟨"PailRowModel", "bringFire", "(I)V"⟩ ⟨"PailRowModel", "bringFire", "(I)V"⟩) ∈ lw_all := lw_g (lw_at lw_ms 88 rfl) rfl
theorem qs89 : (Cond.selects "PailRowModel" ⟨"PailRowModel", "givesUp", "(I)I"⟩ ⟨"PailRowModel", "givesUp", "(I)I"⟩) ∈ lw_all := lw_g (lw_at lw_ms 89 rfl) rfl
theorem qs90 : (Cond.selects "PailRowModel" ⟨"PailRowModel", "readTold", "()Z"⟩ ⟨"PailRowModel", "readTold", "()Z"⟩) ∈ lw_all := lw_g (lw_at lw_ms 90 rfl) rfl
theorem qs91 : (Cond.selects "PailRowModel" ⟨"PailRowModel", "readMen", "(II)Z"⟩ ⟨"PailRowModel", "readMen", "(II)Z"⟩) ∈ lw_all := lw_g (lw_at lw_ms 91 rfl) rfl
theorem qs92 : (Cond.selects "PailRowModel" ⟨"PailRowModel", "manAtHand", "()I"⟩ ⟨"PailRowModel", "manAtHand", "()I"⟩) ∈ lw_all := lw_g (lw_at lw_ms 92 rfl) rfl
theorem qs93 : (Cond.selects "PailRowModel" ⟨"PailRowModel", "spend", "()V"⟩ ⟨"PailRowModel", "spend", "()V"⟩) ∈ lw_all := lw_g (lw_at lw_ms 93 rfl) rfl
theorem qs94 : (Cond.selects "PailRowModel" ⟨"PailRowModel", "readOr", "()Z"⟩ ⟨"PailRowModel", "readOr", "()Z"⟩) ∈ lw_all := lw_g (lw_at lw_ms 94 rfl) rfl
theorem qs95 : (Cond.selects "PailRowModel" ⟨"PailRowModel", "readAnd", "()Z"⟩ ⟨"PailRowModel", "readAnd", "()Z"⟩) ∈ lw_all := lw_g (lw_at lw_ms 95 rfl) rfl
theorem qs96 : (Cond.selects "PailRowModel" ⟨"PailRowModel", "readOne", "()Z"⟩ ⟨"PailRowModel", "readOne", "()Z"⟩) ∈ lw_all := lw_g (lw_at lw_ms 96 rfl) rfl
theorem qs97 : (Cond.selects "PailRowModel" ⟨"PailRowModel", "readBracket", "()Z"⟩ ⟨"PailRowModel", "readBracket", "()Z"⟩) ∈ lw_all := lw_g (lw_at lw_ms 97 rfl) rfl
theorem qs98 : (Cond.selects "PailRowModel" ⟨"PailRowModel", "readNot", "()Z"⟩ ⟨"PailRowModel", "readNot", "()Z"⟩) ∈ lw_all := lw_g (lw_at lw_ms 98 rfl) rfl
theorem qs99 : (Cond.selects "PailRowModel" ⟨"PailRowModel", "lays", "(IIII)I"⟩ ⟨"PailRowModel", "lays", "(IIII)I"⟩) ∈ lw_all := lw_g (lw_at lw_ms 99 rfl) rfl
theorem qs100 : (Cond.selects "PailRowModel" ⟨"PailRowModel", "readCompare", "(I)Z"⟩ ⟨"PailRowModel", "readCompare", "(I)Z"⟩) ∈ lw_all := lw_g (lw_at lw_ms 100 rfl) rfl
theorem qs101 : (Cond.selects "PailRowModel" ⟨"PailRowModel", "isSo", "(II)Z"⟩ ⟨"PailRowModel", "isSo", "(II)Z"⟩) ∈ lw_all := lw_g (lw_at lw_ms 101 rfl) rfl
