-- ===== PART A: goes FIRST, ahead of the names: the tables' words, and 'selects' of the private methods out of them =====
/-- a private method of a class that the tables say can be made, by its rows of tables_1 -/
def lw_okq (q : MethodName × Nat) : Prop := (q.1.cls ≠ "java/lang/invoke/MethodHandle" ∧ q.1.cls ≠ "java/lang/invoke/VarHandle") ∧ Cond.instantiable q.1.cls q.2 ∈ tables_1 ∧ Cond.privateMethod q.1 ∈ tables_1 ∧ Cond.instanceMethod q.1 ∈ tables_1
set_option maxRecDepth 100000
theorem lw_t1 {w : Cond} (h : w ∈ tables_1_1) : w ∈ tables_1 := List.mem_append_left _ h
theorem lw_t2 {w : Cond} (h : w ∈ tables_1_2) : w ∈ tables_1 := List.mem_append_right _ (List.mem_append_left _ h)
theorem lw_t3 {w : Cond} (h : w ∈ tables_1_3) : w ∈ tables_1 := List.mem_append_right _ (List.mem_append_right _ (List.mem_append_left _ h))
theorem lw_t4 {w : Cond} (h : w ∈ tables_1_4) : w ∈ tables_1 := List.mem_append_right _ (List.mem_append_right _ (List.mem_append_right _ (List.mem_append_left _ h)))
theorem lw_t5 {w : Cond} (h : w ∈ tables_1_5) : w ∈ tables_1 := List.mem_append_right _ (List.mem_append_right _ (List.mem_append_right _ (List.mem_append_right _ (List.mem_append_left _ h))))
theorem lw_t6 {w : Cond} (h : w ∈ tables_1_6) : w ∈ tables_1 := List.mem_append_right _ (List.mem_append_right _ (List.mem_append_right _ (List.mem_append_right _ (List.mem_append_right _ (List.mem_append_left _ h)))))
theorem lw_t7 {w : Cond} (h : w ∈ tables_1_7) : w ∈ tables_1 := List.mem_append_right _ (List.mem_append_right _ (List.mem_append_right _ (List.mem_append_right _ (List.mem_append_right _ (List.mem_append_right _ h)))))
theorem lw_p0 : lw_okq (⟨"java/lang/NullPointerException", "getExtendedNPEMessage", "()Ljava/lang/String;"⟩, 8) := ⟨⟨by decide +kernel, by decide +kernel⟩, lw_t1 (List.mem_of_getElem? (i := 72) rfl), lw_t1 (List.mem_of_getElem? (i := 70) rfl), lw_t1 (List.mem_of_getElem? (i := 71) rfl)⟩
theorem lw_p1 : lw_okq (⟨"java/lang/Throwable", "fillInStackTrace", "(I)Ljava/lang/Throwable;"⟩, 6) := ⟨⟨by decide +kernel, by decide +kernel⟩, lw_t1 (List.mem_of_getElem? (i := 84) rfl), lw_t1 (List.mem_of_getElem? (i := 82) rfl), lw_t1 (List.mem_of_getElem? (i := 83) rfl)⟩
theorem lw_p2 : lw_okq (⟨"SideBySide", "isShelf", "(I)Z"⟩, 9) := ⟨⟨by decide +kernel, by decide +kernel⟩, lw_t1 (List.mem_of_getElem? (i := 131) rfl), lw_t1 (List.mem_of_getElem? (i := 129) rfl), lw_t1 (List.mem_of_getElem? (i := 130) rfl)⟩
theorem lw_p3 : lw_okq (⟨"SideBySide", "reads", "([B)I"⟩, 9) := ⟨⟨by decide +kernel, by decide +kernel⟩, lw_t1 (List.mem_of_getElem? (i := 131) rfl), lw_t1 (List.mem_of_getElem? (i := 138) rfl), lw_t1 (List.mem_of_getElem? (i := 139) rfl)⟩
theorem lw_p4 : lw_okq (⟨"SideBySide$CourtReader", "statement", "()LSideBySide$Told;"⟩, 2) := ⟨⟨by decide +kernel, by decide +kernel⟩, lw_t1 (List.mem_of_getElem? (i := 142) rfl), lw_t1 (List.mem_of_getElem? (i := 159) rfl), lw_t1 (List.mem_of_getElem? (i := 160) rfl)⟩
theorem lw_p5 : lw_okq (⟨"SideBySide$CourtReader", "sign", "()I"⟩, 2) := ⟨⟨by decide +kernel, by decide +kernel⟩, lw_t1 (List.mem_of_getElem? (i := 142) rfl), lw_t1 (List.mem_of_getElem? (i := 165) rfl), lw_t1 (List.mem_of_getElem? (i := 166) rfl)⟩
theorem lw_p6 : lw_okq (⟨"SideBySide$CourtReader", "reads", "(LSideBySide$Told;)V"⟩, 2) := ⟨⟨by decide +kernel, by decide +kernel⟩, lw_t1 (List.mem_of_getElem? (i := 142) rfl), lw_t1 (List.mem_of_getElem? (i := 191) rfl), lw_t1 (List.mem_of_getElem? (i := 192) rfl)⟩
theorem lw_p7 : lw_okq (⟨"SideBySide$CourtReader", "digits", "(LSideBySide$Told;I)V"⟩, 2) := ⟨⟨by decide +kernel, by decide +kernel⟩, lw_t1 (List.mem_of_getElem? (i := 142) rfl), lw_t1 (List.mem_of_getElem? (i := 195) rfl), lw_t1 (List.mem_of_getElem? (i := 196) rfl)⟩
theorem lw_p8 : lw_okq (⟨"SideBySide$CourtReader", "number", "(I)I"⟩, 2) := ⟨⟨by decide +kernel, by decide +kernel⟩, lw_t1 (List.mem_of_getElem? (i := 142) rfl), lw_t1 (List.mem_of_getElem? (i := 199) rfl), lw_t1 (List.mem_of_getElem? (i := 200) rfl)⟩
theorem lw_p9 : lw_okq (⟨"SideBySide$CourtReader", "broken", "()LSideBySide$Broken;"⟩, 2) := ⟨⟨by decide +kernel, by decide +kernel⟩, lw_t1 (List.mem_of_getElem? (i := 142) rfl), lw_t1 (List.mem_of_getElem? (i := 204) rfl), lw_t1 (List.mem_of_getElem? (i := 205) rfl)⟩
theorem lw_p10 : lw_okq (⟨"SideBySide", "comes", "(LSideBySide$Told;)Z"⟩, 9) := ⟨⟨by decide +kernel, by decide +kernel⟩, lw_t1 (List.mem_of_getElem? (i := 131) rfl), lw_t2 (List.mem_of_getElem? (i := 7) rfl), lw_t2 (List.mem_of_getElem? (i := 8) rfl)⟩
theorem lw_p11 : lw_okq (⟨"SideBySide", "comesHit", "(II)Z"⟩, 9) := ⟨⟨by decide +kernel, by decide +kernel⟩, lw_t1 (List.mem_of_getElem? (i := 131) rfl), lw_t2 (List.mem_of_getElem? (i := 91) rfl), lw_t2 (List.mem_of_getElem? (i := 92) rfl)⟩
theorem lw_p12 : lw_okq (⟨"SideBySide$Court", "byHabit", "(I)I"⟩, 13) := ⟨⟨by decide +kernel, by decide +kernel⟩, lw_t2 (List.mem_of_getElem? (i := 217) rfl), lw_t2 (List.mem_of_getElem? (i := 215) rfl), lw_t2 (List.mem_of_getElem? (i := 216) rfl)⟩
theorem lw_p13 : lw_okq (⟨"SideBySide$Court", "isClash", "(I)Z"⟩, 13) := ⟨⟨by decide +kernel, by decide +kernel⟩, lw_t2 (List.mem_of_getElem? (i := 217) rfl), lw_t2 (List.mem_of_getElem? (i := 223) rfl), lw_t2 (List.mem_of_getElem? (i := 224) rfl)⟩
theorem lw_p14 : lw_okq (⟨"SideBySide$Court", "wins", "(I)V"⟩, 13) := ⟨⟨by decide +kernel, by decide +kernel⟩, lw_t2 (List.mem_of_getElem? (i := 217) rfl), lw_t2 (List.mem_of_getElem? (i := 232) rfl), lw_t2 (List.mem_of_getElem? (i := 233) rfl)⟩
theorem lw_p15 : lw_okq (⟨"SideBySide$Court", "gets", "(III)V"⟩, 13) := ⟨⟨by decide +kernel, by decide +kernel⟩, lw_t2 (List.mem_of_getElem? (i := 217) rfl), lw_t2 (List.mem_of_getElem? (i := 236) rfl), lw_t2 (List.mem_of_getElem? (i := 237) rfl)⟩
def lw_privs_1 : List (MethodName × Nat) := [(⟨"java/lang/NullPointerException", "getExtendedNPEMessage", "()Ljava/lang/String;"⟩, 8), (⟨"java/lang/Throwable", "fillInStackTrace", "(I)Ljava/lang/Throwable;"⟩, 6), (⟨"SideBySide", "isShelf", "(I)Z"⟩, 9), (⟨"SideBySide", "reads", "([B)I"⟩, 9), (⟨"SideBySide$CourtReader", "statement", "()LSideBySide$Told;"⟩, 2), (⟨"SideBySide$CourtReader", "sign", "()I"⟩, 2), (⟨"SideBySide$CourtReader", "reads", "(LSideBySide$Told;)V"⟩, 2), (⟨"SideBySide$CourtReader", "digits", "(LSideBySide$Told;I)V"⟩, 2), (⟨"SideBySide$CourtReader", "number", "(I)I"⟩, 2), (⟨"SideBySide$CourtReader", "broken", "()LSideBySide$Broken;"⟩, 2), (⟨"SideBySide", "comes", "(LSideBySide$Told;)Z"⟩, 9), (⟨"SideBySide", "comesHit", "(II)Z"⟩, 9), (⟨"SideBySide$Court", "byHabit", "(I)I"⟩, 13), (⟨"SideBySide$Court", "isClash", "(I)Z"⟩, 13), (⟨"SideBySide$Court", "wins", "(I)V"⟩, 13), (⟨"SideBySide$Court", "gets", "(III)V"⟩, 13)]
theorem lw_r1 : ∀ q ∈ lw_privs_1, lw_okq q := List.forall_mem_cons.mpr ⟨lw_p0, List.forall_mem_cons.mpr ⟨lw_p1, List.forall_mem_cons.mpr ⟨lw_p2, List.forall_mem_cons.mpr ⟨lw_p3, List.forall_mem_cons.mpr ⟨lw_p4, List.forall_mem_cons.mpr ⟨lw_p5, List.forall_mem_cons.mpr ⟨lw_p6, List.forall_mem_cons.mpr ⟨lw_p7, List.forall_mem_cons.mpr ⟨lw_p8, List.forall_mem_cons.mpr ⟨lw_p9, List.forall_mem_cons.mpr ⟨lw_p10, List.forall_mem_cons.mpr ⟨lw_p11, List.forall_mem_cons.mpr ⟨lw_p12, List.forall_mem_cons.mpr ⟨lw_p13, List.forall_mem_cons.mpr ⟨lw_p14, List.forall_mem_cons.mpr ⟨lw_p15, fun _ h => absurd h List.not_mem_nil⟩⟩⟩⟩⟩⟩⟩⟩⟩⟩⟩⟩⟩⟩⟩⟩
theorem lw_p16 : lw_okq (⟨"SideBySide$Court", "placeBy", "(I)I"⟩, 13) := ⟨⟨by decide +kernel, by decide +kernel⟩, lw_t2 (List.mem_of_getElem? (i := 217) rfl), lw_t3 (List.mem_of_getElem? (i := 0) rfl), lw_t3 (List.mem_of_getElem? (i := 1) rfl)⟩
theorem lw_p17 : lw_okq (⟨"SideBySide$Court", "stepsIn", "(III)V"⟩, 13) := ⟨⟨by decide +kernel, by decide +kernel⟩, lw_t2 (List.mem_of_getElem? (i := 217) rfl), lw_t3 (List.mem_of_getElem? (i := 6) rfl), lw_t3 (List.mem_of_getElem? (i := 7) rfl)⟩
theorem lw_p18 : lw_okq (⟨"SideBySide", "comesPlayer", "(LSideBySide$Told;)Z"⟩, 9) := ⟨⟨by decide +kernel, by decide +kernel⟩, lw_t1 (List.mem_of_getElem? (i := 131) rfl), lw_t3 (List.mem_of_getElem? (i := 14) rfl), lw_t3 (List.mem_of_getElem? (i := 15) rfl)⟩
theorem lw_p19 : lw_okq (⟨"SideBySide", "comesPlace", "(III)Z"⟩, 9) := ⟨⟨by decide +kernel, by decide +kernel⟩, lw_t1 (List.mem_of_getElem? (i := 131) rfl), lw_t3 (List.mem_of_getElem? (i := 21) rfl), lw_t3 (List.mem_of_getElem? (i := 22) rfl)⟩
theorem lw_p20 : lw_okq (⟨"SideBySide", "isHit", "(II)Z"⟩, 9) := ⟨⟨by decide +kernel, by decide +kernel⟩, lw_t1 (List.mem_of_getElem? (i := 131) rfl), lw_t3 (List.mem_of_getElem? (i := 99) rfl), lw_t3 (List.mem_of_getElem? (i := 100) rfl)⟩
theorem lw_p21 : lw_okq (⟨"SideBySide", "winsWith", "(II)Z"⟩, 9) := ⟨⟨by decide +kernel, by decide +kernel⟩, lw_t1 (List.mem_of_getElem? (i := 131) rfl), lw_t3 (List.mem_of_getElem? (i := 113) rfl), lw_t3 (List.mem_of_getElem? (i := 114) rfl)⟩
theorem lw_p22 : lw_okq (⟨"SideBySide", "minds", "()V"⟩, 9) := ⟨⟨by decide +kernel, by decide +kernel⟩, lw_t1 (List.mem_of_getElem? (i := 131) rfl), lw_t3 (List.mem_of_getElem? (i := 117) rfl), lw_t3 (List.mem_of_getElem? (i := 118) rfl)⟩
theorem lw_p23 : lw_okq (⟨"SideBySide", "farFor", "(II)I"⟩, 9) := ⟨⟨by decide +kernel, by decide +kernel⟩, lw_t1 (List.mem_of_getElem? (i := 131) rfl), lw_t3 (List.mem_of_getElem? (i := 137) rfl), lw_t3 (List.mem_of_getElem? (i := 138) rfl)⟩
theorem lw_p24 : lw_okq (⟨"SideBySide", "laterHit", "()I"⟩, 9) := ⟨⟨by decide +kernel, by decide +kernel⟩, lw_t1 (List.mem_of_getElem? (i := 131) rfl), lw_t3 (List.mem_of_getElem? (i := 151) rfl), lw_t3 (List.mem_of_getElem? (i := 152) rfl)⟩
theorem lw_p25 : lw_okq (⟨"SideBySide", "winsLater", "(II)Z"⟩, 9) := ⟨⟨by decide +kernel, by decide +kernel⟩, lw_t1 (List.mem_of_getElem? (i := 131) rfl), lw_t3 (List.mem_of_getElem? (i := 155) rfl), lw_t3 (List.mem_of_getElem? (i := 156) rfl)⟩
theorem lw_p26 : lw_okq (⟨"SideBySide", "bestOf", "(IIIZ)I"⟩, 9) := ⟨⟨by decide +kernel, by decide +kernel⟩, lw_t1 (List.mem_of_getElem? (i := 131) rfl), lw_t3 (List.mem_of_getElem? (i := 163) rfl), lw_t3 (List.mem_of_getElem? (i := 164) rfl)⟩
theorem lw_p27 : lw_okq (⟨"SideBySide", "standsBy", "(III)I"⟩, 9) := ⟨⟨by decide +kernel, by decide +kernel⟩, lw_t1 (List.mem_of_getElem? (i := 131) rfl), lw_t3 (List.mem_of_getElem? (i := 167) rfl), lw_t3 (List.mem_of_getElem? (i := 168) rfl)⟩
theorem lw_p28 : lw_okq (⟨"SideBySide", "stands", "(II)Z"⟩, 9) := ⟨⟨by decide +kernel, by decide +kernel⟩, lw_t1 (List.mem_of_getElem? (i := 131) rfl), lw_t3 (List.mem_of_getElem? (i := 171) rfl), lw_t3 (List.mem_of_getElem? (i := 172) rfl)⟩
theorem lw_p29 : lw_okq (⟨"SideBySide", "notHits", "(I)I"⟩, 9) := ⟨⟨by decide +kernel, by decide +kernel⟩, lw_t1 (List.mem_of_getElem? (i := 131) rfl), lw_t3 (List.mem_of_getElem? (i := 187) rfl), lw_t3 (List.mem_of_getElem? (i := 188) rfl)⟩
theorem lw_p30 : lw_okq (⟨"SideBySide", "notRow", "(I)I"⟩, 9) := ⟨⟨by decide +kernel, by decide +kernel⟩, lw_t1 (List.mem_of_getElem? (i := 131) rfl), lw_t3 (List.mem_of_getElem? (i := 191) rfl), lw_t3 (List.mem_of_getElem? (i := 192) rfl)⟩
theorem lw_p31 : lw_okq (⟨"SideBySide", "rallies", "(Ljava/lang/Object;)I"⟩, 9) := ⟨⟨by decide +kernel, by decide +kernel⟩, lw_t1 (List.mem_of_getElem? (i := 131) rfl), lw_t3 (List.mem_of_getElem? (i := 206) rfl), lw_t3 (List.mem_of_getElem? (i := 207) rfl)⟩
def lw_privs_2 : List (MethodName × Nat) := [(⟨"SideBySide$Court", "placeBy", "(I)I"⟩, 13), (⟨"SideBySide$Court", "stepsIn", "(III)V"⟩, 13), (⟨"SideBySide", "comesPlayer", "(LSideBySide$Told;)Z"⟩, 9), (⟨"SideBySide", "comesPlace", "(III)Z"⟩, 9), (⟨"SideBySide", "isHit", "(II)Z"⟩, 9), (⟨"SideBySide", "winsWith", "(II)Z"⟩, 9), (⟨"SideBySide", "minds", "()V"⟩, 9), (⟨"SideBySide", "farFor", "(II)I"⟩, 9), (⟨"SideBySide", "laterHit", "()I"⟩, 9), (⟨"SideBySide", "winsLater", "(II)Z"⟩, 9), (⟨"SideBySide", "bestOf", "(IIIZ)I"⟩, 9), (⟨"SideBySide", "standsBy", "(III)I"⟩, 9), (⟨"SideBySide", "stands", "(II)Z"⟩, 9), (⟨"SideBySide", "notHits", "(I)I"⟩, 9), (⟨"SideBySide", "notRow", "(I)I"⟩, 9), (⟨"SideBySide", "rallies", "(Ljava/lang/Object;)I"⟩, 9)]
theorem lw_r2 : ∀ q ∈ lw_privs_2, lw_okq q := List.forall_mem_cons.mpr ⟨lw_p16, List.forall_mem_cons.mpr ⟨lw_p17, List.forall_mem_cons.mpr ⟨lw_p18, List.forall_mem_cons.mpr ⟨lw_p19, List.forall_mem_cons.mpr ⟨lw_p20, List.forall_mem_cons.mpr ⟨lw_p21, List.forall_mem_cons.mpr ⟨lw_p22, List.forall_mem_cons.mpr ⟨lw_p23, List.forall_mem_cons.mpr ⟨lw_p24, List.forall_mem_cons.mpr ⟨lw_p25, List.forall_mem_cons.mpr ⟨lw_p26, List.forall_mem_cons.mpr ⟨lw_p27, List.forall_mem_cons.mpr ⟨lw_p28, List.forall_mem_cons.mpr ⟨lw_p29, List.forall_mem_cons.mpr ⟨lw_p30, List.forall_mem_cons.mpr ⟨lw_p31, fun _ h => absurd h List.not_mem_nil⟩⟩⟩⟩⟩⟩⟩⟩⟩⟩⟩⟩⟩⟩⟩⟩
theorem lw_p32 : lw_okq (⟨"SideBySide", "notNine", "(I)I"⟩, 9) := ⟨⟨by decide +kernel, by decide +kernel⟩, lw_t1 (List.mem_of_getElem? (i := 131) rfl), lw_t3 (List.mem_of_getElem? (i := 222) rfl), lw_t3 (List.mem_of_getElem? (i := 223) rfl)⟩
theorem lw_p33 : lw_okq (⟨"SideBySide", "fellSo", "(Ljava/lang/Object;LSideBySide$Stroke;I)Z"⟩, 9) := ⟨⟨by decide +kernel, by decide +kernel⟩, lw_t1 (List.mem_of_getElem? (i := 131) rfl), lw_t3 (List.mem_of_getElem? (i := 226) rfl), lw_t3 (List.mem_of_getElem? (i := 227) rfl)⟩
theorem lw_p34 : lw_okq (⟨"SideBySide", "wereSo", "(Ljava/lang/Object;)Z"⟩, 9) := ⟨⟨by decide +kernel, by decide +kernel⟩, lw_t1 (List.mem_of_getElem? (i := 131) rfl), lw_t4 (List.mem_of_getElem? (i := 1) rfl), lw_t4 (List.mem_of_getElem? (i := 2) rfl)⟩
theorem lw_p35 : lw_okq (⟨"SideBySide", "costs", "(III)I"⟩, 9) := ⟨⟨by decide +kernel, by decide +kernel⟩, lw_t1 (List.mem_of_getElem? (i := 131) rfl), lw_t4 (List.mem_of_getElem? (i := 9) rfl), lw_t4 (List.mem_of_getElem? (i := 10) rfl)⟩
theorem lw_p36 : lw_okq (⟨"SideBySide", "goesOn", "(II)Z"⟩, 9) := ⟨⟨by decide +kernel, by decide +kernel⟩, lw_t1 (List.mem_of_getElem? (i := 131) rfl), lw_t4 (List.mem_of_getElem? (i := 24) rfl), lw_t4 (List.mem_of_getElem? (i := 25) rfl)⟩
theorem lw_p37 : lw_okq (⟨"SideBySide", "draw", "(I)I"⟩, 9) := ⟨⟨by decide +kernel, by decide +kernel⟩, lw_t1 (List.mem_of_getElem? (i := 131) rfl), lw_t4 (List.mem_of_getElem? (i := 55) rfl), lw_t4 (List.mem_of_getElem? (i := 56) rfl)⟩
theorem lw_p38 : lw_okq (⟨"SideBySideModel", "wrongRow", "(II)I"⟩, 20) := ⟨⟨by decide +kernel, by decide +kernel⟩, lw_t5 (List.mem_of_getElem? (i := 139) rfl), lw_t5 (List.mem_of_getElem? (i := 216) rfl), lw_t5 (List.mem_of_getElem? (i := 217) rfl)⟩
theorem lw_p39 : lw_okq (⟨"SideBySideModel", "readsStatement", "()Z"⟩, 20) := ⟨⟨by decide +kernel, by decide +kernel⟩, lw_t5 (List.mem_of_getElem? (i := 139) rfl), lw_t5 (List.mem_of_getElem? (i := 226) rfl), lw_t5 (List.mem_of_getElem? (i := 227) rfl)⟩
theorem lw_p40 : lw_okq (⟨"SideBySideModel", "here", "()I"⟩, 20) := ⟨⟨by decide +kernel, by decide +kernel⟩, lw_t5 (List.mem_of_getElem? (i := 139) rfl), lw_t5 (List.mem_of_getElem? (i := 230) rfl), lw_t5 (List.mem_of_getElem? (i := 231) rfl)⟩
theorem lw_p41 : lw_okq (⟨"SideBySideModel", "readsNumber", "(II)Z"⟩, 20) := ⟨⟨by decide +kernel, by decide +kernel⟩, lw_t5 (List.mem_of_getElem? (i := 139) rfl), lw_t5 (List.mem_of_getElem? (i := 234) rfl), lw_t5 (List.mem_of_getElem? (i := 235) rfl)⟩
theorem lw_p42 : lw_okq (⟨"SideBySideModel", "isDone", "(I)Z"⟩, 20) := ⟨⟨by decide +kernel, by decide +kernel⟩, lw_t5 (List.mem_of_getElem? (i := 139) rfl), lw_t6 (List.mem_of_getElem? (i := 1) rfl), lw_t6 (List.mem_of_getElem? (i := 2) rfl)⟩
theorem lw_p43 : lw_okq (⟨"SideBySideModel", "adds", "(II)V"⟩, 20) := ⟨⟨by decide +kernel, by decide +kernel⟩, lw_t5 (List.mem_of_getElem? (i := 139) rfl), lw_t6 (List.mem_of_getElem? (i := 5) rfl), lw_t6 (List.mem_of_getElem? (i := 6) rfl)⟩
theorem lw_p44 : lw_okq (⟨"SideBySideModel", "isStroke", "(I)Z"⟩, 20) := ⟨⟨by decide +kernel, by decide +kernel⟩, lw_t5 (List.mem_of_getElem? (i := 139) rfl), lw_t6 (List.mem_of_getElem? (i := 18) rfl), lw_t6 (List.mem_of_getElem? (i := 19) rfl)⟩
theorem lw_p45 : lw_okq (⟨"SideBySideModel", "isOver", "()Z"⟩, 20) := ⟨⟨by decide +kernel, by decide +kernel⟩, lw_t5 (List.mem_of_getElem? (i := 139) rfl), lw_t6 (List.mem_of_getElem? (i := 22) rfl), lw_t6 (List.mem_of_getElem? (i := 23) rfl)⟩
theorem lw_p46 : lw_okq (⟨"SideBySideModel", "hits", "([III)Z"⟩, 20) := ⟨⟨by decide +kernel, by decide +kernel⟩, lw_t5 (List.mem_of_getElem? (i := 139) rfl), lw_t6 (List.mem_of_getElem? (i := 26) rfl), lw_t6 (List.mem_of_getElem? (i := 27) rfl)⟩
theorem lw_p47 : lw_okq (⟨"SideBySideModel", "moves", "([III)V"⟩, 20) := ⟨⟨by decide +kernel, by decide +kernel⟩, lw_t5 (List.mem_of_getElem? (i := 139) rfl), lw_t6 (List.mem_of_getElem? (i := 66) rfl), lw_t6 (List.mem_of_getElem? (i := 67) rfl)⟩
def lw_privs_3 : List (MethodName × Nat) := [(⟨"SideBySide", "notNine", "(I)I"⟩, 9), (⟨"SideBySide", "fellSo", "(Ljava/lang/Object;LSideBySide$Stroke;I)Z"⟩, 9), (⟨"SideBySide", "wereSo", "(Ljava/lang/Object;)Z"⟩, 9), (⟨"SideBySide", "costs", "(III)I"⟩, 9), (⟨"SideBySide", "goesOn", "(II)Z"⟩, 9), (⟨"SideBySide", "draw", "(I)I"⟩, 9), (⟨"SideBySideModel", "wrongRow", "(II)I"⟩, 20), (⟨"SideBySideModel", "readsStatement", "()Z"⟩, 20), (⟨"SideBySideModel", "here", "()I"⟩, 20), (⟨"SideBySideModel", "readsNumber", "(II)Z"⟩, 20), (⟨"SideBySideModel", "isDone", "(I)Z"⟩, 20), (⟨"SideBySideModel", "adds", "(II)V"⟩, 20), (⟨"SideBySideModel", "isStroke", "(I)Z"⟩, 20), (⟨"SideBySideModel", "isOver", "()Z"⟩, 20), (⟨"SideBySideModel", "hits", "([III)Z"⟩, 20), (⟨"SideBySideModel", "moves", "([III)V"⟩, 20)]
theorem lw_r3 : ∀ q ∈ lw_privs_3, lw_okq q := List.forall_mem_cons.mpr ⟨lw_p32, List.forall_mem_cons.mpr ⟨lw_p33, List.forall_mem_cons.mpr ⟨lw_p34, List.forall_mem_cons.mpr ⟨lw_p35, List.forall_mem_cons.mpr ⟨lw_p36, List.forall_mem_cons.mpr ⟨lw_p37, List.forall_mem_cons.mpr ⟨lw_p38, List.forall_mem_cons.mpr ⟨lw_p39, List.forall_mem_cons.mpr ⟨lw_p40, List.forall_mem_cons.mpr ⟨lw_p41, List.forall_mem_cons.mpr ⟨lw_p42, List.forall_mem_cons.mpr ⟨lw_p43, List.forall_mem_cons.mpr ⟨lw_p44, List.forall_mem_cons.mpr ⟨lw_p45, List.forall_mem_cons.mpr ⟨lw_p46, List.forall_mem_cons.mpr ⟨lw_p47, fun _ h => absurd h List.not_mem_nil⟩⟩⟩⟩⟩⟩⟩⟩⟩⟩⟩⟩⟩⟩⟩⟩
theorem lw_p48 : lw_okq (⟨"SideBySideModel", "outOfPlace", "(I)I"⟩, 20) := ⟨⟨by decide +kernel, by decide +kernel⟩, lw_t5 (List.mem_of_getElem? (i := 139) rfl), lw_t6 (List.mem_of_getElem? (i := 91) rfl), lw_t6 (List.mem_of_getElem? (i := 92) rfl)⟩
theorem lw_p49 : lw_okq (⟨"SideBySideModel", "wrongKept", "(I)I"⟩, 20) := ⟨⟨by decide +kernel, by decide +kernel⟩, lw_t5 (List.mem_of_getElem? (i := 139) rfl), lw_t6 (List.mem_of_getElem? (i := 99) rfl), lw_t6 (List.mem_of_getElem? (i := 100) rfl)⟩
theorem lw_p50 : lw_okq (⟨"SideBySideModel", "isHit", "(II)Z"⟩, 20) := ⟨⟨by decide +kernel, by decide +kernel⟩, lw_t5 (List.mem_of_getElem? (i := 139) rfl), lw_t6 (List.mem_of_getElem? (i := 131) rfl), lw_t6 (List.mem_of_getElem? (i := 132) rfl)⟩
theorem lw_p51 : lw_okq (⟨"SideBySideModel", "whoseNow", "(II)I"⟩, 20) := ⟨⟨by decide +kernel, by decide +kernel⟩, lw_t5 (List.mem_of_getElem? (i := 139) rfl), lw_t6 (List.mem_of_getElem? (i := 135) rfl), lw_t6 (List.mem_of_getElem? (i := 136) rfl)⟩
theorem lw_p52 : lw_okq (⟨"SideBySideModel", "otherSide", "()I"⟩, 20) := ⟨⟨by decide +kernel, by decide +kernel⟩, lw_t5 (List.mem_of_getElem? (i := 139) rfl), lw_t6 (List.mem_of_getElem? (i := 139) rfl), lw_t6 (List.mem_of_getElem? (i := 140) rfl)⟩
theorem lw_p53 : lw_okq (⟨"SideBySideModel", "isWon", "(II)Z"⟩, 20) := ⟨⟨by decide +kernel, by decide +kernel⟩, lw_t5 (List.mem_of_getElem? (i := 139) rfl), lw_t6 (List.mem_of_getElem? (i := 147) rfl), lw_t6 (List.mem_of_getElem? (i := 148) rfl)⟩
theorem lw_p54 : lw_okq (⟨"SideBySideModel", "openTo", "(I)I"⟩, 20) := ⟨⟨by decide +kernel, by decide +kernel⟩, lw_t5 (List.mem_of_getElem? (i := 139) rfl), lw_t6 (List.mem_of_getElem? (i := 159) rfl), lw_t6 (List.mem_of_getElem? (i := 160) rfl)⟩
theorem lw_p55 : lw_okq (⟨"SideBySideModel", "leads", "(II)I"⟩, 20) := ⟨⟨by decide +kernel, by decide +kernel⟩, lw_t5 (List.mem_of_getElem? (i := 139) rfl), lw_t6 (List.mem_of_getElem? (i := 171) rfl), lw_t6 (List.mem_of_getElem? (i := 172) rfl)⟩
theorem lw_p56 : lw_okq (⟨"SideBySideModel", "isWonInThree", "(II)Z"⟩, 20) := ⟨⟨by decide +kernel, by decide +kernel⟩, lw_t5 (List.mem_of_getElem? (i := 139) rfl), lw_t6 (List.mem_of_getElem? (i := 184) rfl), lw_t6 (List.mem_of_getElem? (i := 185) rfl)⟩
theorem lw_p57 : lw_okq (⟨"SideBySideModel", "bestOf", "(IIII)I"⟩, 20) := ⟨⟨by decide +kernel, by decide +kernel⟩, lw_t5 (List.mem_of_getElem? (i := 139) rfl), lw_t6 (List.mem_of_getElem? (i := 192) rfl), lw_t6 (List.mem_of_getElem? (i := 193) rfl)⟩
theorem lw_p58 : lw_okq (⟨"SideBySideModel", "isHeld", "(IIII)Z"⟩, 20) := ⟨⟨by decide +kernel, by decide +kernel⟩, lw_t5 (List.mem_of_getElem? (i := 139) rfl), lw_t6 (List.mem_of_getElem? (i := 196) rfl), lw_t6 (List.mem_of_getElem? (i := 197) rfl)⟩
theorem lw_p59 : lw_okq (⟨"SideBySideModel", "wrongRally", "(I)I"⟩, 20) := ⟨⟨by decide +kernel, by decide +kernel⟩, lw_t5 (List.mem_of_getElem? (i := 139) rfl), lw_t6 (List.mem_of_getElem? (i := 212) rfl), lw_t6 (List.mem_of_getElem? (i := 213) rfl)⟩
theorem lw_p60 : lw_okq (⟨"SideBySideModel", "rallies", "(I)V"⟩, 20) := ⟨⟨by decide +kernel, by decide +kernel⟩, lw_t5 (List.mem_of_getElem? (i := 139) rfl), lw_t6 (List.mem_of_getElem? (i := 216) rfl), lw_t6 (List.mem_of_getElem? (i := 217) rfl)⟩
theorem lw_p61 : lw_okq (⟨"SideBySideModel", "isSkipped", "(II)Z"⟩, 20) := ⟨⟨by decide +kernel, by decide +kernel⟩, lw_t5 (List.mem_of_getElem? (i := 139) rfl), lw_t6 (List.mem_of_getElem? (i := 232) rfl), lw_t6 (List.mem_of_getElem? (i := 233) rfl)⟩
theorem lw_p62 : lw_okq (⟨"SideBySideModel", "costBy2", "(III)I"⟩, 20) := ⟨⟨by decide +kernel, by decide +kernel⟩, lw_t5 (List.mem_of_getElem? (i := 139) rfl), lw_t7 (List.mem_of_getElem? (i := 8) rfl), lw_t7 (List.mem_of_getElem? (i := 9) rfl)⟩
theorem lw_p63 : lw_okq (⟨"SideBySideModel", "isPointless", "(II)Z"⟩, 20) := ⟨⟨by decide +kernel, by decide +kernel⟩, lw_t5 (List.mem_of_getElem? (i := 139) rfl), lw_t7 (List.mem_of_getElem? (i := 20) rfl), lw_t7 (List.mem_of_getElem? (i := 21) rfl)⟩
def lw_privs_4 : List (MethodName × Nat) := [(⟨"SideBySideModel", "outOfPlace", "(I)I"⟩, 20), (⟨"SideBySideModel", "wrongKept", "(I)I"⟩, 20), (⟨"SideBySideModel", "isHit", "(II)Z"⟩, 20), (⟨"SideBySideModel", "whoseNow", "(II)I"⟩, 20), (⟨"SideBySideModel", "otherSide", "()I"⟩, 20), (⟨"SideBySideModel", "isWon", "(II)Z"⟩, 20), (⟨"SideBySideModel", "openTo", "(I)I"⟩, 20), (⟨"SideBySideModel", "leads", "(II)I"⟩, 20), (⟨"SideBySideModel", "isWonInThree", "(II)Z"⟩, 20), (⟨"SideBySideModel", "bestOf", "(IIII)I"⟩, 20), (⟨"SideBySideModel", "isHeld", "(IIII)Z"⟩, 20), (⟨"SideBySideModel", "wrongRally", "(I)I"⟩, 20), (⟨"SideBySideModel", "rallies", "(I)V"⟩, 20), (⟨"SideBySideModel", "isSkipped", "(II)Z"⟩, 20), (⟨"SideBySideModel", "costBy2", "(III)I"⟩, 20), (⟨"SideBySideModel", "isPointless", "(II)Z"⟩, 20)]
theorem lw_r4 : ∀ q ∈ lw_privs_4, lw_okq q := List.forall_mem_cons.mpr ⟨lw_p48, List.forall_mem_cons.mpr ⟨lw_p49, List.forall_mem_cons.mpr ⟨lw_p50, List.forall_mem_cons.mpr ⟨lw_p51, List.forall_mem_cons.mpr ⟨lw_p52, List.forall_mem_cons.mpr ⟨lw_p53, List.forall_mem_cons.mpr ⟨lw_p54, List.forall_mem_cons.mpr ⟨lw_p55, List.forall_mem_cons.mpr ⟨lw_p56, List.forall_mem_cons.mpr ⟨lw_p57, List.forall_mem_cons.mpr ⟨lw_p58, List.forall_mem_cons.mpr ⟨lw_p59, List.forall_mem_cons.mpr ⟨lw_p60, List.forall_mem_cons.mpr ⟨lw_p61, List.forall_mem_cons.mpr ⟨lw_p62, List.forall_mem_cons.mpr ⟨lw_p63, fun _ h => absurd h List.not_mem_nil⟩⟩⟩⟩⟩⟩⟩⟩⟩⟩⟩⟩⟩⟩⟩⟩
theorem lw_p64 : lw_okq (⟨"SideBySideModel", "allTired", "()I"⟩, 20) := ⟨⟨by decide +kernel, by decide +kernel⟩, lw_t5 (List.mem_of_getElem? (i := 139) rfl), lw_t7 (List.mem_of_getElem? (i := 34) rfl), lw_t7 (List.mem_of_getElem? (i := 35) rfl)⟩
theorem lw_p65 : lw_okq (⟨"SideBySideModel", "drawn", "(I)I"⟩, 20) := ⟨⟨by decide +kernel, by decide +kernel⟩, lw_t5 (List.mem_of_getElem? (i := 139) rfl), lw_t7 (List.mem_of_getElem? (i := 51) rfl), lw_t7 (List.mem_of_getElem? (i := 52) rfl)⟩
def lw_privs_5 : List (MethodName × Nat) := [(⟨"SideBySideModel", "allTired", "()I"⟩, 20), (⟨"SideBySideModel", "drawn", "(I)I"⟩, 20)]
theorem lw_r5 : ∀ q ∈ lw_privs_5, lw_okq q := List.forall_mem_cons.mpr ⟨lw_p64, List.forall_mem_cons.mpr ⟨lw_p65, fun _ h => absurd h List.not_mem_nil⟩⟩
def lw_privs : List (MethodName × Nat) := lw_privs_1 ++ (lw_privs_2 ++ (lw_privs_3 ++ (lw_privs_4 ++ (lw_privs_5))))
def lw_tbl : List Cond := k2_sels lw_privs ++ tables_1
theorem lw_privs_ok : ∀ q ∈ lw_privs, lw_okq q := by
  show ∀ q ∈ lw_privs_1 ++ (lw_privs_2 ++ (lw_privs_3 ++ (lw_privs_4 ++ (lw_privs_5)))), lw_okq q
  exact List.forall_mem_append.mpr ⟨lw_r1, List.forall_mem_append.mpr ⟨lw_r2, List.forall_mem_append.mpr ⟨lw_r3, List.forall_mem_append.mpr ⟨lw_r4, lw_r5⟩⟩⟩⟩
-- ===== ONE list of words for every method: the tables' words that hold all through a run =====
def lw_all : List Cond := lw_tbl.filter goodWord
/-- a word of the tables by its place: claim/WORDS.tsv -/
theorem lw_w {w : Cond} (i : Nat) (h : lw_tbl[i]? = some w) (g : goodWord w = true) : w ∈ lw_all := List.mem_filter.mpr ⟨List.mem_of_getElem? h, g⟩
theorem lw_all_tbl {w : Cond} (h : w ∈ lw_all) : w ∈ lw_tbl := (List.mem_filter.mp h).1
theorem lw_self : GoodIn lw_all lw_all := fun w h => ⟨h, good_of_word (List.mem_filter.mp h).2⟩
/-- a class's field words, by their places -/
theorem lw_in (ws : List Cond) (ps : List Nat) (hp : ws = ps.filterMap (fun i => lw_tbl[i]?)) (hg : ws.all goodWord = true) : ∀ w ∈ ws, w ∈ lw_all := by
  intro w h
  have h1 := List.all_eq_true.mp hg w h
  rw [hp] at h
  obtain ⟨i, -, hi⟩ := List.mem_filterMap.mp h
  exact lw_w i hi h1
/-- the words of a contract for the method y with code b, L locals, answer r -/
abbrev ws_ (y : MethodName) (b : ByteArray) (L : Nat) (r : Option FieldType) : List Cond := Cond.code y b L r :: lw_all
theorem lw_meth {y : MethodName} {b : ByteArray} {L : Nat} {r : Option FieldType} (h : Cond.code y b L r ∈ lw_all) : GoodIn lw_all (ws_ y b L r) := by
  intro w hw
  rcases List.mem_cons.mp hw with e | e
  · rw [e]
    exact lw_self _ h
  · exact lw_self _ e
theorem lw_app {a c : List Cond} (ha : ∀ w ∈ a, w ∈ lw_all) (hc : GoodIn lw_all c) : GoodIn lw_all (a ++ c) := by
  intro w hw
  rcases List.mem_append.mp hw with e | e
  · exact lw_self w (ha w e)
  · exact hc w e
/-- what a call through an object asks: cwV n hts (lw_V ..) -/
theorem lw_V {own : String} {idx : Nat} {C : String} {y : MethodName} {b : ByteArray} {L : Nat} {r : Option FieldType} (h1 : Cond.methodLink own idx y ∈ lw_all) (h2 : Cond.instanceMethod y ∈ lw_all) (h3 : Cond.selects C y y ∈ lw_all) (h4 : Cond.initialized C ∈ lw_all) (h5 : Cond.code y b L r ∈ lw_all) : GoodIn lw_all (wsV own idx C y (ws_ y b L r)) := by
  refine lw_app ?_ (lw_meth h5)
  intro w hw
  simp only [List.mem_cons, List.not_mem_nil, or_false] at hw
  rcases hw with e | e | e | e
  · rw [e]; exact h1
  · rw [e]; exact h2
  · rw [e]; exact h3
  · rw [e]; exact h4
/-- what a static call asks: va_cwS n hts (lw_S ..) -/
theorem lw_S {own : String} {idx : Nat} {y : MethodName} {b : ByteArray} {L : Nat} {r : Option FieldType} (h1 : Cond.methodLink own idx y ∈ lw_all) (h2 : Cond.static y ∈ lw_all) (h3 : Cond.initialized y.cls ∈ lw_all) (h4 : Cond.code y b L r ∈ lw_all) : GoodIn lw_all (va_wsS own idx y (ws_ y b L r)) := by
  refine lw_app ?_ (lw_meth h4)
  intro w hw
  simp only [List.mem_cons, List.not_mem_nil, or_false] at hw
  rcases hw with e | e | e
  · rw [e]; exact h1
  · rw [e]; exact h2
  · rw [e]; exact h3
/-- the words of a contract for a method WITH HANDLERS (hh: its table) -/
abbrev wsW_ (y : MethodName) (b : ByteArray) (L : Nat) (r : Option FieldType) (hh : List (Nat × Nat × Nat × Nat)) : List Cond := Cond.codeWith y b L r hh :: lw_all
theorem lw_methW {y : MethodName} {b : ByteArray} {L : Nat} {r : Option FieldType} {hh : List (Nat × Nat × Nat × Nat)} (h : Cond.codeWith y b L r hh ∈ lw_all) : GoodIn lw_all (wsW_ y b L r hh) := by
  intro w hw
  rcases List.mem_cons.mp hw with e | e
  · rw [e]
    exact lw_self _ h
  · exact lw_self _ e
/-- any list of words by their places (lw_in), good -/
theorem lw_good {ws : List Cond} (h : ∀ w ∈ ws, w ∈ lw_all) : GoodIn lw_all ws := fun w hw => lw_self w (h w hw)
/-- what a call of a method with handlers asks: vx_cwVW n hts (lw_VW ..), vx_cwSW n hts (lw_SW ..) -/
theorem lw_VW {own : String} {idx : Nat} {C : String} {y : MethodName} {b : ByteArray} {L : Nat} {r : Option FieldType} {hh : List (Nat × Nat × Nat × Nat)} (h1 : Cond.methodLink own idx y ∈ lw_all) (h2 : Cond.instanceMethod y ∈ lw_all) (h3 : Cond.selects C y y ∈ lw_all) (h4 : Cond.initialized C ∈ lw_all) (h5 : Cond.codeWith y b L r hh ∈ lw_all) : GoodIn lw_all (wsV own idx C y (wsW_ y b L r hh)) := by
  refine lw_app ?_ (lw_methW h5)
  intro w hw
  simp only [List.mem_cons, List.not_mem_nil, or_false] at hw
  rcases hw with e | e | e | e
  · rw [e]; exact h1
  · rw [e]; exact h2
  · rw [e]; exact h3
  · rw [e]; exact h4
theorem lw_SW {own : String} {idx : Nat} {y : MethodName} {b : ByteArray} {L : Nat} {r : Option FieldType} {hh : List (Nat × Nat × Nat × Nat)} (h1 : Cond.methodLink own idx y ∈ lw_all) (h2 : Cond.static y ∈ lw_all) (h3 : Cond.initialized y.cls ∈ lw_all) (h4 : Cond.codeWith y b L r hh ∈ lw_all) : GoodIn lw_all (va_wsS own idx y (wsW_ y b L r hh)) := by
  refine lw_app ?_ (lw_methW h4)
  intro w hw
  simp only [List.mem_cons, List.not_mem_nil, or_false] at hw
  rcases hw with e | e | e
  · rw [e]; exact h1
  · rw [e]; exact h2
  · rw [e]; exact h3
/-- a word by its place in its run of the tables -/
theorem lw_at {r : List Cond} (hr : ∀ w ∈ r, w ∈ lw_tbl) {w : Cond} (i : Nat) (h : r[i]? = some w) : w ∈ lw_tbl := hr w (List.mem_of_getElem? h)
theorem lw_g {w : Cond} (h : w ∈ lw_tbl) (g : goodWord w = true) : w ∈ lw_all := List.mem_filter.mpr ⟨h, g⟩
theorem lw_ms : ∀ w ∈ k2_sels lw_privs, w ∈ lw_tbl := fun w h => show w ∈ k2_sels lw_privs ++ tables_1 from List.mem_append_left _ h
theorem lw_m1 : ∀ w ∈ tables_1_1, w ∈ lw_tbl := fun w h => show w ∈ k2_sels lw_privs ++ tables_1 from List.mem_append_right (k2_sels lw_privs) (show w ∈ tables_1 from List.mem_append_left _ h)
theorem lw_m2 : ∀ w ∈ tables_1_2, w ∈ lw_tbl := fun w h => show w ∈ k2_sels lw_privs ++ tables_1 from List.mem_append_right (k2_sels lw_privs) (show w ∈ tables_1 from List.mem_append_right _ (List.mem_append_left _ h))
theorem lw_m3 : ∀ w ∈ tables_1_3, w ∈ lw_tbl := fun w h => show w ∈ k2_sels lw_privs ++ tables_1 from List.mem_append_right (k2_sels lw_privs) (show w ∈ tables_1 from List.mem_append_right _ (List.mem_append_right _ (List.mem_append_left _ h)))
theorem lw_m4 : ∀ w ∈ tables_1_4, w ∈ lw_tbl := fun w h => show w ∈ k2_sels lw_privs ++ tables_1 from List.mem_append_right (k2_sels lw_privs) (show w ∈ tables_1 from List.mem_append_right _ (List.mem_append_right _ (List.mem_append_right _ (List.mem_append_left _ h))))
theorem lw_m5 : ∀ w ∈ tables_1_5, w ∈ lw_tbl := fun w h => show w ∈ k2_sels lw_privs ++ tables_1 from List.mem_append_right (k2_sels lw_privs) (show w ∈ tables_1 from List.mem_append_right _ (List.mem_append_right _ (List.mem_append_right _ (List.mem_append_right _ (List.mem_append_left _ h)))))
theorem lw_m6 : ∀ w ∈ tables_1_6, w ∈ lw_tbl := fun w h => show w ∈ k2_sels lw_privs ++ tables_1 from List.mem_append_right (k2_sels lw_privs) (show w ∈ tables_1 from List.mem_append_right _ (List.mem_append_right _ (List.mem_append_right _ (List.mem_append_right _ (List.mem_append_right _ (List.mem_append_left _ h))))))
theorem lw_m7 : ∀ w ∈ tables_1_7, w ∈ lw_tbl := fun w h => show w ∈ k2_sels lw_privs ++ tables_1 from List.mem_append_right (k2_sels lw_privs) (show w ∈ tables_1 from List.mem_append_right _ (List.mem_append_right _ (List.mem_append_right _ (List.mem_append_right _ (List.mem_append_right _ (List.mem_append_right _ h))))))
theorem qs0 : (Cond.selects "java/lang/NullPointerException" ⟨"java/lang/NullPointerException", "getExtendedNPEMessage", "()Ljava/lang/String;"⟩ ⟨"java/lang/NullPointerException", "getExtendedNPEMessage", "()Ljava/lang/String;"⟩) ∈ lw_all := lw_g (lw_at lw_ms 0 rfl) rfl
theorem qs1 : (Cond.selects "java/lang/Throwable" ⟨"java/lang/Throwable", "fillInStackTrace", "(I)Ljava/lang/Throwable;"⟩ ⟨"java/lang/Throwable", "fillInStackTrace", "(I)Ljava/lang/Throwable;"⟩) ∈ lw_all := lw_g (lw_at lw_ms 1 rfl) rfl
theorem qs2 : (Cond.selects "SideBySide" ⟨"SideBySide", "isShelf", "(I)Z"⟩ ⟨"SideBySide", "isShelf", "(I)Z"⟩) ∈ lw_all := lw_g (lw_at lw_ms 2 rfl) rfl
theorem qs3 : (Cond.selects "SideBySide" ⟨"SideBySide", "reads", "([B)I"⟩ ⟨"SideBySide", "reads", "([B)I"⟩) ∈ lw_all := lw_g (lw_at lw_ms 3 rfl) rfl
theorem qs4 : (Cond.selects "SideBySide$CourtReader" ⟨"SideBySide$CourtReader", "statement", "()LSideBySide$Told;"⟩ ⟨"SideBySide$CourtReader", "statement", "()LSideBySide$Told;"⟩) ∈ lw_all := lw_g (lw_at lw_ms 4 rfl) rfl
theorem qs5 : (Cond.selects "SideBySide$CourtReader" ⟨"SideBySide$CourtReader", "sign", "()I"⟩ ⟨"SideBySide$CourtReader", "sign", "()I"⟩) ∈ lw_all := lw_g (lw_at lw_ms 5 rfl) rfl
theorem qs6 : (Cond.selects "SideBySide$CourtReader" ⟨"SideBySide$CourtReader", "reads", "(LSideBySide$Told;)V"⟩ ⟨"SideBySide$CourtReader", "reads", "(LSideBySide$Told;)V"⟩) ∈ lw_all := lw_g (lw_at lw_ms 6 rfl) rfl
theorem qs7 : (Cond.selects "SideBySide$CourtReader" ⟨"SideBySide$CourtReader", "digits", "(LSideBySide$Told;I)V"⟩ ⟨"SideBySide$CourtReader", "digits", "(LSideBySide$Told;I)V"⟩) ∈ lw_all := lw_g (lw_at lw_ms 7 rfl) rfl
theorem qs8 : (Cond.selects "SideBySide$CourtReader" ⟨"SideBySide$CourtReader", "number", "(I)I"⟩ ⟨"SideBySide$CourtReader", "number", "(I)I"⟩) ∈ lw_all := lw_g (lw_at lw_ms 8 rfl) rfl
theorem qs9 : (Cond.selects "SideBySide$CourtReader" ⟨"SideBySide$CourtReader", "broken", "()LSideBySide$Broken;"⟩ ⟨"SideBySide$CourtReader", "broken", "()LSideBySide$Broken;"⟩) ∈ lw_all := lw_g (lw_at lw_ms 9 rfl) rfl
theorem qs10 : (Cond.selects "SideBySide" ⟨"SideBySide", "comes", "(LSideBySide$Told;)Z"⟩ ⟨"SideBySide", "comes", "(LSideBySide$Told;)Z"⟩) ∈ lw_all := lw_g (lw_at lw_ms 10 rfl) rfl
theorem qs11 : (Cond.selects "SideBySide" ⟨"SideBySide", "comesHit", "(II)Z"⟩ ⟨"SideBySide", "comesHit", "(II)Z"⟩) ∈ lw_all := lw_g (lw_at lw_ms 11 rfl) rfl
theorem qs12 : (Cond.selects "SideBySide$Court" ⟨"SideBySide$Court", "byHabit", "(I)I"⟩ ⟨"SideBySide$Court", "byHabit", "(I)I"⟩) ∈ lw_all := lw_g (lw_at lw_ms 12 rfl) rfl
theorem qs13 : (Cond.selects "SideBySide$Court" ⟨"SideBySide$Court", "isClash", "(I)Z"⟩ ⟨"SideBySide$Court", "isClash", "(I)Z"⟩) ∈ lw_all := lw_g (lw_at lw_ms 13 rfl) rfl
theorem qs14 : (Cond.selects "SideBySide$Court" ⟨"SideBySide$Court", "wins", "(I)V"⟩ ⟨"SideBySide$Court", "wins", "(I)V"⟩) ∈ lw_all := lw_g (lw_at lw_ms 14 rfl) rfl
theorem qs15 : (Cond.selects "SideBySide$Court" ⟨"SideBySide$Court", "gets", "(III)V"⟩ ⟨"SideBySide$Court", "gets", "(III)V"⟩) ∈ lw_all := lw_g (lw_at lw_ms 15 rfl) rfl
theorem qs16 : (Cond.selects "SideBySide$Court" ⟨"SideBySide$Court", "placeBy", "(I)I"⟩ ⟨"SideBySide$Court", "placeBy", "(I)I"⟩) ∈ lw_all := lw_g (lw_at lw_ms 16 rfl) rfl
theorem qs17 : (Cond.selects "SideBySide$Court" ⟨"SideBySide$Court", "stepsIn", "(III)V"⟩ ⟨"SideBySide$Court", "stepsIn", "(III)V"⟩) ∈ lw_all := lw_g (lw_at lw_ms 17 rfl) rfl
theorem qs18 : (Cond.selects "SideBySide" ⟨"SideBySide", "comesPlayer", "(LSideBySide$Told;)Z"⟩ ⟨"SideBySide", "comesPlayer", "(LSideBySide$Told;)Z"⟩) ∈ lw_all := lw_g (lw_at lw_ms 18 rfl) rfl
theorem qs19 : (Cond.selects "SideBySide" ⟨"SideBySide", "comesPlace", "(III)Z"⟩ ⟨"SideBySide", "comesPlace", "(III)Z"⟩) ∈ lw_all := lw_g (lw_at lw_ms 19 rfl) rfl
theorem qs20 : (Cond.selects "SideBySide" ⟨"SideBySide", "isHit", "(II)Z"⟩ ⟨"SideBySide", "isHit", "(II)Z"⟩) ∈ lw_all := lw_g (lw_at lw_ms 20 rfl) rfl
theorem qs21 : (Cond.selects "SideBySide" ⟨"SideBySide", "winsWith", "(II)Z"⟩ ⟨"SideBySide", "winsWith", "(II)Z"⟩) ∈ lw_all := lw_g (lw_at lw_ms 21 rfl) rfl
theorem qs22 : (Cond.selects "SideBySide" ⟨"SideBySide", "minds", "()V"⟩ ⟨"SideBySide", "minds", "()V"⟩) ∈ lw_all := lw_g (lw_at lw_ms 22 rfl) rfl
theorem qs23 : (Cond.selects "SideBySide" ⟨"SideBySide", "farFor", "(II)I"⟩ ⟨"SideBySide", "farFor", "(II)I"⟩) ∈ lw_all := lw_g (lw_at lw_ms 23 rfl) rfl
theorem qs24 : (Cond.selects "SideBySide" ⟨"SideBySide", "laterHit", "()I"⟩ ⟨"SideBySide", "laterHit", "()I"⟩) ∈ lw_all := lw_g (lw_at lw_ms 24 rfl) rfl
theorem qs25 : (Cond.selects "SideBySide" ⟨"SideBySide", "winsLater", "(II)Z"⟩ ⟨"SideBySide", "winsLater", "(II)Z"⟩) ∈ lw_all := lw_g (lw_at lw_ms 25 rfl) rfl
theorem qs26 : (Cond.selects "SideBySide" ⟨"SideBySide", "bestOf", "(IIIZ)I"⟩ ⟨"SideBySide", "bestOf", "(IIIZ)I"⟩) ∈ lw_all := lw_g (lw_at lw_ms 26 rfl) rfl
theorem qs27 : (Cond.selects "SideBySide" ⟨"SideBySide", "standsBy", "(III)I"⟩ ⟨"SideBySide", "standsBy", "(III)I"⟩) ∈ lw_all := lw_g (lw_at lw_ms 27 rfl) rfl
theorem qs28 : (Cond.selects "SideBySide" ⟨"SideBySide", "stands", "(II)Z"⟩ ⟨"SideBySide", "stands", "(II)Z"⟩) ∈ lw_all := lw_g (lw_at lw_ms 28 rfl) rfl
theorem qs29 : (Cond.selects "SideBySide" ⟨"SideBySide", "notHits", "(I)I"⟩ ⟨"SideBySide", "notHits", "(I)I"⟩) ∈ lw_all := lw_g (lw_at lw_ms 29 rfl) rfl
theorem qs30 : (Cond.selects "SideBySide" ⟨"SideBySide", "notRow", "(I)I"⟩ ⟨"SideBySide", "notRow", "(I)I"⟩) ∈ lw_all := lw_g (lw_at lw_ms 30 rfl) rfl
theorem qs31 : (Cond.selects "SideBySide" ⟨"SideBySide", "rallies", "(Ljava/lang/Object;)I"⟩ ⟨"SideBySide", "rallies", "(Ljava/lang/Object;)I"⟩) ∈ lw_all := lw_g (lw_at lw_ms 31 rfl) rfl
theorem qs32 : (Cond.selects "SideBySide" ⟨"SideBySide", "notNine", "(I)I"⟩ ⟨"SideBySide", "notNine", "(I)I"⟩) ∈ lw_all := lw_g (lw_at lw_ms 32 rfl) rfl
theorem qs33 : (Cond.selects "SideBySide" ⟨"SideBySide", "fellSo", "(Ljava/lang/Object;LSideBySide$Stroke;I)Z"⟩ ⟨"SideBySide", "fellSo", "(Ljava/lang/Object;LSideBySide$Stroke;I)Z"⟩) ∈ lw_all := lw_g (lw_at lw_ms 33 rfl) rfl
theorem qs34 : (Cond.selects "SideBySide" ⟨"SideBySide", "wereSo", "(Ljava/lang/Object;)Z"⟩ ⟨"SideBySide", "wereSo", "(Ljava/lang/Object;)Z"⟩) ∈ lw_all := lw_g (lw_at lw_ms 34 rfl) rfl
theorem qs35 : (Cond.selects "SideBySide" ⟨"SideBySide", "costs", "(III)I"⟩ ⟨"SideBySide", "costs", "(III)I"⟩) ∈ lw_all := lw_g (lw_at lw_ms 35 rfl) rfl
theorem qs36 : (Cond.selects "SideBySide" ⟨"SideBySide", "goesOn", "(II)Z"⟩ ⟨"SideBySide", "goesOn", "(II)Z"⟩) ∈ lw_all := lw_g (lw_at lw_ms 36 rfl) rfl
theorem qs37 : (Cond.selects "SideBySide" ⟨"SideBySide", "draw", "(I)I"⟩ ⟨"SideBySide", "draw", "(I)I"⟩) ∈ lw_all := lw_g (lw_at lw_ms 37 rfl) rfl
theorem qs38 : (Cond.selects "SideBySideModel" ⟨"SideBySideModel", "wrongRow", "(II)I"⟩ ⟨"SideBySideModel", "wrongRow", "(II)I"⟩) ∈ lw_all := lw_g (lw_at lw_ms 38 rfl) rfl
theorem qs39 : (Cond.selects "SideBySideModel" ⟨"SideBySideModel", "readsStatement", "()Z"⟩ ⟨"SideBySideModel", "readsStatement", "()Z"⟩) ∈ lw_all := lw_g (lw_at lw_ms 39 rfl) rfl
theorem qs40 : (Cond.selects "SideBySideModel" ⟨"SideBySideModel", "here", "()I"⟩ ⟨"SideBySideModel", "here", "()I"⟩) ∈ lw_all := lw_g (lw_at lw_ms 40 rfl) rfl
theorem qs41 : (Cond.selects "SideBySideModel" ⟨"SideBySideModel", "readsNumber", "(II)Z"⟩ ⟨"SideBySideModel", "readsNumber", "(II)Z"⟩) ∈ lw_all := lw_g (lw_at lw_ms 41 rfl) rfl
theorem qs42 : (Cond.selects "SideBySideModel" ⟨"SideBySideModel", "isDone", "(I)Z"⟩ ⟨"SideBySideModel", "isDone", "(I)Z"⟩) ∈ lw_all := lw_g (lw_at lw_ms 42 rfl) rfl
theorem qs43 : (Cond.selects "SideBySideModel" ⟨"SideBySideModel", "adds", "(II)V"⟩ ⟨"SideBySideModel", "adds", "(II)V"⟩) ∈ lw_all := lw_g (lw_at lw_ms 43 rfl) rfl
theorem qs44 : (Cond.selects "SideBySideModel" ⟨"SideBySideModel", "isStroke", "(I)Z"⟩ ⟨"SideBySideModel", "isStroke", "(I)Z"⟩) ∈ lw_all := lw_g (lw_at lw_ms 44 rfl) rfl
theorem qs45 : (Cond.selects "SideBySideModel" ⟨"SideBySideModel", "isOver", "()Z"⟩ ⟨"SideBySideModel", "isOver", "()Z"⟩) ∈ lw_all := lw_g (lw_at lw_ms 45 rfl) rfl
theorem qs46 : (Cond.selects "SideBySideModel" ⟨"SideBySideModel", "hits", "([III)Z"⟩ ⟨"SideBySideModel", "hits", "([III)Z"⟩) ∈ lw_all := lw_g (lw_at lw_ms 46 rfl) rfl
theorem qs47 : (Cond.selects "SideBySideModel" ⟨"SideBySideModel", "moves", "([III)V"⟩ ⟨"SideBySideModel", "moves", "([III)V"⟩) ∈ lw_all := lw_g (lw_at lw_ms 47 rfl) rfl
theorem qs48 : (Cond.selects "SideBySideModel" ⟨"SideBySideModel", "outOfPlace", "(I)I"⟩ ⟨"SideBySideModel", "outOfPlace", "(I)I"⟩) ∈ lw_all := lw_g (lw_at lw_ms 48 rfl) rfl
theorem qs49 : (Cond.selects "SideBySideModel" ⟨"SideBySideModel", "wrongKept", "(I)I"⟩ ⟨"SideBySideModel", "wrongKept", "(I)I"⟩) ∈ lw_all := lw_g (lw_at lw_ms 49 rfl) rfl
theorem qs50 : (Cond.selects "SideBySideModel" ⟨"SideBySideModel", "isHit", "(II)Z"⟩ ⟨"SideBySideModel", "isHit", "(II)Z"⟩) ∈ lw_all := lw_g (lw_at lw_ms 50 rfl) rfl
theorem qs51 : (Cond.selects "SideBySideModel" ⟨"SideBySideModel", "whoseNow", "(II)I"⟩ ⟨"SideBySideModel", "whoseNow", "(II)I"⟩) ∈ lw_all := lw_g (lw_at lw_ms 51 rfl) rfl
theorem qs52 : (Cond.selects "SideBySideModel" ⟨"SideBySideModel", "otherSide", "()I"⟩ ⟨"SideBySideModel", "otherSide", "()I"⟩) ∈ lw_all := lw_g (lw_at lw_ms 52 rfl) rfl
theorem qs53 : (Cond.selects "SideBySideModel" ⟨"SideBySideModel", "isWon", "(II)Z"⟩ ⟨"SideBySideModel", "isWon", "(II)Z"⟩) ∈ lw_all := lw_g (lw_at lw_ms 53 rfl) rfl
theorem qs54 : (Cond.selects "SideBySideModel" ⟨"SideBySideModel", "openTo", "(I)I"⟩ ⟨"SideBySideModel", "openTo", "(I)I"⟩) ∈ lw_all := lw_g (lw_at lw_ms 54 rfl) rfl
theorem qs55 : (Cond.selects "SideBySideModel" ⟨"SideBySideModel", "leads", "(II)I"⟩ ⟨"SideBySideModel", "leads", "(II)I"⟩) ∈ lw_all := lw_g (lw_at lw_ms 55 rfl) rfl
theorem qs56 : (Cond.selects "SideBySideModel" ⟨"SideBySideModel", "isWonInThree", "(II)Z"⟩ ⟨"SideBySideModel", "isWonInThree", "(II)Z"⟩) ∈ lw_all := lw_g (lw_at lw_ms 56 rfl) rfl
theorem qs57 : (Cond.selects "SideBySideModel" ⟨"SideBySideModel", "bestOf", "(IIII)I"⟩ ⟨"SideBySideModel", "bestOf", "(IIII)I"⟩) ∈ lw_all := lw_g (lw_at lw_ms 57 rfl) rfl
theorem qs58 : (Cond.selects "SideBySideModel" ⟨"SideBySideModel", "isHeld", "(IIII)Z"⟩ ⟨"SideBySideModel", "isHeld", "(IIII)Z"⟩) ∈ lw_all := lw_g (lw_at lw_ms 58 rfl) rfl
theorem qs59 : (Cond.selects "SideBySideModel" ⟨"SideBySideModel", "wrongRally", "(I)I"⟩ ⟨"SideBySideModel", "wrongRally", "(I)I"⟩) ∈ lw_all := lw_g (lw_at lw_ms 59 rfl) rfl
theorem qs60 : (Cond.selects "SideBySideModel" ⟨"SideBySideModel", "rallies", "(I)V"⟩ ⟨"SideBySideModel", "rallies", "(I)V"⟩) ∈ lw_all := lw_g (lw_at lw_ms 60 rfl) rfl
theorem qs61 : (Cond.selects "SideBySideModel" ⟨"SideBySideModel", "isSkipped", "(II)Z"⟩ ⟨"SideBySideModel", "isSkipped", "(II)Z"⟩) ∈ lw_all := lw_g (lw_at lw_ms 61 rfl) rfl
theorem qs62 : (Cond.selects "SideBySideModel" ⟨"SideBySideModel", "costBy2", "(III)I"⟩ ⟨"SideBySideModel", "costBy2", "(III)I"⟩) ∈ lw_all := lw_g (lw_at lw_ms 62 rfl) rfl
theorem qs63 : (Cond.selects "SideBySideModel" ⟨"SideBySideModel", "isPointless", "(II)Z"⟩ ⟨"SideBySideModel", "isPointless", "(II)Z"⟩) ∈ lw_all := lw_g (lw_at lw_ms 63 rfl) rfl
theorem qs64 : (Cond.selects "SideBySideModel" ⟨"SideBySideModel", "allTired", "()I"⟩ ⟨"SideBySideModel", "allTired", "()I"⟩) ∈ lw_all := lw_g (lw_at lw_ms 64 rfl) rfl
theorem qs65 : (Cond.selects "SideBySideModel" ⟨"SideBySideModel", "drawn", "(I)I"⟩ ⟨"SideBySideModel", "drawn", "(I)I"⟩) ∈ lw_all := lw_g (lw_at lw_ms 65 rfl) rfl
