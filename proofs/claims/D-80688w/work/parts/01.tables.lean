/-- a private method of a class that the tables say can be made, by its rows of tables_1 -/
def lw_okq (q : MethodName × Nat) : Prop := (q.1.cls ≠ "java/lang/invoke/MethodHandle" ∧ q.1.cls ≠ "java/lang/invoke/VarHandle") ∧ Cond.instantiable q.1.cls q.2 ∈ tables_1 ∧ Cond.privateMethod q.1 ∈ tables_1 ∧ Cond.instanceMethod q.1 ∈ tables_1
set_option maxRecDepth 100000
theorem lw_t1 {w : Cond} (h : w ∈ tables_1_1) : w ∈ tables_1 := List.mem_append_left _ h
theorem lw_t2 {w : Cond} (h : w ∈ tables_1_2) : w ∈ tables_1 := List.mem_append_right _ (List.mem_append_left _ h)
theorem lw_t3 {w : Cond} (h : w ∈ tables_1_3) : w ∈ tables_1 := List.mem_append_right _ (List.mem_append_right _ (List.mem_append_left _ h))
theorem lw_t4 {w : Cond} (h : w ∈ tables_1_4) : w ∈ tables_1 := List.mem_append_right _ (List.mem_append_right _ (List.mem_append_right _ (List.mem_append_left _ h)))
theorem lw_t5 {w : Cond} (h : w ∈ tables_1_5) : w ∈ tables_1 := List.mem_append_right _ (List.mem_append_right _ (List.mem_append_right _ (List.mem_append_right _ (List.mem_append_left _ h))))
theorem lw_t6 {w : Cond} (h : w ∈ tables_1_6) : w ∈ tables_1 := List.mem_append_right _ (List.mem_append_right _ (List.mem_append_right _ (List.mem_append_right _ (List.mem_append_right _ h))))
theorem lw_p0 : lw_okq (⟨"java/lang/NullPointerException", "getExtendedNPEMessage", "()Ljava/lang/String;"⟩, 8) := ⟨⟨by decide +kernel, by decide +kernel⟩, lw_t1 (List.mem_of_getElem? (i := 200) rfl), lw_t1 (List.mem_of_getElem? (i := 198) rfl), lw_t1 (List.mem_of_getElem? (i := 199) rfl)⟩
theorem lw_p1 : lw_okq (⟨"java/lang/Throwable", "fillInStackTrace", "(I)Ljava/lang/Throwable;"⟩, 6) := ⟨⟨by decide +kernel, by decide +kernel⟩, lw_t1 (List.mem_of_getElem? (i := 212) rfl), lw_t1 (List.mem_of_getElem? (i := 210) rfl), lw_t1 (List.mem_of_getElem? (i := 211) rfl)⟩
theorem lw_p2 : lw_okq (⟨"ScoreThreads", "met", "(I)I"⟩, 20) := ⟨⟨by decide +kernel, by decide +kernel⟩, lw_t1 (List.mem_of_getElem? (i := 31) rfl), lw_t2 (List.mem_of_getElem? (i := 39) rfl), lw_t2 (List.mem_of_getElem? (i := 40) rfl)⟩
theorem lw_p3 : lw_okq (⟨"ScoreThreads", "isClip", "(I)Z"⟩, 20) := ⟨⟨by decide +kernel, by decide +kernel⟩, lw_t1 (List.mem_of_getElem? (i := 31) rfl), lw_t2 (List.mem_of_getElem? (i := 80) rfl), lw_t2 (List.mem_of_getElem? (i := 81) rfl)⟩
theorem lw_p4 : lw_okq (⟨"ScoreThreads", "fitsPlug", "(II)Z"⟩, 20) := ⟨⟨by decide +kernel, by decide +kernel⟩, lw_t1 (List.mem_of_getElem? (i := 31) rfl), lw_t2 (List.mem_of_getElem? (i := 145) rfl), lw_t2 (List.mem_of_getElem? (i := 146) rfl)⟩
theorem lw_p5 : lw_okq (⟨"ScoreThreads", "newPlug", "(IFI)LScoreThreads$Plug;"⟩, 20) := ⟨⟨by decide +kernel, by decide +kernel⟩, lw_t1 (List.mem_of_getElem? (i := 31) rfl), lw_t2 (List.mem_of_getElem? (i := 149) rfl), lw_t2 (List.mem_of_getElem? (i := 150) rfl)⟩
theorem lw_p6 : lw_okq (⟨"ScoreThreads", "isPlug", "(I)Z"⟩, 20) := ⟨⟨by decide +kernel, by decide +kernel⟩, lw_t1 (List.mem_of_getElem? (i := 31) rfl), lw_t3 (List.mem_of_getElem? (i := 67) rfl), lw_t3 (List.mem_of_getElem? (i := 68) rfl)⟩
theorem lw_p7 : lw_okq (⟨"ScoreThreads", "edit", "(IIIIZ)I"⟩, 20) := ⟨⟨by decide +kernel, by decide +kernel⟩, lw_t1 (List.mem_of_getElem? (i := 31) rfl), lw_t3 (List.mem_of_getElem? (i := 118) rfl), lw_t3 (List.mem_of_getElem? (i := 119) rfl)⟩
theorem lw_p8 : lw_okq (⟨"ScoreThreads", "does", "(IIIIZ)I"⟩, 20) := ⟨⟨by decide +kernel, by decide +kernel⟩, lw_t1 (List.mem_of_getElem? (i := 31) rfl), lw_t3 (List.mem_of_getElem? (i := 122) rfl), lw_t3 (List.mem_of_getElem? (i := 123) rfl)⟩
theorem lw_p9 : lw_okq (⟨"ScoreThreads", "change", "(IIIIZ)V"⟩, 20) := ⟨⟨by decide +kernel, by decide +kernel⟩, lw_t1 (List.mem_of_getElem? (i := 31) rfl), lw_t3 (List.mem_of_getElem? (i := 140) rfl), lw_t3 (List.mem_of_getElem? (i := 141) rfl)⟩
theorem lw_p10 : lw_okq (⟨"ScoreThreads", "open", "()V"⟩, 20) := ⟨⟨by decide +kernel, by decide +kernel⟩, lw_t1 (List.mem_of_getElem? (i := 31) rfl), lw_t3 (List.mem_of_getElem? (i := 173) rfl), lw_t3 (List.mem_of_getElem? (i := 174) rfl)⟩
theorem lw_p11 : lw_okq (⟨"ScoreThreads", "isWorker", "(I)Z"⟩, 20) := ⟨⟨by decide +kernel, by decide +kernel⟩, lw_t1 (List.mem_of_getElem? (i := 31) rfl), lw_t3 (List.mem_of_getElem? (i := 181) rfl), lw_t3 (List.mem_of_getElem? (i := 182) rfl)⟩
theorem lw_p12 : lw_okq (⟨"ScoreThreads", "step", "(I)I"⟩, 20) := ⟨⟨by decide +kernel, by decide +kernel⟩, lw_t1 (List.mem_of_getElem? (i := 31) rfl), lw_t3 (List.mem_of_getElem? (i := 185) rfl), lw_t3 (List.mem_of_getElem? (i := 186) rfl)⟩
theorem lw_p13 : lw_okq (⟨"ScoreThreads", "mayGo", "(I)Z"⟩, 20) := ⟨⟨by decide +kernel, by decide +kernel⟩, lw_t1 (List.mem_of_getElem? (i := 31) rfl), lw_t3 (List.mem_of_getElem? (i := 189) rfl), lw_t3 (List.mem_of_getElem? (i := 190) rfl)⟩
theorem lw_p14 : lw_okq (⟨"ScoreThreads", "work", "(II)I"⟩, 20) := ⟨⟨by decide +kernel, by decide +kernel⟩, lw_t1 (List.mem_of_getElem? (i := 31) rfl), lw_t3 (List.mem_of_getElem? (i := 200) rfl), lw_t3 (List.mem_of_getElem? (i := 201) rfl)⟩
theorem lw_p15 : lw_okq (⟨"ScoreThreads", "tried", "(LScoreThreads$Track;)I"⟩, 20) := ⟨⟨by decide +kernel, by decide +kernel⟩, lw_t1 (List.mem_of_getElem? (i := 31) rfl), lw_t3 (List.mem_of_getElem? (i := 204) rfl), lw_t3 (List.mem_of_getElem? (i := 205) rfl)⟩
def lw_privs_1 : List (MethodName × Nat) := [(⟨"java/lang/NullPointerException", "getExtendedNPEMessage", "()Ljava/lang/String;"⟩, 8), (⟨"java/lang/Throwable", "fillInStackTrace", "(I)Ljava/lang/Throwable;"⟩, 6), (⟨"ScoreThreads", "met", "(I)I"⟩, 20), (⟨"ScoreThreads", "isClip", "(I)Z"⟩, 20), (⟨"ScoreThreads", "fitsPlug", "(II)Z"⟩, 20), (⟨"ScoreThreads", "newPlug", "(IFI)LScoreThreads$Plug;"⟩, 20), (⟨"ScoreThreads", "isPlug", "(I)Z"⟩, 20), (⟨"ScoreThreads", "edit", "(IIIIZ)I"⟩, 20), (⟨"ScoreThreads", "does", "(IIIIZ)I"⟩, 20), (⟨"ScoreThreads", "change", "(IIIIZ)V"⟩, 20), (⟨"ScoreThreads", "open", "()V"⟩, 20), (⟨"ScoreThreads", "isWorker", "(I)Z"⟩, 20), (⟨"ScoreThreads", "step", "(I)I"⟩, 20), (⟨"ScoreThreads", "mayGo", "(I)Z"⟩, 20), (⟨"ScoreThreads", "work", "(II)I"⟩, 20), (⟨"ScoreThreads", "tried", "(LScoreThreads$Track;)I"⟩, 20)]
theorem lw_r1 : ∀ q ∈ lw_privs_1, lw_okq q := List.forall_mem_cons.mpr ⟨lw_p0, List.forall_mem_cons.mpr ⟨lw_p1, List.forall_mem_cons.mpr ⟨lw_p2, List.forall_mem_cons.mpr ⟨lw_p3, List.forall_mem_cons.mpr ⟨lw_p4, List.forall_mem_cons.mpr ⟨lw_p5, List.forall_mem_cons.mpr ⟨lw_p6, List.forall_mem_cons.mpr ⟨lw_p7, List.forall_mem_cons.mpr ⟨lw_p8, List.forall_mem_cons.mpr ⟨lw_p9, List.forall_mem_cons.mpr ⟨lw_p10, List.forall_mem_cons.mpr ⟨lw_p11, List.forall_mem_cons.mpr ⟨lw_p12, List.forall_mem_cons.mpr ⟨lw_p13, List.forall_mem_cons.mpr ⟨lw_p14, List.forall_mem_cons.mpr ⟨lw_p15, fun _ h => absurd h List.not_mem_nil⟩⟩⟩⟩⟩⟩⟩⟩⟩⟩⟩⟩⟩⟩⟩⟩
theorem lw_p16 : lw_okq (⟨"ScoreThreads", "load", "(LScoreThreads$Track;)V"⟩, 20) := ⟨⟨by decide +kernel, by decide +kernel⟩, lw_t1 (List.mem_of_getElem? (i := 31) rfl), lw_t3 (List.mem_of_getElem? (i := 222) rfl), lw_t3 (List.mem_of_getElem? (i := 223) rfl)⟩
theorem lw_p17 : lw_okq (⟨"ScoreThreads", "waited", "()I"⟩, 20) := ⟨⟨by decide +kernel, by decide +kernel⟩, lw_t1 (List.mem_of_getElem? (i := 31) rfl), lw_t4 (List.mem_of_getElem? (i := 75) rfl), lw_t4 (List.mem_of_getElem? (i := 76) rfl)⟩
theorem lw_p18 : lw_okq (⟨"ScoreThreads", "least", "(I)I"⟩, 20) := ⟨⟨by decide +kernel, by decide +kernel⟩, lw_t1 (List.mem_of_getElem? (i := 31) rfl), lw_t4 (List.mem_of_getElem? (i := 79) rfl), lw_t4 (List.mem_of_getElem? (i := 80) rfl)⟩
theorem lw_p19 : lw_okq (⟨"ScoreThreads", "mix", "()I"⟩, 20) := ⟨⟨by decide +kernel, by decide +kernel⟩, lw_t1 (List.mem_of_getElem? (i := 31) rfl), lw_t4 (List.mem_of_getElem? (i := 83) rfl), lw_t4 (List.mem_of_getElem? (i := 84) rfl)⟩
theorem lw_p20 : lw_okq (⟨"ScoreThreads", "pair", "(II)F"⟩, 20) := ⟨⟨by decide +kernel, by decide +kernel⟩, lw_t1 (List.mem_of_getElem? (i := 31) rfl), lw_t4 (List.mem_of_getElem? (i := 87) rfl), lw_t4 (List.mem_of_getElem? (i := 88) rfl)⟩
theorem lw_p21 : lw_okq (⟨"ScoreThreads", "levelled", "(II)F"⟩, 20) := ⟨⟨by decide +kernel, by decide +kernel⟩, lw_t1 (List.mem_of_getElem? (i := 31) rfl), lw_t4 (List.mem_of_getElem? (i := 91) rfl), lw_t4 (List.mem_of_getElem? (i := 92) rfl)⟩
theorem lw_p22 : lw_okq (⟨"ScoreThreads", "note", "(IIII)V"⟩, 20) := ⟨⟨by decide +kernel, by decide +kernel⟩, lw_t1 (List.mem_of_getElem? (i := 31) rfl), lw_t4 (List.mem_of_getElem? (i := 96) rfl), lw_t4 (List.mem_of_getElem? (i := 97) rfl)⟩
theorem lw_p23 : lw_okq (⟨"ScoreThreads", "plugAt", "(II)I"⟩, 20) := ⟨⟨by decide +kernel, by decide +kernel⟩, lw_t1 (List.mem_of_getElem? (i := 31) rfl), lw_t4 (List.mem_of_getElem? (i := 116) rfl), lw_t4 (List.mem_of_getElem? (i := 117) rfl)⟩
theorem lw_p24 : lw_okq (⟨"ScoreThreads", "numberOf", "(LScoreThreads$Plug;)I"⟩, 20) := ⟨⟨by decide +kernel, by decide +kernel⟩, lw_t1 (List.mem_of_getElem? (i := 31) rfl), lw_t4 (List.mem_of_getElem? (i := 120) rfl), lw_t4 (List.mem_of_getElem? (i := 121) rfl)⟩
theorem lw_p25 : lw_okq (⟨"ScoreThreads", "of", "(LScoreThreads$Track;I)I"⟩, 20) := ⟨⟨by decide +kernel, by decide +kernel⟩, lw_t1 (List.mem_of_getElem? (i := 31) rfl), lw_t4 (List.mem_of_getElem? (i := 124) rfl), lw_t4 (List.mem_of_getElem? (i := 125) rfl)⟩
theorem lw_p26 : lw_okq (⟨"ScoreThreadsModel", "finds", "(I)I"⟩, 53) := ⟨⟨by decide +kernel, by decide +kernel⟩, lw_t4 (List.mem_of_getElem? (i := 156) rfl), lw_t5 (List.mem_of_getElem? (i := 91) rfl), lw_t5 (List.mem_of_getElem? (i := 92) rfl)⟩
theorem lw_p27 : lw_okq (⟨"ScoreThreadsModel", "sampleAt", "(II)F"⟩, 53) := ⟨⟨by decide +kernel, by decide +kernel⟩, lw_t4 (List.mem_of_getElem? (i := 156) rfl), lw_t5 (List.mem_of_getElem? (i := 110) rfl), lw_t5 (List.mem_of_getElem? (i := 111) rfl)⟩
theorem lw_p28 : lw_okq (⟨"ScoreThreadsModel", "tail", "(I)I"⟩, 53) := ⟨⟨by decide +kernel, by decide +kernel⟩, lw_t4 (List.mem_of_getElem? (i := 156) rfl), lw_t5 (List.mem_of_getElem? (i := 141) rfl), lw_t5 (List.mem_of_getElem? (i := 142) rfl)⟩
theorem lw_p29 : lw_okq (⟨"ScoreThreadsModel", "edit", "(IIIII)I"⟩, 53) := ⟨⟨by decide +kernel, by decide +kernel⟩, lw_t4 (List.mem_of_getElem? (i := 156) rfl), lw_t5 (List.mem_of_getElem? (i := 152) rfl), lw_t5 (List.mem_of_getElem? (i := 153) rfl)⟩
theorem lw_p30 : lw_okq (⟨"ScoreThreadsModel", "does", "(IIIII)I"⟩, 53) := ⟨⟨by decide +kernel, by decide +kernel⟩, lw_t4 (List.mem_of_getElem? (i := 156) rfl), lw_t5 (List.mem_of_getElem? (i := 156) rfl), lw_t5 (List.mem_of_getElem? (i := 157) rfl)⟩
theorem lw_p31 : lw_okq (⟨"ScoreThreadsModel", "beginBlock", "()V"⟩, 53) := ⟨⟨by decide +kernel, by decide +kernel⟩, lw_t4 (List.mem_of_getElem? (i := 156) rfl), lw_t5 (List.mem_of_getElem? (i := 188) rfl), lw_t5 (List.mem_of_getElem? (i := 189) rfl)⟩
def lw_privs_2 : List (MethodName × Nat) := [(⟨"ScoreThreads", "load", "(LScoreThreads$Track;)V"⟩, 20), (⟨"ScoreThreads", "waited", "()I"⟩, 20), (⟨"ScoreThreads", "least", "(I)I"⟩, 20), (⟨"ScoreThreads", "mix", "()I"⟩, 20), (⟨"ScoreThreads", "pair", "(II)F"⟩, 20), (⟨"ScoreThreads", "levelled", "(II)F"⟩, 20), (⟨"ScoreThreads", "note", "(IIII)V"⟩, 20), (⟨"ScoreThreads", "plugAt", "(II)I"⟩, 20), (⟨"ScoreThreads", "numberOf", "(LScoreThreads$Plug;)I"⟩, 20), (⟨"ScoreThreads", "of", "(LScoreThreads$Track;I)I"⟩, 20), (⟨"ScoreThreadsModel", "finds", "(I)I"⟩, 53), (⟨"ScoreThreadsModel", "sampleAt", "(II)F"⟩, 53), (⟨"ScoreThreadsModel", "tail", "(I)I"⟩, 53), (⟨"ScoreThreadsModel", "edit", "(IIIII)I"⟩, 53), (⟨"ScoreThreadsModel", "does", "(IIIII)I"⟩, 53), (⟨"ScoreThreadsModel", "beginBlock", "()V"⟩, 53)]
theorem lw_r2 : ∀ q ∈ lw_privs_2, lw_okq q := List.forall_mem_cons.mpr ⟨lw_p16, List.forall_mem_cons.mpr ⟨lw_p17, List.forall_mem_cons.mpr ⟨lw_p18, List.forall_mem_cons.mpr ⟨lw_p19, List.forall_mem_cons.mpr ⟨lw_p20, List.forall_mem_cons.mpr ⟨lw_p21, List.forall_mem_cons.mpr ⟨lw_p22, List.forall_mem_cons.mpr ⟨lw_p23, List.forall_mem_cons.mpr ⟨lw_p24, List.forall_mem_cons.mpr ⟨lw_p25, List.forall_mem_cons.mpr ⟨lw_p26, List.forall_mem_cons.mpr ⟨lw_p27, List.forall_mem_cons.mpr ⟨lw_p28, List.forall_mem_cons.mpr ⟨lw_p29, List.forall_mem_cons.mpr ⟨lw_p30, List.forall_mem_cons.mpr ⟨lw_p31, fun _ h => absurd h List.not_mem_nil⟩⟩⟩⟩⟩⟩⟩⟩⟩⟩⟩⟩⟩⟩⟩⟩
theorem lw_p32 : lw_okq (⟨"ScoreThreadsModel", "isWorker", "(I)Z"⟩, 53) := ⟨⟨by decide +kernel, by decide +kernel⟩, lw_t4 (List.mem_of_getElem? (i := 156) rfl), lw_t5 (List.mem_of_getElem? (i := 196) rfl), lw_t5 (List.mem_of_getElem? (i := 197) rfl)⟩
theorem lw_p33 : lw_okq (⟨"ScoreThreadsModel", "goes", "(I)I"⟩, 53) := ⟨⟨by decide +kernel, by decide +kernel⟩, lw_t4 (List.mem_of_getElem? (i := 156) rfl), lw_t5 (List.mem_of_getElem? (i := 200) rfl), lw_t5 (List.mem_of_getElem? (i := 201) rfl)⟩
theorem lw_p34 : lw_okq (⟨"ScoreThreadsModel", "mayPass", "(II)Z"⟩, 53) := ⟨⟨by decide +kernel, by decide +kernel⟩, lw_t4 (List.mem_of_getElem? (i := 156) rfl), lw_t5 (List.mem_of_getElem? (i := 204) rfl), lw_t5 (List.mem_of_getElem? (i := 205) rfl)⟩
theorem lw_p35 : lw_okq (⟨"ScoreThreadsModel", "passes", "(III)I"⟩, 53) := ⟨⟨by decide +kernel, by decide +kernel⟩, lw_t4 (List.mem_of_getElem? (i := 156) rfl), lw_t5 (List.mem_of_getElem? (i := 208) rfl), lw_t5 (List.mem_of_getElem? (i := 209) rfl)⟩
theorem lw_p36 : lw_okq (⟨"ScoreThreadsModel", "through", "(IF)F"⟩, 53) := ⟨⟨by decide +kernel, by decide +kernel⟩, lw_t4 (List.mem_of_getElem? (i := 156) rfl), lw_t5 (List.mem_of_getElem? (i := 212) rfl), lw_t5 (List.mem_of_getElem? (i := 213) rfl)⟩
theorem lw_p37 : lw_okq (⟨"ScoreThreadsModel", "echo", "(IF)F"⟩, 53) := ⟨⟨by decide +kernel, by decide +kernel⟩, lw_t4 (List.mem_of_getElem? (i := 156) rfl), lw_t5 (List.mem_of_getElem? (i := 220) rfl), lw_t5 (List.mem_of_getElem? (i := 221) rfl)⟩
theorem lw_p38 : lw_okq (⟨"ScoreThreadsModel", "fails", "(III)I"⟩, 53) := ⟨⟨by decide +kernel, by decide +kernel⟩, lw_t4 (List.mem_of_getElem? (i := 156) rfl), lw_t5 (List.mem_of_getElem? (i := 226) rfl), lw_t5 (List.mem_of_getElem? (i := 227) rfl)⟩
theorem lw_p39 : lw_okq (⟨"ScoreThreadsModel", "behind", "(III)V"⟩, 53) := ⟨⟨by decide +kernel, by decide +kernel⟩, lw_t4 (List.mem_of_getElem? (i := 156) rfl), lw_t5 (List.mem_of_getElem? (i := 230) rfl), lw_t5 (List.mem_of_getElem? (i := 231) rfl)⟩
theorem lw_p40 : lw_okq (⟨"ScoreThreadsModel", "nextPlace", "(II)I"⟩, 53) := ⟨⟨by decide +kernel, by decide +kernel⟩, lw_t4 (List.mem_of_getElem? (i := 156) rfl), lw_t5 (List.mem_of_getElem? (i := 234) rfl), lw_t5 (List.mem_of_getElem? (i := 235) rfl)⟩
theorem lw_p41 : lw_okq (⟨"ScoreThreadsModel", "waits", "()I"⟩, 53) := ⟨⟨by decide +kernel, by decide +kernel⟩, lw_t4 (List.mem_of_getElem? (i := 156) rfl), lw_t5 (List.mem_of_getElem? (i := 238) rfl), lw_t5 (List.mem_of_getElem? (i := 239) rfl)⟩
theorem lw_p42 : lw_okq (⟨"ScoreThreadsModel", "firstOf", "(I)I"⟩, 53) := ⟨⟨by decide +kernel, by decide +kernel⟩, lw_t4 (List.mem_of_getElem? (i := 156) rfl), lw_t6 (List.mem_of_getElem? (i := 2) rfl), lw_t6 (List.mem_of_getElem? (i := 3) rfl)⟩
theorem lw_p43 : lw_okq (⟨"ScoreThreadsModel", "loads", "(II)I"⟩, 53) := ⟨⟨by decide +kernel, by decide +kernel⟩, lw_t4 (List.mem_of_getElem? (i := 156) rfl), lw_t6 (List.mem_of_getElem? (i := 6) rfl), lw_t6 (List.mem_of_getElem? (i := 7) rfl)⟩
theorem lw_p44 : lw_okq (⟨"ScoreThreadsModel", "hasTrack", "()Z"⟩, 53) := ⟨⟨by decide +kernel, by decide +kernel⟩, lw_t4 (List.mem_of_getElem? (i := 156) rfl), lw_t6 (List.mem_of_getElem? (i := 10) rfl), lw_t6 (List.mem_of_getElem? (i := 11) rfl)⟩
theorem lw_p45 : lw_okq (⟨"ScoreThreadsModel", "mixes", "()I"⟩, 53) := ⟨⟨by decide +kernel, by decide +kernel⟩, lw_t4 (List.mem_of_getElem? (i := 156) rfl), lw_t6 (List.mem_of_getElem? (i := 14) rfl), lw_t6 (List.mem_of_getElem? (i := 15) rfl)⟩
theorem lw_p46 : lw_okq (⟨"ScoreThreadsModel", "note", "(II)V"⟩, 53) := ⟨⟨by decide +kernel, by decide +kernel⟩, lw_t4 (List.mem_of_getElem? (i := 156) rfl), lw_t6 (List.mem_of_getElem? (i := 18) rfl), lw_t6 (List.mem_of_getElem? (i := 19) rfl)⟩
theorem lw_p47 : lw_okq (⟨"ScoreThreadsModel", "toldOf", "(II)I"⟩, 53) := ⟨⟨by decide +kernel, by decide +kernel⟩, lw_t4 (List.mem_of_getElem? (i := 156) rfl), lw_t6 (List.mem_of_getElem? (i := 38) rfl), lw_t6 (List.mem_of_getElem? (i := 39) rfl)⟩
def lw_privs_3 : List (MethodName × Nat) := [(⟨"ScoreThreadsModel", "isWorker", "(I)Z"⟩, 53), (⟨"ScoreThreadsModel", "goes", "(I)I"⟩, 53), (⟨"ScoreThreadsModel", "mayPass", "(II)Z"⟩, 53), (⟨"ScoreThreadsModel", "passes", "(III)I"⟩, 53), (⟨"ScoreThreadsModel", "through", "(IF)F"⟩, 53), (⟨"ScoreThreadsModel", "echo", "(IF)F"⟩, 53), (⟨"ScoreThreadsModel", "fails", "(III)I"⟩, 53), (⟨"ScoreThreadsModel", "behind", "(III)V"⟩, 53), (⟨"ScoreThreadsModel", "nextPlace", "(II)I"⟩, 53), (⟨"ScoreThreadsModel", "waits", "()I"⟩, 53), (⟨"ScoreThreadsModel", "firstOf", "(I)I"⟩, 53), (⟨"ScoreThreadsModel", "loads", "(II)I"⟩, 53), (⟨"ScoreThreadsModel", "hasTrack", "()Z"⟩, 53), (⟨"ScoreThreadsModel", "mixes", "()I"⟩, 53), (⟨"ScoreThreadsModel", "note", "(II)V"⟩, 53), (⟨"ScoreThreadsModel", "toldOf", "(II)I"⟩, 53)]
theorem lw_r3 : ∀ q ∈ lw_privs_3, lw_okq q := List.forall_mem_cons.mpr ⟨lw_p32, List.forall_mem_cons.mpr ⟨lw_p33, List.forall_mem_cons.mpr ⟨lw_p34, List.forall_mem_cons.mpr ⟨lw_p35, List.forall_mem_cons.mpr ⟨lw_p36, List.forall_mem_cons.mpr ⟨lw_p37, List.forall_mem_cons.mpr ⟨lw_p38, List.forall_mem_cons.mpr ⟨lw_p39, List.forall_mem_cons.mpr ⟨lw_p40, List.forall_mem_cons.mpr ⟨lw_p41, List.forall_mem_cons.mpr ⟨lw_p42, List.forall_mem_cons.mpr ⟨lw_p43, List.forall_mem_cons.mpr ⟨lw_p44, List.forall_mem_cons.mpr ⟨lw_p45, List.forall_mem_cons.mpr ⟨lw_p46, List.forall_mem_cons.mpr ⟨lw_p47, fun _ h => absurd h List.not_mem_nil⟩⟩⟩⟩⟩⟩⟩⟩⟩⟩⟩⟩⟩⟩⟩⟩
theorem lw_p48 : lw_okq (⟨"ScoreThreadsModel", "noted", "()I"⟩, 53) := ⟨⟨by decide +kernel, by decide +kernel⟩, lw_t4 (List.mem_of_getElem? (i := 156) rfl), lw_t6 (List.mem_of_getElem? (i := 50) rfl), lw_t6 (List.mem_of_getElem? (i := 51) rfl)⟩
theorem lw_p49 : lw_okq (⟨"ScoreThreadsModel", "faultOf", "(II)I"⟩, 53) := ⟨⟨by decide +kernel, by decide +kernel⟩, lw_t4 (List.mem_of_getElem? (i := 156) rfl), lw_t6 (List.mem_of_getElem? (i := 54) rfl), lw_t6 (List.mem_of_getElem? (i := 55) rfl)⟩
theorem lw_p50 : lw_okq (⟨"ScoreThreadsModel", "mix", "(J)V"⟩, 53) := ⟨⟨by decide +kernel, by decide +kernel⟩, lw_t4 (List.mem_of_getElem? (i := 156) rfl), lw_t6 (List.mem_of_getElem? (i := 71) rfl), lw_t6 (List.mem_of_getElem? (i := 72) rfl)⟩
def lw_privs_4 : List (MethodName × Nat) := [(⟨"ScoreThreadsModel", "noted", "()I"⟩, 53), (⟨"ScoreThreadsModel", "faultOf", "(II)I"⟩, 53), (⟨"ScoreThreadsModel", "mix", "(J)V"⟩, 53)]
theorem lw_r4 : ∀ q ∈ lw_privs_4, lw_okq q := List.forall_mem_cons.mpr ⟨lw_p48, List.forall_mem_cons.mpr ⟨lw_p49, List.forall_mem_cons.mpr ⟨lw_p50, fun _ h => absurd h List.not_mem_nil⟩⟩⟩
def lw_privs : List (MethodName × Nat) := lw_privs_1 ++ (lw_privs_2 ++ (lw_privs_3 ++ (lw_privs_4)))
def lw_tbl : List Cond := k2_sels lw_privs ++ tables_1
theorem lw_privs_ok : ∀ q ∈ lw_privs, lw_okq q := by
  show ∀ q ∈ lw_privs_1 ++ (lw_privs_2 ++ (lw_privs_3 ++ (lw_privs_4))), lw_okq q
  exact List.forall_mem_append.mpr ⟨lw_r1, List.forall_mem_append.mpr ⟨lw_r2, List.forall_mem_append.mpr ⟨lw_r3, lw_r4⟩⟩⟩
-- ===== ONE list of words for every method: the tables' words that hold all through a run =====
def lw_all : List Cond := lw_tbl.filter goodWord
/-- a word of the tables by its place: claim/WORDS.tsv -/
theorem lw_w {w : Cond} (i : Nat) (h : lw_tbl[i]? = some w) (g : goodWord w = true) : w ∈ lw_all := List.mem_filter.mpr ⟨List.mem_of_getElem? h, g⟩
theorem lw_all_tbl {w : Cond} (h : w ∈ lw_all) : w ∈ lw_tbl := (List.mem_filter.mp h).1
theorem lw_self : GoodIn lw_all lw_all := fun w h => ⟨h, good_of_word (List.mem_filter.mp h).2⟩
/-- a class's field words, by their places -/
theorem lw_in (ws : List Cond) (ps : List Nat) (hp : ws = ps.filterMap (fun i => lw_tbl[i]?)) (hg : ws.all goodWord = true) : ∀ w ∈ ws, w ∈ lw_all := by
  intro w h
  have h1 := List.all_eq_true.mp hg w h
  rw [hp] at h
  obtain ⟨i, -, hi⟩ := List.mem_filterMap.mp h
  exact lw_w i hi h1
/-- the words of a contract for the method y with code b, L locals, answer r -/
abbrev ws_ (y : MethodName) (b : ByteArray) (L : Nat) (r : Option FieldType) : List Cond := Cond.code y b L r :: lw_all
theorem lw_meth {y : MethodName} {b : ByteArray} {L : Nat} {r : Option FieldType} (h : Cond.code y b L r ∈ lw_all) : GoodIn lw_all (ws_ y b L r) := by
  intro w hw
  rcases List.mem_cons.mp hw with e | e
  · rw [e]
    exact lw_self _ h
  · exact lw_self _ e
theorem lw_app {a c : List Cond} (ha : ∀ w ∈ a, w ∈ lw_all) (hc : GoodIn lw_all c) : GoodIn lw_all (a ++ c) := by
  intro w hw
  rcases List.mem_append.mp hw with e | e
  · exact lw_self w (ha w e)
  · exact hc w e
/-- what a call through an object asks: cwV n hts (lw_V ..) -/
theorem lw_V {own : String} {idx : Nat} {C : String} {y : MethodName} {b : ByteArray} {L : Nat} {r : Option FieldType} (h1 : Cond.methodLink own idx y ∈ lw_all) (h2 : Cond.instanceMethod y ∈ lw_all) (h3 : Cond.selects C y y ∈ lw_all) (h4 : Cond.initialized C ∈ lw_all) (h5 : Cond.code y b L r ∈ lw_all) : GoodIn lw_all (wsV own idx C y (ws_ y b L r)) := by
  refine lw_app ?_ (lw_meth h5)
  intro w hw
  simp only [List.mem_cons, List.not_mem_nil, or_false] at hw
  rcases hw with e | e | e | e
  · rw [e]; exact h1
  · rw [e]; exact h2
  · rw [e]; exact h3
  · rw [e]; exact h4
/-- what a static call asks: va_cwS n hts (lw_S ..) -/
theorem lw_S {own : String} {idx : Nat} {y : MethodName} {b : ByteArray} {L : Nat} {r : Option FieldType} (h1 : Cond.methodLink own idx y ∈ lw_all) (h2 : Cond.static y ∈ lw_all) (h3 : Cond.initialized y.cls ∈ lw_all) (h4 : Cond.code y b L r ∈ lw_all) : GoodIn lw_all (va_wsS own idx y (ws_ y b L r)) := by
  refine lw_app ?_ (lw_meth h4)
  intro w hw
  simp only [List.mem_cons, List.not_mem_nil, or_false] at hw
  rcases hw with e | e | e
  · rw [e]; exact h1
  · rw [e]; exact h2
  · rw [e]; exact h3
/-- the words of a contract for a method WITH HANDLERS (hh: its table) -/
abbrev wsW_ (y : MethodName) (b : ByteArray) (L : Nat) (r : Option FieldType) (hh : List (Nat × Nat × Nat × Nat)) : List Cond := Cond.codeWith y b L r hh :: lw_all
theorem lw_methW {y : MethodName} {b : ByteArray} {L : Nat} {r : Option FieldType} {hh : List (Nat × Nat × Nat × Nat)} (h : Cond.codeWith y b L r hh ∈ lw_all) : GoodIn lw_all (wsW_ y b L r hh) := by
  intro w hw
  rcases List.mem_cons.mp hw with e | e
  · rw [e]
    exact lw_self _ h
  · exact lw_self _ e
/-- any list of words by their places (lw_in), good -/
theorem lw_good {ws : List Cond} (h : ∀ w ∈ ws, w ∈ lw_all) : GoodIn lw_all ws := fun w hw => lw_self w (h w hw)
/-- what a call of a method with handlers asks: vx_cwVW n hts (lw_VW ..), vx_cwSW n hts (lw_SW ..) -/
theorem lw_VW {own : String} {idx : Nat} {C : String} {y : MethodName} {b : ByteArray} {L : Nat} {r : Option FieldType} {hh : List (Nat × Nat × Nat × Nat)} (h1 : Cond.methodLink own idx y ∈ lw_all) (h2 : Cond.instanceMethod y ∈ lw_all) (h3 : Cond.selects C y y ∈ lw_all) (h4 : Cond.initialized C ∈ lw_all) (h5 : Cond.codeWith y b L r hh ∈ lw_all) : GoodIn lw_all (wsV own idx C y (wsW_ y b L r hh)) := by
  refine lw_app ?_ (lw_methW h5)
  intro w hw
  simp only [List.mem_cons, List.not_mem_nil, or_false] at hw
  rcases hw with e | e | e | e
  · rw [e]; exact h1
  · rw [e]; exact h2
  · rw [e]; exact h3
  · rw [e]; exact h4
theorem lw_SW {own : String} {idx : Nat} {y : MethodName} {b : ByteArray} {L : Nat} {r : Option FieldType} {hh : List (Nat × Nat × Nat × Nat)} (h1 : Cond.methodLink own idx y ∈ lw_all) (h2 : Cond.static y ∈ lw_all) (h3 : Cond.initialized y.cls ∈ lw_all) (h4 : Cond.codeWith y b L r hh ∈ lw_all) : GoodIn lw_all (va_wsS own idx y (wsW_ y b L r hh)) := by
  refine lw_app ?_ (lw_methW h4)
  intro w hw
  simp only [List.mem_cons, List.not_mem_nil, or_false] at hw
  rcases hw with e | e | e
  · rw [e]; exact h1
  · rw [e]; exact h2
  · rw [e]; exact h3
/-- a word by its place in its run of the tables -/
theorem lw_at {r : List Cond} (hr : ∀ w ∈ r, w ∈ lw_tbl) {w : Cond} (i : Nat) (h : r[i]? = some w) : w ∈ lw_tbl := hr w (List.mem_of_getElem? h)
theorem lw_g {w : Cond} (h : w ∈ lw_tbl) (g : goodWord w = true) : w ∈ lw_all := List.mem_filter.mpr ⟨h, g⟩
theorem lw_ms : ∀ w ∈ k2_sels lw_privs, w ∈ lw_tbl := fun w h => show w ∈ k2_sels lw_privs ++ tables_1 from List.mem_append_left _ h
theorem lw_m1 : ∀ w ∈ tables_1_1, w ∈ lw_tbl := fun w h => show w ∈ k2_sels lw_privs ++ tables_1 from List.mem_append_right (k2_sels lw_privs) (show w ∈ tables_1 from List.mem_append_left _ h)
theorem lw_m2 : ∀ w ∈ tables_1_2, w ∈ lw_tbl := fun w h => show w ∈ k2_sels lw_privs ++ tables_1 from List.mem_append_right (k2_sels lw_privs) (show w ∈ tables_1 from List.mem_append_right _ (List.mem_append_left _ h))
theorem lw_m3 : ∀ w ∈ tables_1_3, w ∈ lw_tbl := fun w h => show w ∈ k2_sels lw_privs ++ tables_1 from List.mem_append_right (k2_sels lw_privs) (show w ∈ tables_1 from List.mem_append_right _ (List.mem_append_right _ (List.mem_append_left _ h)))
theorem lw_m4 : ∀ w ∈ tables_1_4, w ∈ lw_tbl := fun w h => show w ∈ k2_sels lw_privs ++ tables_1 from List.mem_append_right (k2_sels lw_privs) (show w ∈ tables_1 from List.mem_append_right _ (List.mem_append_right _ (List.mem_append_right _ (List.mem_append_left _ h))))
theorem lw_m5 : ∀ w ∈ tables_1_5, w ∈ lw_tbl := fun w h => show w ∈ k2_sels lw_privs ++ tables_1 from List.mem_append_right (k2_sels lw_privs) (show w ∈ tables_1 from List.mem_append_right _ (List.mem_append_right _ (List.mem_append_right _ (List.mem_append_right _ (List.mem_append_left _ h)))))
theorem lw_m6 : ∀ w ∈ tables_1_6, w ∈ lw_tbl := fun w h => show w ∈ k2_sels lw_privs ++ tables_1 from List.mem_append_right (k2_sels lw_privs) (show w ∈ tables_1 from List.mem_append_right _ (List.mem_append_right _ (List.mem_append_right _ (List.mem_append_right _ (List.mem_append_right _ h)))))
theorem qs0 : (Cond.selects "java/lang/NullPointerException" ⟨"java/lang/NullPointerException", "getExtendedNPEMessage", "()Ljava/lang/String;"⟩ ⟨"java/lang/NullPointerException", "getExtendedNPEMessage", "()Ljava/lang/String;"⟩) ∈ lw_all := lw_g (lw_at lw_ms 0 rfl) rfl
theorem qs1 : (Cond.selects "java/lang/Throwable" ⟨"java/lang/Throwable", "fillInStackTrace", "(I)Ljava/lang/Throwable;"⟩ ⟨"java/lang/Throwable", "fillInStackTrace", "(I)Ljava/lang/Throwable;"⟩) ∈ lw_all := lw_g (lw_at lw_ms 1 rfl) rfl
theorem qs2 : (Cond.selects "ScoreThreads" ⟨"ScoreThreads", "met", "(I)I"⟩ ⟨"ScoreThreads", "met", "(I)I"⟩) ∈ lw_all := lw_g (lw_at lw_ms 2 rfl) rfl
theorem qs3 : (Cond.selects "ScoreThreads" ⟨"ScoreThreads", "isClip", "(I)Z"⟩ ⟨"ScoreThreads", "isClip", "(I)Z"⟩) ∈ lw_all := lw_g (lw_at lw_ms 3 rfl) rfl
theorem qs4 : (Cond.selects "ScoreThreads" ⟨"ScoreThreads", "fitsPlug", "(II)Z"⟩ ⟨"ScoreThreads", "fitsPlug", "(II)Z"⟩) ∈ lw_all := lw_g (lw_at lw_ms 4 rfl) rfl
theorem qs5 : (Cond.selects "ScoreThreads" ⟨"ScoreThreads", "newPlug", "(IFI)LScoreThreads$Plug;"⟩ ⟨"ScoreThreads", "newPlug", "(IFI)LScoreThreads$Plug;"⟩) ∈ lw_all := lw_g (lw_at lw_ms 5 rfl) rfl
theorem qs6 : (Cond.selects "ScoreThreads" ⟨"ScoreThreads", "isPlug", "(I)Z"⟩ ⟨"ScoreThreads", "isPlug", "(I)Z"⟩) ∈ lw_all := lw_g (lw_at lw_ms 6 rfl) rfl
theorem qs7 : (Cond.selects "ScoreThreads" ⟨"ScoreThreads", "edit", "(IIIIZ)I"⟩ ⟨"ScoreThreads", "edit", "(IIIIZ)I"⟩) ∈ lw_all := lw_g (lw_at lw_ms 7 rfl) rfl
theorem qs8 : (Cond.selects "ScoreThreads" ⟨"ScoreThreads", "does", "(IIIIZ)I"⟩ ⟨"ScoreThreads", "does", "(IIIIZ)I"⟩) ∈ lw_all := lw_g (lw_at lw_ms 8 rfl) rfl
theorem qs9 : (Cond.selects "ScoreThreads" ⟨"ScoreThreads", "change", "(IIIIZ)V"⟩ ⟨"ScoreThreads", "change", "(IIIIZ)V"⟩) ∈ lw_all := lw_g (lw_at lw_ms 9 rfl) rfl
theorem qs10 : (Cond.selects "ScoreThreads" ⟨"ScoreThreads", "open", "()V"⟩ ⟨"ScoreThreads", "open", "()V"⟩) ∈ lw_all := lw_g (lw_at lw_ms 10 rfl) rfl
theorem qs11 : (Cond.selects "ScoreThreads" ⟨"ScoreThreads", "isWorker", "(I)Z"⟩ ⟨"ScoreThreads", "isWorker", "(I)Z"⟩) ∈ lw_all := lw_g (lw_at lw_ms 11 rfl) rfl
theorem qs12 : (Cond.selects "ScoreThreads" ⟨"ScoreThreads", "step", "(I)I"⟩ ⟨"ScoreThreads", "step", "(I)I"⟩) ∈ lw_all := lw_g (lw_at lw_ms 12 rfl) rfl
theorem qs13 : (Cond.selects "ScoreThreads" ⟨"ScoreThreads", "mayGo", "(I)Z"⟩ ⟨"ScoreThreads", "mayGo", "(I)Z"⟩) ∈ lw_all := lw_g (lw_at lw_ms 13 rfl) rfl
theorem qs14 : (Cond.selects "ScoreThreads" ⟨"ScoreThreads", "work", "(II)I"⟩ ⟨"ScoreThreads", "work", "(II)I"⟩) ∈ lw_all := lw_g (lw_at lw_ms 14 rfl) rfl
theorem qs15 : (Cond.selects "ScoreThreads" ⟨"ScoreThreads", "tried", "(LScoreThreads$Track;)I"⟩ ⟨"ScoreThreads", "tried", "(LScoreThreads$Track;)I"⟩) ∈ lw_all := lw_g (lw_at lw_ms 15 rfl) rfl
theorem qs16 : (Cond.selects "ScoreThreads" ⟨"ScoreThreads", "load", "(LScoreThreads$Track;)V"⟩ ⟨"ScoreThreads", "load", "(LScoreThreads$Track;)V"⟩) ∈ lw_all := lw_g (lw_at lw_ms 16 rfl) rfl
theorem qs17 : (Cond.selects "ScoreThreads" ⟨"ScoreThreads", "waited", "()I"⟩ ⟨"ScoreThreads", "waited", "()I"⟩) ∈ lw_all := lw_g (lw_at lw_ms 17 rfl) rfl
theorem qs18 : (Cond.selects "ScoreThreads" ⟨"ScoreThreads", "least", "(I)I"⟩ ⟨"ScoreThreads", "least", "(I)I"⟩) ∈ lw_all := lw_g (lw_at lw_ms 18 rfl) rfl
theorem qs19 : (Cond.selects "ScoreThreads" ⟨"ScoreThreads", "mix", "()I"⟩ ⟨"ScoreThreads", "mix", "()I"⟩) ∈ lw_all := lw_g (lw_at lw_ms 19 rfl) rfl
theorem qs20 : (Cond.selects "ScoreThreads" ⟨"ScoreThreads", "pair", "(II)F"⟩ ⟨"ScoreThreads", "pair", "(II)F"⟩) ∈ lw_all := lw_g (lw_at lw_ms 20 rfl) rfl
theorem qs21 : (Cond.selects "ScoreThreads" ⟨"ScoreThreads", "levelled", "(II)F"⟩ ⟨"ScoreThreads", "levelled", "(II)F"⟩) ∈ lw_all := lw_g (lw_at lw_ms 21 rfl) rfl
theorem qs22 : (Cond.selects "ScoreThreads" ⟨"ScoreThreads", "note", "(IIII)V"⟩ ⟨"ScoreThreads", "note", "(IIII)V"⟩) ∈ lw_all := lw_g (lw_at lw_ms 22 rfl) rfl
theorem qs23 : (Cond.selects "ScoreThreads" ⟨"ScoreThreads", "plugAt", "(II)I"⟩ ⟨"ScoreThreads", "plugAt", "(II)I"⟩) ∈ lw_all := lw_g (lw_at lw_ms 23 rfl) rfl
theorem qs24 : (Cond.selects "ScoreThreads" ⟨"ScoreThreads", "numberOf", "(LScoreThreads$Plug;)I"⟩ ⟨"ScoreThreads", "numberOf", "(LScoreThreads$Plug;)I"⟩) ∈ lw_all := lw_g (lw_at lw_ms 24 rfl) rfl
theorem qs25 : (Cond.selects "ScoreThreads" ⟨"ScoreThreads", "of", "(LScoreThreads$Track;I)I"⟩ ⟨"ScoreThreads", "of", "(LScoreThreads$Track;I)I"⟩) ∈ lw_all := lw_g (lw_at lw_ms 25 rfl) rfl
theorem qs26 : (Cond.selects "ScoreThreadsModel" ⟨"ScoreThreadsModel", "finds", "(I)I"⟩ ⟨"ScoreThreadsModel", "finds", "(I)I"⟩) ∈ lw_all := lw_g (lw_at lw_ms 26 rfl) rfl
theorem qs27 : (Cond.selects "ScoreThreadsModel" ⟨"ScoreThreadsModel", "sampleAt", "(II)F"⟩ ⟨"ScoreThreadsModel", "sampleAt", "(II)F"⟩) ∈ lw_all := lw_g (lw_at lw_ms 27 rfl) rfl
theorem qs28 : (Cond.selects "ScoreThreadsModel" ⟨"ScoreThreadsModel", "tail", "(I)I"⟩ ⟨"ScoreThreadsModel", "tail", "(I)I"⟩) ∈ lw_all := lw_g (lw_at lw_ms 28 rfl) rfl
theorem qs29 : (Cond.selects "ScoreThreadsModel" ⟨"ScoreThreadsModel", "edit", "(IIIII)I"⟩ ⟨"ScoreThreadsModel", "edit", "(IIIII)I"⟩) ∈ lw_all := lw_g (lw_at lw_ms 29 rfl) rfl
theorem qs30 : (Cond.selects "ScoreThreadsModel" ⟨"ScoreThreadsModel", "does", "(IIIII)I"⟩ ⟨"ScoreThreadsModel", "does", "(IIIII)I"⟩) ∈ lw_all := lw_g (lw_at lw_ms 30 rfl) rfl
theorem qs31 : (Cond.selects "ScoreThreadsModel" ⟨"ScoreThreadsModel", "beginBlock", "()V"⟩ ⟨"ScoreThreadsModel", "beginBlock", "()V"⟩) ∈ lw_all := lw_g (lw_at lw_ms 31 rfl) rfl
theorem qs32 : (Cond.selects "ScoreThreadsModel" ⟨"ScoreThreadsModel", "isWorker", "(I)Z"⟩ ⟨"ScoreThreadsModel", "isWorker", "(I)Z"⟩) ∈ lw_all := lw_g (lw_at lw_ms 32 rfl) rfl
theorem qs33 : (Cond.selects "ScoreThreadsModel" ⟨"ScoreThreadsModel", "goes", "(I)I"⟩ ⟨"ScoreThreadsModel", "goes", "(I)I"⟩) ∈ lw_all := lw_g (lw_at lw_ms 33 rfl) rfl
theorem qs34 : (Cond.selects "ScoreThreadsModel" ⟨"ScoreThreadsModel", "mayPass", "(II)Z"⟩ ⟨"ScoreThreadsModel", "mayPass", "(II)Z"⟩) ∈ lw_all := lw_g (lw_at lw_ms 34 rfl) rfl
theorem qs35 : (Cond.selects "ScoreThreadsModel" ⟨"ScoreThreadsModel", "passes", "(III)I"⟩ ⟨"ScoreThreadsModel", "passes", "(III)I"⟩) ∈ lw_all := lw_g (lw_at lw_ms 35 rfl) rfl
theorem qs36 : (Cond.selects "ScoreThreadsModel" ⟨"ScoreThreadsModel", "through", "(IF)F"⟩ ⟨"ScoreThreadsModel", "through", "(IF)F"⟩) ∈ lw_all := lw_g (lw_at lw_ms 36 rfl) rfl
theorem qs37 : (Cond.selects "ScoreThreadsModel" ⟨"ScoreThreadsModel", "echo", "(IF)F"⟩ ⟨"ScoreThreadsModel", "echo", "(IF)F"⟩) ∈ lw_all := lw_g (lw_at lw_ms 37 rfl) rfl
theorem qs38 : (Cond.selects "ScoreThreadsModel" ⟨"ScoreThreadsModel", "fails", "(III)I"⟩ ⟨"ScoreThreadsModel", "fails", "(III)I"⟩) ∈ lw_all := lw_g (lw_at lw_ms 38 rfl) rfl
theorem qs39 : (Cond.selects "ScoreThreadsModel" ⟨"ScoreThreadsModel", "behind", "(III)V"⟩ ⟨"ScoreThreadsModel", "behind", "(III)V"⟩) ∈ lw_all := lw_g (lw_at lw_ms 39 rfl) rfl
theorem qs40 : (Cond.selects "ScoreThreadsModel" ⟨"ScoreThreadsModel", "nextPlace", "(II)I"⟩ ⟨"ScoreThreadsModel", "nextPlace", "(II)I"⟩) ∈ lw_all := lw_g (lw_at lw_ms 40 rfl) rfl
theorem qs41 : (Cond.selects "ScoreThreadsModel" ⟨"ScoreThreadsModel", "waits", "()I"⟩ ⟨"ScoreThreadsModel", "waits", "()I"⟩) ∈ lw_all := lw_g (lw_at lw_ms 41 rfl) rfl
theorem qs42 : (Cond.selects "ScoreThreadsModel" ⟨"ScoreThreadsModel", "firstOf", "(I)I"⟩ ⟨"ScoreThreadsModel", "firstOf", "(I)I"⟩) ∈ lw_all := lw_g (lw_at lw_ms 42 rfl) rfl
theorem qs43 : (Cond.selects "ScoreThreadsModel" ⟨"ScoreThreadsModel", "loads", "(II)I"⟩ ⟨"ScoreThreadsModel", "loads", "(II)I"⟩) ∈ lw_all := lw_g (lw_at lw_ms 43 rfl) rfl
theorem qs44 : (Cond.selects "ScoreThreadsModel" ⟨"ScoreThreadsModel", "hasTrack", "()Z"⟩ ⟨"ScoreThreadsModel", "hasTrack", "()Z"⟩) ∈ lw_all := lw_g (lw_at lw_ms 44 rfl) rfl
theorem qs45 : (Cond.selects "ScoreThreadsModel" ⟨"ScoreThreadsModel", "mixes", "()I"⟩ ⟨"ScoreThreadsModel", "mixes", "()I"⟩) ∈ lw_all := lw_g (lw_at lw_ms 45 rfl) rfl
theorem qs46 : (Cond.selects "ScoreThreadsModel" ⟨"ScoreThreadsModel", "note", "(II)V"⟩ ⟨"ScoreThreadsModel", "note", "(II)V"⟩) ∈ lw_all := lw_g (lw_at lw_ms 46 rfl) rfl
theorem qs47 : (Cond.selects "ScoreThreadsModel" ⟨"ScoreThreadsModel", "toldOf", "(II)I"⟩ ⟨"ScoreThreadsModel", "toldOf", "(II)I"⟩) ∈ lw_all := lw_g (lw_at lw_ms 47 rfl) rfl
theorem qs48 : (Cond.selects "ScoreThreadsModel" ⟨"ScoreThreadsModel", "noted", "()I"⟩ ⟨"ScoreThreadsModel", "noted", "()I"⟩) ∈ lw_all := lw_g (lw_at lw_ms 48 rfl) rfl
theorem qs49 : (Cond.selects "ScoreThreadsModel" ⟨"ScoreThreadsModel", "faultOf", "(II)I"⟩ ⟨"ScoreThreadsModel", "faultOf", "(II)I"⟩) ∈ lw_all := lw_g (lw_at lw_ms 49 rfl) rfl
theorem qs50 : (Cond.selects "ScoreThreadsModel" ⟨"ScoreThreadsModel", "mix", "(J)V"⟩ ⟨"ScoreThreadsModel", "mix", "(J)V"⟩) ∈ lw_all := lw_g (lw_at lw_ms 50 rfl) rfl
