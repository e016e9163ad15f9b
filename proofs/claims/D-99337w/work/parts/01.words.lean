-- ===== PART A: goes FIRST, ahead of the names: the tables' words, and 'selects' of the private methods out of them =====
/-- a private method of a class that the tables say can be made, by its rows of tables_1 -/
def lw_okq (q : MethodName × Nat) : Prop := (q.1.cls ≠ "java/lang/invoke/MethodHandle" ∧ q.1.cls ≠ "java/lang/invoke/VarHandle") ∧ Cond.instantiable q.1.cls q.2 ∈ tables_1 ∧ Cond.privateMethod q.1 ∈ tables_1 ∧ Cond.instanceMethod q.1 ∈ tables_1
set_option maxRecDepth 100000
theorem lw_t1 {w : Cond} (h : w ∈ tables_1_1) : w ∈ tables_1 := List.mem_append_left _ h
theorem lw_t2 {w : Cond} (h : w ∈ tables_1_2) : w ∈ tables_1 := List.mem_append_right _ (List.mem_append_left _ h)
theorem lw_t3 {w : Cond} (h : w ∈ tables_1_3) : w ∈ tables_1 := List.mem_append_right _ (List.mem_append_right _ (List.mem_append_left _ h))
theorem lw_t4 {w : Cond} (h : w ∈ tables_1_4) : w ∈ tables_1 := List.mem_append_right _ (List.mem_append_right _ (List.mem_append_right _ (List.mem_append_left _ h)))
theorem lw_t5 {w : Cond} (h : w ∈ tables_1_5) : w ∈ tables_1 := List.mem_append_right _ (List.mem_append_right _ (List.mem_append_right _ (List.mem_append_right _ (List.mem_append_left _ h))))
theorem lw_t6 {w : Cond} (h : w ∈ tables_1_6) : w ∈ tables_1 := List.mem_append_right _ (List.mem_append_right _ (List.mem_append_right _ (List.mem_append_right _ (List.mem_append_right _ (List.mem_append_left _ h)))))
theorem lw_t7 {w : Cond} (h : w ∈ tables_1_7) : w ∈ tables_1 := List.mem_append_right _ (List.mem_append_right _ (List.mem_append_right _ (List.mem_append_right _ (List.mem_append_right _ (List.mem_append_right _ (List.mem_append_left _ h))))))
theorem lw_t8 {w : Cond} (h : w ∈ tables_1_8) : w ∈ tables_1 := List.mem_append_right _ (List.mem_append_right _ (List.mem_append_right _ (List.mem_append_right _ (List.mem_append_right _ (List.mem_append_right _ (List.mem_append_right _ (List.mem_append_left _ h)))))))
theorem lw_t9 {w : Cond} (h : w ∈ tables_1_9) : w ∈ tables_1 := List.mem_append_right _ (List.mem_append_right _ (List.mem_append_right _ (List.mem_append_right _ (List.mem_append_right _ (List.mem_append_right _ (List.mem_append_right _ (List.mem_append_right _ (List.mem_append_left _ h))))))))
theorem lw_t10 {w : Cond} (h : w ∈ tables_1_10) : w ∈ tables_1 := List.mem_append_right _ (List.mem_append_right _ (List.mem_append_right _ (List.mem_append_right _ (List.mem_append_right _ (List.mem_append_right _ (List.mem_append_right _ (List.mem_append_right _ (List.mem_append_right _ h))))))))
theorem lw_p0 : lw_okq (⟨"java/lang/Throwable", "fillInStackTrace", "(I)Ljava/lang/Throwable;"⟩, 6) := ⟨⟨by decide +kernel, by decide +kernel⟩, lw_t1 (List.mem_of_getElem? (i := 81) rfl), lw_t1 (List.mem_of_getElem? (i := 79) rfl), lw_t1 (List.mem_of_getElem? (i := 80) rfl)⟩
theorem lw_p1 : lw_okq (⟨"SecondHelpings", "four", "(I)V"⟩, 36) := ⟨⟨by decide +kernel, by decide +kernel⟩, lw_t1 (List.mem_of_getElem? (i := 38) rfl), lw_t3 (List.mem_of_getElem? (i := 61) rfl), lw_t3 (List.mem_of_getElem? (i := 62) rfl)⟩
theorem lw_p2 : lw_okq (⟨"SecondHelpings", "taken", "()V"⟩, 36) := ⟨⟨by decide +kernel, by decide +kernel⟩, lw_t1 (List.mem_of_getElem? (i := 38) rfl), lw_t3 (List.mem_of_getElem? (i := 73) rfl), lw_t3 (List.mem_of_getElem? (i := 74) rfl)⟩
theorem lw_p3 : lw_okq (⟨"SecondHelpings$BoardReader", "line", "(I)V"⟩, 11) := ⟨⟨by decide +kernel, by decide +kernel⟩, lw_t2 (List.mem_of_getElem? (i := 43) rfl), lw_t3 (List.mem_of_getElem? (i := 194) rfl), lw_t3 (List.mem_of_getElem? (i := 195) rfl)⟩
theorem lw_p4 : lw_okq (⟨"SecondHelpings$BoardReader", "person", "()V"⟩, 11) := ⟨⟨by decide +kernel, by decide +kernel⟩, lw_t2 (List.mem_of_getElem? (i := 43) rfl), lw_t3 (List.mem_of_getElem? (i := 198) rfl), lw_t3 (List.mem_of_getElem? (i := 199) rfl)⟩
theorem lw_p5 : lw_okq (⟨"SecondHelpings$BoardReader", "fresh", "()J"⟩, 11) := ⟨⟨by decide +kernel, by decide +kernel⟩, lw_t2 (List.mem_of_getElem? (i := 43) rfl), lw_t3 (List.mem_of_getElem? (i := 202) rfl), lw_t3 (List.mem_of_getElem? (i := 203) rfl)⟩
theorem lw_p6 : lw_okq (⟨"SecondHelpings$BoardReader", "dish", "()V"⟩, 11) := ⟨⟨by decide +kernel, by decide +kernel⟩, lw_t2 (List.mem_of_getElem? (i := 43) rfl), lw_t4 (List.mem_of_getElem? (i := 6) rfl), lw_t4 (List.mem_of_getElem? (i := 7) rfl)⟩
theorem lw_p7 : lw_okq (⟨"SecondHelpings", "isPerson", "(I)Z"⟩, 36) := ⟨⟨by decide +kernel, by decide +kernel⟩, lw_t1 (List.mem_of_getElem? (i := 38) rfl), lw_t4 (List.mem_of_getElem? (i := 36) rfl), lw_t4 (List.mem_of_getElem? (i := 37) rfl)⟩
theorem lw_p8 : lw_okq (⟨"SecondHelpings", "isDish", "(I)Z"⟩, 36) := ⟨⟨by decide +kernel, by decide +kernel⟩, lw_t1 (List.mem_of_getElem? (i := 38) rfl), lw_t4 (List.mem_of_getElem? (i := 41) rfl), lw_t4 (List.mem_of_getElem? (i := 42) rfl)⟩
theorem lw_p9 : lw_okq (⟨"SecondHelpings", "keep", "()V"⟩, 36) := ⟨⟨by decide +kernel, by decide +kernel⟩, lw_t1 (List.mem_of_getElem? (i := 38) rfl), lw_t4 (List.mem_of_getElem? (i := 74) rfl), lw_t4 (List.mem_of_getElem? (i := 75) rfl)⟩
theorem lw_p10 : lw_okq (⟨"SecondHelpings$State", "passes", "(LSecondHelpings$Board;I)V"⟩, 12) := ⟨⟨by decide +kernel, by decide +kernel⟩, lw_t1 (List.mem_of_getElem? (i := 222) rfl), lw_t4 (List.mem_of_getElem? (i := 107) rfl), lw_t4 (List.mem_of_getElem? (i := 108) rfl)⟩
theorem lw_p11 : lw_okq (⟨"SecondHelpings$State", "nextOf", "(LSecondHelpings$Board;II)I"⟩, 12) := ⟨⟨by decide +kernel, by decide +kernel⟩, lw_t1 (List.mem_of_getElem? (i := 222) rfl), lw_t4 (List.mem_of_getElem? (i := 119) rfl), lw_t4 (List.mem_of_getElem? (i := 120) rfl)⟩
theorem lw_p12 : lw_okq (⟨"SecondHelpings", "living", "()I"⟩, 36) := ⟨⟨by decide +kernel, by decide +kernel⟩, lw_t1 (List.mem_of_getElem? (i := 38) rfl), lw_t4 (List.mem_of_getElem? (i := 182) rfl), lw_t4 (List.mem_of_getElem? (i := 183) rfl)⟩
theorem lw_p13 : lw_okq (⟨"SecondHelpings", "orders", "(II)V"⟩, 36) := ⟨⟨by decide +kernel, by decide +kernel⟩, lw_t1 (List.mem_of_getElem? (i := 38) rfl), lw_t4 (List.mem_of_getElem? (i := 186) rfl), lw_t4 (List.mem_of_getElem? (i := 187) rfl)⟩
theorem lw_p14 : lw_okq (⟨"SecondHelpings", "one", "(I)I"⟩, 36) := ⟨⟨by decide +kernel, by decide +kernel⟩, lw_t1 (List.mem_of_getElem? (i := 38) rfl), lw_t4 (List.mem_of_getElem? (i := 211) rfl), lw_t4 (List.mem_of_getElem? (i := 212) rfl)⟩
theorem lw_p15 : lw_okq (⟨"SecondHelpings", "onPlates", "(II)I"⟩, 36) := ⟨⟨by decide +kernel, by decide +kernel⟩, lw_t1 (List.mem_of_getElem? (i := 38) rfl), lw_t4 (List.mem_of_getElem? (i := 215) rfl), lw_t4 (List.mem_of_getElem? (i := 216) rfl)⟩
def lw_privs_1 : List (MethodName × Nat) := [(⟨"java/lang/Throwable", "fillInStackTrace", "(I)Ljava/lang/Throwable;"⟩, 6), (⟨"SecondHelpings", "four", "(I)V"⟩, 36), (⟨"SecondHelpings", "taken", "()V"⟩, 36), (⟨"SecondHelpings$BoardReader", "line", "(I)V"⟩, 11), (⟨"SecondHelpings$BoardReader", "person", "()V"⟩, 11), (⟨"SecondHelpings$BoardReader", "fresh", "()J"⟩, 11), (⟨"SecondHelpings$BoardReader", "dish", "()V"⟩, 11), (⟨"SecondHelpings", "isPerson", "(I)Z"⟩, 36), (⟨"SecondHelpings", "isDish", "(I)Z"⟩, 36), (⟨"SecondHelpings", "keep", "()V"⟩, 36), (⟨"SecondHelpings$State", "passes", "(LSecondHelpings$Board;I)V"⟩, 12), (⟨"SecondHelpings$State", "nextOf", "(LSecondHelpings$Board;II)I"⟩, 12), (⟨"SecondHelpings", "living", "()I"⟩, 36), (⟨"SecondHelpings", "orders", "(II)V"⟩, 36), (⟨"SecondHelpings", "one", "(I)I"⟩, 36), (⟨"SecondHelpings", "onPlates", "(II)I"⟩, 36)]
theorem lw_r1 : ∀ q ∈ lw_privs_1, lw_okq q := List.forall_mem_cons.mpr ⟨lw_p0, List.forall_mem_cons.mpr ⟨lw_p1, List.forall_mem_cons.mpr ⟨lw_p2, List.forall_mem_cons.mpr ⟨lw_p3, List.forall_mem_cons.mpr ⟨lw_p4, List.forall_mem_cons.mpr ⟨lw_p5, List.forall_mem_cons.mpr ⟨lw_p6, List.forall_mem_cons.mpr ⟨lw_p7, List.forall_mem_cons.mpr ⟨lw_p8, List.forall_mem_cons.mpr ⟨lw_p9, List.forall_mem_cons.mpr ⟨lw_p10, List.forall_mem_cons.mpr ⟨lw_p11, List.forall_mem_cons.mpr ⟨lw_p12, List.forall_mem_cons.mpr ⟨lw_p13, List.forall_mem_cons.mpr ⟨lw_p14, List.forall_mem_cons.mpr ⟨lw_p15, fun _ h => absurd h List.not_mem_nil⟩⟩⟩⟩⟩⟩⟩⟩⟩⟩⟩⟩⟩⟩⟩⟩
theorem lw_p16 : lw_okq (⟨"SecondHelpings", "sits", "(III)V"⟩, 36) := ⟨⟨by decide +kernel, by decide +kernel⟩, lw_t1 (List.mem_of_getElem? (i := 38) rfl), lw_t5 (List.mem_of_getElem? (i := 3) rfl), lw_t5 (List.mem_of_getElem? (i := 4) rfl)⟩
theorem lw_p17 : lw_okq (⟨"SecondHelpings", "put", "(J)V"⟩, 36) := ⟨⟨by decide +kernel, by decide +kernel⟩, lw_t1 (List.mem_of_getElem? (i := 38) rfl), lw_t5 (List.mem_of_getElem? (i := 33) rfl), lw_t5 (List.mem_of_getElem? (i := 34) rfl)⟩
theorem lw_p18 : lw_okq (⟨"SecondHelpings", "put", "(I)V"⟩, 36) := ⟨⟨by decide +kernel, by decide +kernel⟩, lw_t1 (List.mem_of_getElem? (i := 38) rfl), lw_t5 (List.mem_of_getElem? (i := 38) rfl), lw_t5 (List.mem_of_getElem? (i := 39) rfl)⟩
theorem lw_p19 : lw_okq (⟨"SecondHelpings", "put", "(Ljava/lang/String;)V"⟩, 36) := ⟨⟨by decide +kernel, by decide +kernel⟩, lw_t1 (List.mem_of_getElem? (i := 38) rfl), lw_t5 (List.mem_of_getElem? (i := 43) rfl), lw_t5 (List.mem_of_getElem? (i := 44) rfl)⟩
theorem lw_p20 : lw_okq (⟨"SecondHelpings$State", "drawPerson", "(LSecondHelpings$Board;I)V"⟩, 12) := ⟨⟨by decide +kernel, by decide +kernel⟩, lw_t1 (List.mem_of_getElem? (i := 222) rfl), lw_t5 (List.mem_of_getElem? (i := 103) rfl), lw_t5 (List.mem_of_getElem? (i := 104) rfl)⟩
theorem lw_p21 : lw_okq (⟨"SecondHelpings$State", "draw", "(I)I"⟩, 12) := ⟨⟨by decide +kernel, by decide +kernel⟩, lw_t1 (List.mem_of_getElem? (i := 222) rfl), lw_t5 (List.mem_of_getElem? (i := 107) rfl), lw_t5 (List.mem_of_getElem? (i := 108) rfl)⟩
theorem lw_p22 : lw_okq (⟨"SecondHelpings$BookReader", "line", "()LSecondHelpings$Line;"⟩, 11) := ⟨⟨by decide +kernel, by decide +kernel⟩, lw_t2 (List.mem_of_getElem? (i := 96) rfl), lw_t5 (List.mem_of_getElem? (i := 129) rfl), lw_t5 (List.mem_of_getElem? (i := 130) rfl)⟩
theorem lw_p23 : lw_okq (⟨"SecondHelpings$SentenceReader", "any", "(I)LSecondHelpings$Cond;"⟩, 12) := ⟨⟨by decide +kernel, by decide +kernel⟩, lw_t2 (List.mem_of_getElem? (i := 135) rfl), lw_t6 (List.mem_of_getElem? (i := 92) rfl), lw_t6 (List.mem_of_getElem? (i := 93) rfl)⟩
theorem lw_p24 : lw_okq (⟨"SecondHelpings$SentenceReader", "both", "(I)LSecondHelpings$Cond;"⟩, 12) := ⟨⟨by decide +kernel, by decide +kernel⟩, lw_t2 (List.mem_of_getElem? (i := 135) rfl), lw_t6 (List.mem_of_getElem? (i := 96) rfl), lw_t6 (List.mem_of_getElem? (i := 97) rfl)⟩
theorem lw_p25 : lw_okq (⟨"SecondHelpings$SentenceReader", "single", "(I)LSecondHelpings$Cond;"⟩, 12) := ⟨⟨by decide +kernel, by decide +kernel⟩, lw_t2 (List.mem_of_getElem? (i := 135) rfl), lw_t6 (List.mem_of_getElem? (i := 100) rfl), lw_t6 (List.mem_of_getElem? (i := 101) rfl)⟩
theorem lw_p26 : lw_okq (⟨"SecondHelpingsModel", "come", "(I)V"⟩, 51) := ⟨⟨by decide +kernel, by decide +kernel⟩, lw_t7 (List.mem_of_getElem? (i := 69) rfl), lw_t7 (List.mem_of_getElem? (i := 238) rfl), lw_t7 (List.mem_of_getElem? (i := 239) rfl)⟩
theorem lw_p27 : lw_okq (⟨"SecondHelpingsModel", "begin", "(I)V"⟩, 51) := ⟨⟨by decide +kernel, by decide +kernel⟩, lw_t7 (List.mem_of_getElem? (i := 69) rfl), lw_t8 (List.mem_of_getElem? (i := 10) rfl), lw_t8 (List.mem_of_getElem? (i := 11) rfl)⟩
theorem lw_p28 : lw_okq (⟨"SecondHelpingsModel", "take", "()I"⟩, 51) := ⟨⟨by decide +kernel, by decide +kernel⟩, lw_t7 (List.mem_of_getElem? (i := 69) rfl), lw_t8 (List.mem_of_getElem? (i := 14) rfl), lw_t8 (List.mem_of_getElem? (i := 15) rfl)⟩
theorem lw_p29 : lw_okq (⟨"SecondHelpingsModel", "go", "()V"⟩, 51) := ⟨⟨by decide +kernel, by decide +kernel⟩, lw_t7 (List.mem_of_getElem? (i := 69) rfl), lw_t8 (List.mem_of_getElem? (i := 18) rfl), lw_t8 (List.mem_of_getElem? (i := 19) rfl)⟩
theorem lw_p30 : lw_okq (⟨"SecondHelpingsModel", "tapeAt", "(I)I"⟩, 51) := ⟨⟨by decide +kernel, by decide +kernel⟩, lw_t7 (List.mem_of_getElem? (i := 69) rfl), lw_t8 (List.mem_of_getElem? (i := 28) rfl), lw_t8 (List.mem_of_getElem? (i := 29) rfl)⟩
theorem lw_p31 : lw_okq (⟨"SecondHelpingsModel", "readLine", "()Z"⟩, 51) := ⟨⟨by decide +kernel, by decide +kernel⟩, lw_t7 (List.mem_of_getElem? (i := 69) rfl), lw_t8 (List.mem_of_getElem? (i := 34) rfl), lw_t8 (List.mem_of_getElem? (i := 35) rfl)⟩
def lw_privs_2 : List (MethodName × Nat) := [(⟨"SecondHelpings", "sits", "(III)V"⟩, 36), (⟨"SecondHelpings", "put", "(J)V"⟩, 36), (⟨"SecondHelpings", "put", "(I)V"⟩, 36), (⟨"SecondHelpings", "put", "(Ljava/lang/String;)V"⟩, 36), (⟨"SecondHelpings$State", "drawPerson", "(LSecondHelpings$Board;I)V"⟩, 12), (⟨"SecondHelpings$State", "draw", "(I)I"⟩, 12), (⟨"SecondHelpings$BookReader", "line", "()LSecondHelpings$Line;"⟩, 11), (⟨"SecondHelpings$SentenceReader", "any", "(I)LSecondHelpings$Cond;"⟩, 12), (⟨"SecondHelpings$SentenceReader", "both", "(I)LSecondHelpings$Cond;"⟩, 12), (⟨"SecondHelpings$SentenceReader", "single", "(I)LSecondHelpings$Cond;"⟩, 12), (⟨"SecondHelpingsModel", "come", "(I)V"⟩, 51), (⟨"SecondHelpingsModel", "begin", "(I)V"⟩, 51), (⟨"SecondHelpingsModel", "take", "()I"⟩, 51), (⟨"SecondHelpingsModel", "go", "()V"⟩, 51), (⟨"SecondHelpingsModel", "tapeAt", "(I)I"⟩, 51), (⟨"SecondHelpingsModel", "readLine", "()Z"⟩, 51)]
theorem lw_r2 : ∀ q ∈ lw_privs_2, lw_okq q := List.forall_mem_cons.mpr ⟨lw_p16, List.forall_mem_cons.mpr ⟨lw_p17, List.forall_mem_cons.mpr ⟨lw_p18, List.forall_mem_cons.mpr ⟨lw_p19, List.forall_mem_cons.mpr ⟨lw_p20, List.forall_mem_cons.mpr ⟨lw_p21, List.forall_mem_cons.mpr ⟨lw_p22, List.forall_mem_cons.mpr ⟨lw_p23, List.forall_mem_cons.mpr ⟨lw_p24, List.forall_mem_cons.mpr ⟨lw_p25, List.forall_mem_cons.mpr ⟨lw_p26, List.forall_mem_cons.mpr ⟨lw_p27, List.forall_mem_cons.mpr ⟨lw_p28, List.forall_mem_cons.mpr ⟨lw_p29, List.forall_mem_cons.mpr ⟨lw_p30, List.forall_mem_cons.mpr ⟨lw_p31, fun _ h => absurd h List.not_mem_nil⟩⟩⟩⟩⟩⟩⟩⟩⟩⟩⟩⟩⟩⟩⟩⟩
theorem lw_p32 : lw_okq (⟨"SecondHelpingsModel", "isWord", "(I)Z"⟩, 51) := ⟨⟨by decide +kernel, by decide +kernel⟩, lw_t7 (List.mem_of_getElem? (i := 69) rfl), lw_t8 (List.mem_of_getElem? (i := 38) rfl), lw_t8 (List.mem_of_getElem? (i := 39) rfl)⟩
theorem lw_p33 : lw_okq (⟨"SecondHelpingsModel", "readPerson", "()Z"⟩, 51) := ⟨⟨by decide +kernel, by decide +kernel⟩, lw_t7 (List.mem_of_getElem? (i := 69) rfl), lw_t8 (List.mem_of_getElem? (i := 48) rfl), lw_t8 (List.mem_of_getElem? (i := 49) rfl)⟩
theorem lw_p34 : lw_okq (⟨"SecondHelpingsModel", "readFirst", "(II)Z"⟩, 51) := ⟨⟨by decide +kernel, by decide +kernel⟩, lw_t7 (List.mem_of_getElem? (i := 69) rfl), lw_t8 (List.mem_of_getElem? (i := 52) rfl), lw_t8 (List.mem_of_getElem? (i := 53) rfl)⟩
theorem lw_p35 : lw_okq (⟨"SecondHelpingsModel", "bad", "(I)Z"⟩, 51) := ⟨⟨by decide +kernel, by decide +kernel⟩, lw_t7 (List.mem_of_getElem? (i := 69) rfl), lw_t8 (List.mem_of_getElem? (i := 56) rfl), lw_t8 (List.mem_of_getElem? (i := 57) rfl)⟩
theorem lw_p36 : lw_okq (⟨"SecondHelpingsModel", "readNew", "(I)Z"⟩, 51) := ⟨⟨by decide +kernel, by decide +kernel⟩, lw_t7 (List.mem_of_getElem? (i := 69) rfl), lw_t8 (List.mem_of_getElem? (i := 60) rfl), lw_t8 (List.mem_of_getElem? (i := 61) rfl)⟩
theorem lw_p37 : lw_okq (⟨"SecondHelpingsModel", "isName", "()Z"⟩, 51) := ⟨⟨by decide +kernel, by decide +kernel⟩, lw_t7 (List.mem_of_getElem? (i := 69) rfl), lw_t8 (List.mem_of_getElem? (i := 64) rfl), lw_t8 (List.mem_of_getElem? (i := 65) rfl)⟩
theorem lw_p38 : lw_okq (⟨"SecondHelpingsModel", "readNumber", "(II)Z"⟩, 51) := ⟨⟨by decide +kernel, by decide +kernel⟩, lw_t7 (List.mem_of_getElem? (i := 69) rfl), lw_t8 (List.mem_of_getElem? (i := 71) rfl), lw_t8 (List.mem_of_getElem? (i := 72) rfl)⟩
theorem lw_p39 : lw_okq (⟨"SecondHelpingsModel", "put", "(IZ)Z"⟩, 51) := ⟨⟨by decide +kernel, by decide +kernel⟩, lw_t7 (List.mem_of_getElem? (i := 69) rfl), lw_t8 (List.mem_of_getElem? (i := 78) rfl), lw_t8 (List.mem_of_getElem? (i := 79) rfl)⟩
theorem lw_p40 : lw_okq (⟨"SecondHelpingsModel", "readOne", "(II)Z"⟩, 51) := ⟨⟨by decide +kernel, by decide +kernel⟩, lw_t7 (List.mem_of_getElem? (i := 69) rfl), lw_t8 (List.mem_of_getElem? (i := 82) rfl), lw_t8 (List.mem_of_getElem? (i := 83) rfl)⟩
theorem lw_p41 : lw_okq (⟨"SecondHelpingsModel", "isOne", "(II)Z"⟩, 51) := ⟨⟨by decide +kernel, by decide +kernel⟩, lw_t7 (List.mem_of_getElem? (i := 69) rfl), lw_t8 (List.mem_of_getElem? (i := 86) rfl), lw_t8 (List.mem_of_getElem? (i := 87) rfl)⟩
theorem lw_p42 : lw_okq (⟨"SecondHelpingsModel", "readDish", "()Z"⟩, 51) := ⟨⟨by decide +kernel, by decide +kernel⟩, lw_t7 (List.mem_of_getElem? (i := 69) rfl), lw_t8 (List.mem_of_getElem? (i := 90) rfl), lw_t8 (List.mem_of_getElem? (i := 91) rfl)⟩
theorem lw_p43 : lw_okq (⟨"SecondHelpingsModel", "readPlate", "()Z"⟩, 51) := ⟨⟨by decide +kernel, by decide +kernel⟩, lw_t7 (List.mem_of_getElem? (i := 69) rfl), lw_t8 (List.mem_of_getElem? (i := 94) rfl), lw_t8 (List.mem_of_getElem? (i := 95) rfl)⟩
theorem lw_p44 : lw_okq (⟨"SecondHelpingsModel", "readLaw", "()Z"⟩, 51) := ⟨⟨by decide +kernel, by decide +kernel⟩, lw_t7 (List.mem_of_getElem? (i := 69) rfl), lw_t8 (List.mem_of_getElem? (i := 98) rfl), lw_t8 (List.mem_of_getElem? (i := 99) rfl)⟩
theorem lw_p45 : lw_okq (⟨"SecondHelpingsModel", "readEnd", "()Z"⟩, 51) := ⟨⟨by decide +kernel, by decide +kernel⟩, lw_t7 (List.mem_of_getElem? (i := 69) rfl), lw_t8 (List.mem_of_getElem? (i := 102) rfl), lw_t8 (List.mem_of_getElem? (i := 103) rfl)⟩
theorem lw_p46 : lw_okq (⟨"SecondHelpingsModel", "isSign", "(I)Z"⟩, 51) := ⟨⟨by decide +kernel, by decide +kernel⟩, lw_t7 (List.mem_of_getElem? (i := 69) rfl), lw_t8 (List.mem_of_getElem? (i := 106) rfl), lw_t8 (List.mem_of_getElem? (i := 107) rfl)⟩
theorem lw_p47 : lw_okq (⟨"SecondHelpingsModel", "startSo", "()V"⟩, 51) := ⟨⟨by decide +kernel, by decide +kernel⟩, lw_t7 (List.mem_of_getElem? (i := 69) rfl), lw_t8 (List.mem_of_getElem? (i := 110) rfl), lw_t8 (List.mem_of_getElem? (i := 111) rfl)⟩
def lw_privs_3 : List (MethodName × Nat) := [(⟨"SecondHelpingsModel", "isWord", "(I)Z"⟩, 51), (⟨"SecondHelpingsModel", "readPerson", "()Z"⟩, 51), (⟨"SecondHelpingsModel", "readFirst", "(II)Z"⟩, 51), (⟨"SecondHelpingsModel", "bad", "(I)Z"⟩, 51), (⟨"SecondHelpingsModel", "readNew", "(I)Z"⟩, 51), (⟨"SecondHelpingsModel", "isName", "()Z"⟩, 51), (⟨"SecondHelpingsModel", "readNumber", "(II)Z"⟩, 51), (⟨"SecondHelpingsModel", "put", "(IZ)Z"⟩, 51), (⟨"SecondHelpingsModel", "readOne", "(II)Z"⟩, 51), (⟨"SecondHelpingsModel", "isOne", "(II)Z"⟩, 51), (⟨"SecondHelpingsModel", "readDish", "()Z"⟩, 51), (⟨"SecondHelpingsModel", "readPlate", "()Z"⟩, 51), (⟨"SecondHelpingsModel", "readLaw", "()Z"⟩, 51), (⟨"SecondHelpingsModel", "readEnd", "()Z"⟩, 51), (⟨"SecondHelpingsModel", "isSign", "(I)Z"⟩, 51), (⟨"SecondHelpingsModel", "startSo", "()V"⟩, 51)]
theorem lw_r3 : ∀ q ∈ lw_privs_3, lw_okq q := List.forall_mem_cons.mpr ⟨lw_p32, List.forall_mem_cons.mpr ⟨lw_p33, List.forall_mem_cons.mpr ⟨lw_p34, List.forall_mem_cons.mpr ⟨lw_p35, List.forall_mem_cons.mpr ⟨lw_p36, List.forall_mem_cons.mpr ⟨lw_p37, List.forall_mem_cons.mpr ⟨lw_p38, List.forall_mem_cons.mpr ⟨lw_p39, List.forall_mem_cons.mpr ⟨lw_p40, List.forall_mem_cons.mpr ⟨lw_p41, List.forall_mem_cons.mpr ⟨lw_p42, List.forall_mem_cons.mpr ⟨lw_p43, List.forall_mem_cons.mpr ⟨lw_p44, List.forall_mem_cons.mpr ⟨lw_p45, List.forall_mem_cons.mpr ⟨lw_p46, List.forall_mem_cons.mpr ⟨lw_p47, fun _ h => absurd h List.not_mem_nil⟩⟩⟩⟩⟩⟩⟩⟩⟩⟩⟩⟩⟩⟩⟩⟩
theorem lw_p48 : lw_okq (⟨"SecondHelpingsModel", "isPerson", "(I)Z"⟩, 51) := ⟨⟨by decide +kernel, by decide +kernel⟩, lw_t7 (List.mem_of_getElem? (i := 69) rfl), lw_t8 (List.mem_of_getElem? (i := 122) rfl), lw_t8 (List.mem_of_getElem? (i := 123) rfl)⟩
theorem lw_p49 : lw_okq (⟨"SecondHelpingsModel", "refuse", "()I"⟩, 51) := ⟨⟨by decide +kernel, by decide +kernel⟩, lw_t7 (List.mem_of_getElem? (i := 69) rfl), lw_t8 (List.mem_of_getElem? (i := 126) rfl), lw_t8 (List.mem_of_getElem? (i := 127) rfl)⟩
theorem lw_p50 : lw_okq (⟨"SecondHelpingsModel", "isDead", "(I)Z"⟩, 51) := ⟨⟨by decide +kernel, by decide +kernel⟩, lw_t7 (List.mem_of_getElem? (i := 69) rfl), lw_t8 (List.mem_of_getElem? (i := 130) rfl), lw_t8 (List.mem_of_getElem? (i := 131) rfl)⟩
theorem lw_p51 : lw_okq (⟨"SecondHelpingsModel", "plateOf", "(I)I"⟩, 51) := ⟨⟨by decide +kernel, by decide +kernel⟩, lw_t7 (List.mem_of_getElem? (i := 69) rfl), lw_t8 (List.mem_of_getElem? (i := 137) rfl), lw_t8 (List.mem_of_getElem? (i := 138) rfl)⟩
theorem lw_p52 : lw_okq (⟨"SecondHelpingsModel", "onPlate", "(II)I"⟩, 51) := ⟨⟨by decide +kernel, by decide +kernel⟩, lw_t7 (List.mem_of_getElem? (i := 69) rfl), lw_t8 (List.mem_of_getElem? (i := 141) rfl), lw_t8 (List.mem_of_getElem? (i := 142) rfl)⟩
theorem lw_p53 : lw_okq (⟨"SecondHelpingsModel", "isDish", "(I)Z"⟩, 51) := ⟨⟨by decide +kernel, by decide +kernel⟩, lw_t7 (List.mem_of_getElem? (i := 69) rfl), lw_t8 (List.mem_of_getElem? (i := 149) rfl), lw_t8 (List.mem_of_getElem? (i := 150) rfl)⟩
theorem lw_p54 : lw_okq (⟨"SecondHelpingsModel", "sumOf", "(I)I"⟩, 51) := ⟨⟨by decide +kernel, by decide +kernel⟩, lw_t7 (List.mem_of_getElem? (i := 69) rfl), lw_t8 (List.mem_of_getElem? (i := 161) rfl), lw_t8 (List.mem_of_getElem? (i := 162) rfl)⟩
theorem lw_p55 : lw_okq (⟨"SecondHelpingsModel", "outs", "()I"⟩, 51) := ⟨⟨by decide +kernel, by decide +kernel⟩, lw_t7 (List.mem_of_getElem? (i := 69) rfl), lw_t8 (List.mem_of_getElem? (i := 169) rfl), lw_t8 (List.mem_of_getElem? (i := 170) rfl)⟩
theorem lw_p56 : lw_okq (⟨"SecondHelpingsModel", "heirBy", "(II)I"⟩, 51) := ⟨⟨by decide +kernel, by decide +kernel⟩, lw_t7 (List.mem_of_getElem? (i := 69) rfl), lw_t8 (List.mem_of_getElem? (i := 173) rfl), lw_t8 (List.mem_of_getElem? (i := 174) rfl)⟩
theorem lw_p57 : lw_okq (⟨"SecondHelpingsModel", "nextTo", "(II)I"⟩, 51) := ⟨⟨by decide +kernel, by decide +kernel⟩, lw_t7 (List.mem_of_getElem? (i := 69) rfl), lw_t8 (List.mem_of_getElem? (i := 177) rfl), lw_t8 (List.mem_of_getElem? (i := 178) rfl)⟩
theorem lw_p58 : lw_okq (⟨"SecondHelpingsModel", "act", "(IIII)I"⟩, 51) := ⟨⟨by decide +kernel, by decide +kernel⟩, lw_t7 (List.mem_of_getElem? (i := 69) rfl), lw_t8 (List.mem_of_getElem? (i := 189) rfl), lw_t8 (List.mem_of_getElem? (i := 190) rfl)⟩
theorem lw_p59 : lw_okq (⟨"SecondHelpingsModel", "why", "(IIII)I"⟩, 51) := ⟨⟨by decide +kernel, by decide +kernel⟩, lw_t7 (List.mem_of_getElem? (i := 69) rfl), lw_t8 (List.mem_of_getElem? (i := 193) rfl), lw_t8 (List.mem_of_getElem? (i := 194) rfl)⟩
theorem lw_p60 : lw_okq (⟨"SecondHelpingsModel", "wantsYet", "(I)I"⟩, 51) := ⟨⟨by decide +kernel, by decide +kernel⟩, lw_t7 (List.mem_of_getElem? (i := 69) rfl), lw_t8 (List.mem_of_getElem? (i := 197) rfl), lw_t8 (List.mem_of_getElem? (i := 198) rfl)⟩
theorem lw_p61 : lw_okq (⟨"SecondHelpingsModel", "snap", "()V"⟩, 51) := ⟨⟨by decide +kernel, by decide +kernel⟩, lw_t7 (List.mem_of_getElem? (i := 69) rfl), lw_t8 (List.mem_of_getElem? (i := 201) rfl), lw_t8 (List.mem_of_getElem? (i := 202) rfl)⟩
theorem lw_p62 : lw_okq (⟨"SecondHelpingsModel", "live", "(IIII)V"⟩, 51) := ⟨⟨by decide +kernel, by decide +kernel⟩, lw_t7 (List.mem_of_getElem? (i := 69) rfl), lw_t8 (List.mem_of_getElem? (i := 205) rfl), lw_t8 (List.mem_of_getElem? (i := 206) rfl)⟩
theorem lw_p63 : lw_okq (⟨"SecondHelpingsModel", "doEat", "(III)V"⟩, 51) := ⟨⟨by decide +kernel, by decide +kernel⟩, lw_t7 (List.mem_of_getElem? (i := 69) rfl), lw_t8 (List.mem_of_getElem? (i := 209) rfl), lw_t8 (List.mem_of_getElem? (i := 210) rfl)⟩
def lw_privs_4 : List (MethodName × Nat) := [(⟨"SecondHelpingsModel", "isPerson", "(I)Z"⟩, 51), (⟨"SecondHelpingsModel", "refuse", "()I"⟩, 51), (⟨"SecondHelpingsModel", "isDead", "(I)Z"⟩, 51), (⟨"SecondHelpingsModel", "plateOf", "(I)I"⟩, 51), (⟨"SecondHelpingsModel", "onPlate", "(II)I"⟩, 51), (⟨"SecondHelpingsModel", "isDish", "(I)Z"⟩, 51), (⟨"SecondHelpingsModel", "sumOf", "(I)I"⟩, 51), (⟨"SecondHelpingsModel", "outs", "()I"⟩, 51), (⟨"SecondHelpingsModel", "heirBy", "(II)I"⟩, 51), (⟨"SecondHelpingsModel", "nextTo", "(II)I"⟩, 51), (⟨"SecondHelpingsModel", "act", "(IIII)I"⟩, 51), (⟨"SecondHelpingsModel", "why", "(IIII)I"⟩, 51), (⟨"SecondHelpingsModel", "wantsYet", "(I)I"⟩, 51), (⟨"SecondHelpingsModel", "snap", "()V"⟩, 51), (⟨"SecondHelpingsModel", "live", "(IIII)V"⟩, 51), (⟨"SecondHelpingsModel", "doEat", "(III)V"⟩, 51)]
theorem lw_r4 : ∀ q ∈ lw_privs_4, lw_okq q := List.forall_mem_cons.mpr ⟨lw_p48, List.forall_mem_cons.mpr ⟨lw_p49, List.forall_mem_cons.mpr ⟨lw_p50, List.forall_mem_cons.mpr ⟨lw_p51, List.forall_mem_cons.mpr ⟨lw_p52, List.forall_mem_cons.mpr ⟨lw_p53, List.forall_mem_cons.mpr ⟨lw_p54, List.forall_mem_cons.mpr ⟨lw_p55, List.forall_mem_cons.mpr ⟨lw_p56, List.forall_mem_cons.mpr ⟨lw_p57, List.forall_mem_cons.mpr ⟨lw_p58, List.forall_mem_cons.mpr ⟨lw_p59, List.forall_mem_cons.mpr ⟨lw_p60, List.forall_mem_cons.mpr ⟨lw_p61, List.forall_mem_cons.mpr ⟨lw_p62, List.forall_mem_cons.mpr ⟨lw_p63, fun _ h => absurd h List.not_mem_nil⟩⟩⟩⟩⟩⟩⟩⟩⟩⟩⟩⟩⟩⟩⟩⟩
theorem lw_p64 : lw_okq (⟨"SecondHelpingsModel", "pass", "(I)V"⟩, 51) := ⟨⟨by decide +kernel, by decide +kernel⟩, lw_t7 (List.mem_of_getElem? (i := 69) rfl), lw_t8 (List.mem_of_getElem? (i := 213) rfl), lw_t8 (List.mem_of_getElem? (i := 214) rfl)⟩
theorem lw_p65 : lw_okq (⟨"SecondHelpingsModel", "passMeals", "(I)I"⟩, 51) := ⟨⟨by decide +kernel, by decide +kernel⟩, lw_t7 (List.mem_of_getElem? (i := 69) rfl), lw_t9 (List.mem_of_getElem? (i := 8) rfl), lw_t9 (List.mem_of_getElem? (i := 9) rfl)⟩
theorem lw_p66 : lw_okq (⟨"SecondHelpingsModel", "oneMeal", "()V"⟩, 51) := ⟨⟨by decide +kernel, by decide +kernel⟩, lw_t7 (List.mem_of_getElem? (i := 69) rfl), lw_t9 (List.mem_of_getElem? (i := 12) rfl), lw_t9 (List.mem_of_getElem? (i := 13) rfl)⟩
theorem lw_p67 : lw_okq (⟨"SecondHelpingsModel", "living", "()I"⟩, 51) := ⟨⟨by decide +kernel, by decide +kernel⟩, lw_t7 (List.mem_of_getElem? (i := 69) rfl), lw_t9 (List.mem_of_getElem? (i := 21) rfl), lw_t9 (List.mem_of_getElem? (i := 22) rfl)⟩
theorem lw_p68 : lw_okq (⟨"SecondHelpingsModel", "orderFrom", "(II)V"⟩, 51) := ⟨⟨by decide +kernel, by decide +kernel⟩, lw_t7 (List.mem_of_getElem? (i := 69) rfl), lw_t9 (List.mem_of_getElem? (i := 28) rfl), lw_t9 (List.mem_of_getElem? (i := 29) rfl)⟩
theorem lw_p69 : lw_okq (⟨"SecondHelpingsModel", "eatsAll", "(I)V"⟩, 51) := ⟨⟨by decide +kernel, by decide +kernel⟩, lw_t7 (List.mem_of_getElem? (i := 69) rfl), lw_t9 (List.mem_of_getElem? (i := 32) rfl), lw_t9 (List.mem_of_getElem? (i := 33) rfl)⟩
theorem lw_p70 : lw_okq (⟨"SecondHelpingsModel", "seatFrom", "(III)V"⟩, 51) := ⟨⟨by decide +kernel, by decide +kernel⟩, lw_t7 (List.mem_of_getElem? (i := 69) rfl), lw_t9 (List.mem_of_getElem? (i := 67) rfl), lw_t9 (List.mem_of_getElem? (i := 68) rfl)⟩
theorem lw_p71 : lw_okq (⟨"SecondHelpingsModel", "layAside", "()V"⟩, 51) := ⟨⟨by decide +kernel, by decide +kernel⟩, lw_t7 (List.mem_of_getElem? (i := 69) rfl), lw_t9 (List.mem_of_getElem? (i := 79) rfl), lw_t9 (List.mem_of_getElem? (i := 80) rfl)⟩
theorem lw_p72 : lw_okq (⟨"SecondHelpingsModel", "takeBack", "()V"⟩, 51) := ⟨⟨by decide +kernel, by decide +kernel⟩, lw_t7 (List.mem_of_getElem? (i := 69) rfl), lw_t9 (List.mem_of_getElem? (i := 83) rfl), lw_t9 (List.mem_of_getElem? (i := 84) rfl)⟩
theorem lw_p73 : lw_okq (⟨"SecondHelpingsModel", "writeWord", "(J)V"⟩, 51) := ⟨⟨by decide +kernel, by decide +kernel⟩, lw_t7 (List.mem_of_getElem? (i := 69) rfl), lw_t9 (List.mem_of_getElem? (i := 99) rfl), lw_t9 (List.mem_of_getElem? (i := 100) rfl)⟩
theorem lw_p74 : lw_okq (⟨"SecondHelpingsModel", "write", "(I)V"⟩, 51) := ⟨⟨by decide +kernel, by decide +kernel⟩, lw_t7 (List.mem_of_getElem? (i := 69) rfl), lw_t9 (List.mem_of_getElem? (i := 103) rfl), lw_t9 (List.mem_of_getElem? (i := 104) rfl)⟩
theorem lw_p75 : lw_okq (⟨"SecondHelpingsModel", "writeNext", "(J)V"⟩, 51) := ⟨⟨by decide +kernel, by decide +kernel⟩, lw_t7 (List.mem_of_getElem? (i := 69) rfl), lw_t9 (List.mem_of_getElem? (i := 107) rfl), lw_t9 (List.mem_of_getElem? (i := 108) rfl)⟩
theorem lw_p76 : lw_okq (⟨"SecondHelpingsModel", "writeNumber", "(I)V"⟩, 51) := ⟨⟨by decide +kernel, by decide +kernel⟩, lw_t7 (List.mem_of_getElem? (i := 69) rfl), lw_t9 (List.mem_of_getElem? (i := 111) rfl), lw_t9 (List.mem_of_getElem? (i := 112) rfl)⟩
theorem lw_p77 : lw_okq (⟨"SecondHelpingsModel", "drawMeals", "(II)I"⟩, 51) := ⟨⟨by decide +kernel, by decide +kernel⟩, lw_t7 (List.mem_of_getElem? (i := 69) rfl), lw_t9 (List.mem_of_getElem? (i := 123) rfl), lw_t9 (List.mem_of_getElem? (i := 124) rfl)⟩
theorem lw_p78 : lw_okq (⟨"SecondHelpingsModel", "draw", "(I)I"⟩, 51) := ⟨⟨by decide +kernel, by decide +kernel⟩, lw_t7 (List.mem_of_getElem? (i := 69) rfl), lw_t9 (List.mem_of_getElem? (i := 127) rfl), lw_t9 (List.mem_of_getElem? (i := 128) rfl)⟩
theorem lw_p79 : lw_okq (⟨"SecondHelpingsModel", "readBookLine", "()Z"⟩, 51) := ⟨⟨by decide +kernel, by decide +kernel⟩, lw_t7 (List.mem_of_getElem? (i := 69) rfl), lw_t9 (List.mem_of_getElem? (i := 140) rfl), lw_t9 (List.mem_of_getElem? (i := 141) rfl)⟩
def lw_privs_5 : List (MethodName × Nat) := [(⟨"SecondHelpingsModel", "pass", "(I)V"⟩, 51), (⟨"SecondHelpingsModel", "passMeals", "(I)I"⟩, 51), (⟨"SecondHelpingsModel", "oneMeal", "()V"⟩, 51), (⟨"SecondHelpingsModel", "living", "()I"⟩, 51), (⟨"SecondHelpingsModel", "orderFrom", "(II)V"⟩, 51), (⟨"SecondHelpingsModel", "eatsAll", "(I)V"⟩, 51), (⟨"SecondHelpingsModel", "seatFrom", "(III)V"⟩, 51), (⟨"SecondHelpingsModel", "layAside", "()V"⟩, 51), (⟨"SecondHelpingsModel", "takeBack", "()V"⟩, 51), (⟨"SecondHelpingsModel", "writeWord", "(J)V"⟩, 51), (⟨"SecondHelpingsModel", "write", "(I)V"⟩, 51), (⟨"SecondHelpingsModel", "writeNext", "(J)V"⟩, 51), (⟨"SecondHelpingsModel", "writeNumber", "(I)V"⟩, 51), (⟨"SecondHelpingsModel", "drawMeals", "(II)I"⟩, 51), (⟨"SecondHelpingsModel", "draw", "(I)I"⟩, 51), (⟨"SecondHelpingsModel", "readBookLine", "()Z"⟩, 51)]
theorem lw_r5 : ∀ q ∈ lw_privs_5, lw_okq q := List.forall_mem_cons.mpr ⟨lw_p64, List.forall_mem_cons.mpr ⟨lw_p65, List.forall_mem_cons.mpr ⟨lw_p66, List.forall_mem_cons.mpr ⟨lw_p67, List.forall_mem_cons.mpr ⟨lw_p68, List.forall_mem_cons.mpr ⟨lw_p69, List.forall_mem_cons.mpr ⟨lw_p70, List.forall_mem_cons.mpr ⟨lw_p71, List.forall_mem_cons.mpr ⟨lw_p72, List.forall_mem_cons.mpr ⟨lw_p73, List.forall_mem_cons.mpr ⟨lw_p74, List.forall_mem_cons.mpr ⟨lw_p75, List.forall_mem_cons.mpr ⟨lw_p76, List.forall_mem_cons.mpr ⟨lw_p77, List.forall_mem_cons.mpr ⟨lw_p78, List.forall_mem_cons.mpr ⟨lw_p79, fun _ h => absurd h List.not_mem_nil⟩⟩⟩⟩⟩⟩⟩⟩⟩⟩⟩⟩⟩⟩⟩⟩
theorem lw_p80 : lw_okq (⟨"SecondHelpingsModel", "readDoes", "(I)Z"⟩, 51) := ⟨⟨by decide +kernel, by decide +kernel⟩, lw_t7 (List.mem_of_getElem? (i := 69) rfl), lw_t9 (List.mem_of_getElem? (i := 144) rfl), lw_t9 (List.mem_of_getElem? (i := 145) rfl)⟩
theorem lw_p81 : lw_okq (⟨"SecondHelpingsModel", "goBy", "(I)I"⟩, 51) := ⟨⟨by decide +kernel, by decide +kernel⟩, lw_t7 (List.mem_of_getElem? (i := 69) rfl), lw_t9 (List.mem_of_getElem? (i := 148) rfl), lw_t9 (List.mem_of_getElem? (i := 149) rfl)⟩
theorem lw_p82 : lw_okq (⟨"SecondHelpingsModel", "stay", "(Z)V"⟩, 51) := ⟨⟨by decide +kernel, by decide +kernel⟩, lw_t7 (List.mem_of_getElem? (i := 69) rfl), lw_t9 (List.mem_of_getElem? (i := 152) rfl), lw_t9 (List.mem_of_getElem? (i := 153) rfl)⟩
theorem lw_p83 : lw_okq (⟨"SecondHelpingsModel", "readOr", "()Z"⟩, 51) := ⟨⟨by decide +kernel, by decide +kernel⟩, lw_t7 (List.mem_of_getElem? (i := 69) rfl), lw_t9 (List.mem_of_getElem? (i := 164) rfl), lw_t9 (List.mem_of_getElem? (i := 165) rfl)⟩
theorem lw_p84 : lw_okq (⟨"SecondHelpingsModel", "readAnd", "()Z"⟩, 51) := ⟨⟨by decide +kernel, by decide +kernel⟩, lw_t7 (List.mem_of_getElem? (i := 69) rfl), lw_t9 (List.mem_of_getElem? (i := 168) rfl), lw_t9 (List.mem_of_getElem? (i := 169) rfl)⟩
theorem lw_p85 : lw_okq (⟨"SecondHelpingsModel", "readSaid", "()Z"⟩, 51) := ⟨⟨by decide +kernel, by decide +kernel⟩, lw_t7 (List.mem_of_getElem? (i := 69) rfl), lw_t9 (List.mem_of_getElem? (i := 172) rfl), lw_t9 (List.mem_of_getElem? (i := 173) rfl)⟩
theorem lw_p86 : lw_okq (⟨"SecondHelpingsModel", "readBracket", "()Z"⟩, 51) := ⟨⟨by decide +kernel, by decide +kernel⟩, lw_t7 (List.mem_of_getElem? (i := 69) rfl), lw_t9 (List.mem_of_getElem? (i := 176) rfl), lw_t9 (List.mem_of_getElem? (i := 177) rfl)⟩
theorem lw_p87 : lw_okq (⟨"SecondHelpingsModel", "readNot", "()Z"⟩, 51) := ⟨⟨by decide +kernel, by decide +kernel⟩, lw_t7 (List.mem_of_getElem? (i := 69) rfl), lw_t9 (List.mem_of_getElem? (i := 180) rfl), lw_t9 (List.mem_of_getElem? (i := 181) rfl)⟩
theorem lw_p88 : lw_okq (⟨"SecondHelpingsModel", "saysOne", "(IIII)I"⟩, 51) := ⟨⟨by decide +kernel, by decide +kernel⟩, lw_t7 (List.mem_of_getElem? (i := 69) rfl), lw_t9 (List.mem_of_getElem? (i := 184) rfl), lw_t9 (List.mem_of_getElem? (i := 185) rfl)⟩
theorem lw_p89 : lw_okq (⟨"SecondHelpingsModel", "readOf", "(I)Z"⟩, 51) := ⟨⟨by decide +kernel, by decide +kernel⟩, lw_t7 (List.mem_of_getElem? (i := 69) rfl), lw_t9 (List.mem_of_getElem? (i := 188) rfl), lw_t9 (List.mem_of_getElem? (i := 189) rfl)⟩
theorem lw_p90 : lw_okq (⟨"SecondHelpingsModel", "readNamed", "(II)Z"⟩, 51) := ⟨⟨by decide +kernel, by decide +kernel⟩, lw_t7 (List.mem_of_getElem? (i := 69) rfl), lw_t9 (List.mem_of_getElem? (i := 192) rfl), lw_t9 (List.mem_of_getElem? (i := 193) rfl)⟩
theorem lw_p91 : lw_okq (⟨"SecondHelpingsModel", "readCompare", "(I)Z"⟩, 51) := ⟨⟨by decide +kernel, by decide +kernel⟩, lw_t7 (List.mem_of_getElem? (i := 69) rfl), lw_t9 (List.mem_of_getElem? (i := 196) rfl), lw_t9 (List.mem_of_getElem? (i := 197) rfl)⟩
theorem lw_p92 : lw_okq (⟨"SecondHelpingsModel", "holds", "(II)Z"⟩, 51) := ⟨⟨by decide +kernel, by decide +kernel⟩, lw_t7 (List.mem_of_getElem? (i := 69) rfl), lw_t9 (List.mem_of_getElem? (i := 204) rfl), lw_t9 (List.mem_of_getElem? (i := 205) rfl)⟩
def lw_privs_6 : List (MethodName × Nat) := [(⟨"SecondHelpingsModel", "readDoes", "(I)Z"⟩, 51), (⟨"SecondHelpingsModel", "goBy", "(I)I"⟩, 51), (⟨"SecondHelpingsModel", "stay", "(Z)V"⟩, 51), (⟨"SecondHelpingsModel", "readOr", "()Z"⟩, 51), (⟨"SecondHelpingsModel", "readAnd", "()Z"⟩, 51), (⟨"SecondHelpingsModel", "readSaid", "()Z"⟩, 51), (⟨"SecondHelpingsModel", "readBracket", "()Z"⟩, 51), (⟨"SecondHelpingsModel", "readNot", "()Z"⟩, 51), (⟨"SecondHelpingsModel", "saysOne", "(IIII)I"⟩, 51), (⟨"SecondHelpingsModel", "readOf", "(I)Z"⟩, 51), (⟨"SecondHelpingsModel", "readNamed", "(II)Z"⟩, 51), (⟨"SecondHelpingsModel", "readCompare", "(I)Z"⟩, 51), (⟨"SecondHelpingsModel", "holds", "(II)Z"⟩, 51)]
theorem lw_r6 : ∀ q ∈ lw_privs_6, lw_okq q := List.forall_mem_cons.mpr ⟨lw_p80, List.forall_mem_cons.mpr ⟨lw_p81, List.forall_mem_cons.mpr ⟨lw_p82, List.forall_mem_cons.mpr ⟨lw_p83, List.forall_mem_cons.mpr ⟨lw_p84, List.forall_mem_cons.mpr ⟨lw_p85, List.forall_mem_cons.mpr ⟨lw_p86, List.forall_mem_cons.mpr ⟨lw_p87, List.forall_mem_cons.mpr ⟨lw_p88, List.forall_mem_cons.mpr ⟨lw_p89, List.forall_mem_cons.mpr ⟨lw_p90, List.forall_mem_cons.mpr ⟨lw_p91, List.forall_mem_cons.mpr ⟨lw_p92, fun _ h => absurd h List.not_mem_nil⟩⟩⟩⟩⟩⟩⟩⟩⟩⟩⟩⟩⟩
def lw_privs : List (MethodName × Nat) := lw_privs_1 ++ (lw_privs_2 ++ (lw_privs_3 ++ (lw_privs_4 ++ (lw_privs_5 ++ (lw_privs_6)))))
def lw_tbl : List Cond := k2_sels lw_privs ++ tables_1
theorem lw_privs_ok : ∀ q ∈ lw_privs, lw_okq q := by
  show ∀ q ∈ lw_privs_1 ++ (lw_privs_2 ++ (lw_privs_3 ++ (lw_privs_4 ++ (lw_privs_5 ++ (lw_privs_6))))), lw_okq q
  exact List.forall_mem_append.mpr ⟨lw_r1, List.forall_mem_append.mpr ⟨lw_r2, List.forall_mem_append.mpr ⟨lw_r3, List.forall_mem_append.mpr ⟨lw_r4, List.forall_mem_append.mpr ⟨lw_r5, lw_r6⟩⟩⟩⟩⟩
-- ===== ONE list of words for every method: the tables' words that hold all through a run =====
def lw_all : List Cond := lw_tbl.filter goodWord
/-- a word of the tables by its place: claim/WORDS.tsv -/
theorem lw_w {w : Cond} (i : Nat) (h : lw_tbl[i]? = some w) (g : goodWord w = true) : w ∈ lw_all := List.mem_filter.mpr ⟨List.mem_of_getElem? h, g⟩
theorem lw_all_tbl {w : Cond} (h : w ∈ lw_all) : w ∈ lw_tbl := (List.mem_filter.mp h).1
theorem lw_self : GoodIn lw_all lw_all := fun w h => ⟨h, good_of_word (List.mem_filter.mp h).2⟩
/-- a class's field words, by their places -/
theorem lw_in (ws : List Cond) (ps : List Nat) (hp : ws = ps.filterMap (fun i => lw_tbl[i]?)) (hg : ws.all goodWord = true) : ∀ w ∈ ws, w ∈ lw_all := by
  intro w h
  have h1 := List.all_eq_true.mp hg w h
  rw [hp] at h
  obtain ⟨i, -, hi⟩ := List.mem_filterMap.mp h
  exact lw_w i hi h1
/-- the words of a contract for the method y with code b, L locals, answer r -/
abbrev ws_ (y : MethodName) (b : ByteArray) (L : Nat) (r : Option FieldType) : List Cond := Cond.code y b L r :: lw_all
theorem lw_meth {y : MethodName} {b : ByteArray} {L : Nat} {r : Option FieldType} (h : Cond.code y b L r ∈ lw_all) : GoodIn lw_all (ws_ y b L r) := by
  intro w hw
  rcases List.mem_cons.mp hw with e | e
  · rw [e]
    exact lw_self _ h
  · exact lw_self _ e
theorem lw_app {a c : List Cond} (ha : ∀ w ∈ a, w ∈ lw_all) (hc : GoodIn lw_all c) : GoodIn lw_all (a ++ c) := by
  intro w hw
  rcases List.mem_append.mp hw with e | e
  · exact lw_self w (ha w e)
  · exact hc w e
/-- what a call through an object asks: cwV n hts (lw_V ..) -/
theorem lw_V {own : String} {idx : Nat} {C : String} {y : MethodName} {b : ByteArray} {L : Nat} {r : Option FieldType} (h1 : Cond.methodLink own idx y ∈ lw_all) (h2 : Cond.instanceMethod y ∈ lw_all) (h3 : Cond.selects C y y ∈ lw_all) (h4 : Cond.initialized C ∈ lw_all) (h5 : Cond.code y b L r ∈ lw_all) : GoodIn lw_all (wsV own idx C y (ws_ y b L r)) := by
  refine lw_app ?_ (lw_meth h5)
  intro w hw
  simp only [List.mem_cons, List.not_mem_nil, or_false] at hw
  rcases hw with e | e | e | e
  · rw [e]; exact h1
  · rw [e]; exact h2
  · rw [e]; exact h3
  · rw [e]; exact h4
/-- what a static call asks: va_cwS n hts (lw_S ..) -/
theorem lw_S {own : String} {idx : Nat} {y : MethodName} {b : ByteArray} {L : Nat} {r : Option FieldType} (h1 : Cond.methodLink own idx y ∈ lw_all) (h2 : Cond.static y ∈ lw_all) (h3 : Cond.initialized y.cls ∈ lw_all) (h4 : Cond.code y b L r ∈ lw_all) : GoodIn lw_all (va_wsS own idx y (ws_ y b L r)) := by
  refine lw_app ?_ (lw_meth h4)
  intro w hw
  simp only [List.mem_cons, List.not_mem_nil, or_false] at hw
  rcases hw with e | e | e
  · rw [e]; exact h1
  · rw [e]; exact h2
  · rw [e]; exact h3
/-- the words of a contract for a method WITH HANDLERS (hh: its table) -/
abbrev wsW_ (y : MethodName) (b : ByteArray) (L : Nat) (r : Option FieldType) (hh : List (Nat × Nat × Nat × Nat)) : List Cond := Cond.codeWith y b L r hh :: lw_all
theorem lw_methW {y : MethodName} {b : ByteArray} {L : Nat} {r : Option FieldType} {hh : List (Nat × Nat × Nat × Nat)} (h : Cond.codeWith y b L r hh ∈ lw_all) : GoodIn lw_all (wsW_ y b L r hh) := by
  intro w hw
  rcases List.mem_cons.mp hw with e | e
  · rw [e]
    exact lw_self _ h
  · exact lw_self _ e
/-- any list of words by their places (lw_in), good -/
theorem lw_good {ws : List Cond} (h : ∀ w ∈ ws, w ∈ lw_all) : GoodIn lw_all ws := fun w hw => lw_self w (h w hw)
/-- what a call of a method with handlers asks: vx_cwVW n hts (lw_VW ..), vx_cwSW n hts (lw_SW ..) -/
theorem lw_VW {own : String} {idx : Nat} {C : String} {y : MethodName} {b : ByteArray} {L : Nat} {r : Option FieldType} {hh : List (Nat × Nat × Nat × Nat)} (h1 : Cond.methodLink own idx y ∈ lw_all) (h2 : Cond.instanceMethod y ∈ lw_all) (h3 : Cond.selects C y y ∈ lw_all) (h4 : Cond.initialized C ∈ lw_all) (h5 : Cond.codeWith y b L r hh ∈ lw_all) : GoodIn lw_all (wsV own idx C y (wsW_ y b L r hh)) := by
  refine lw_app ?_ (lw_methW h5)
  intro w hw
  simp only [List.mem_cons, List.not_mem_nil, or_false] at hw
  rcases hw with e | e | e | e
  · rw [e]; exact h1
  · rw [e]; exact h2
  · rw [e]; exact h3
  · rw [e]; exact h4
theorem lw_SW {own : String} {idx : Nat} {y : MethodName} {b : ByteArray} {L : Nat} {r : Option FieldType} {hh : List (Nat × Nat × Nat × Nat)} (h1 : Cond.methodLink own idx y ∈ lw_all) (h2 : Cond.static y ∈ lw_all) (h3 : Cond.initialized y.cls ∈ lw_all) (h4 : Cond.codeWith y b L r hh ∈ lw_all) : GoodIn lw_all (va_wsS own idx y (wsW_ y b L r hh)) := by
  refine lw_app ?_ (lw_methW h4)
  intro w hw
  simp only [List.mem_cons, List.not_mem_nil, or_false] at hw
  rcases hw with e | e | e
  · rw [e]; exact h1
  · rw [e]; exact h2
  · rw [e]; exact h3
/-- a word by its place in its run of the tables -/
theorem lw_at {r : List Cond} (hr : ∀ w ∈ r, w ∈ lw_tbl) {w : Cond} (i : Nat) (h : r[i]? = some w) : w ∈ lw_tbl := hr w (List.mem_of_getElem? h)
theorem lw_g {w : Cond} (h : w ∈ lw_tbl) (g : goodWord w = true) : w ∈ lw_all := List.mem_filter.mpr ⟨h, g⟩
theorem lw_ms : ∀ w ∈ k2_sels lw_privs, w ∈ lw_tbl := fun w h => show w ∈ k2_sels lw_privs ++ tables_1 from List.mem_append_left _ h
theorem lw_m1 : ∀ w ∈ tables_1_1, w ∈ lw_tbl := fun w h => show w ∈ k2_sels lw_privs ++ tables_1 from List.mem_append_right (k2_sels lw_privs) (show w ∈ tables_1 from List.mem_append_left _ h)
theorem lw_m2 : ∀ w ∈ tables_1_2, w ∈ lw_tbl := fun w h => show w ∈ k2_sels lw_privs ++ tables_1 from List.mem_append_right (k2_sels lw_privs) (show w ∈ tables_1 from List.mem_append_right _ (List.mem_append_left _ h))
theorem lw_m3 : ∀ w ∈ tables_1_3, w ∈ lw_tbl := fun w h => show w ∈ k2_sels lw_privs ++ tables_1 from List.mem_append_right (k2_sels lw_privs) (show w ∈ tables_1 from List.mem_append_right _ (List.mem_append_right _ (List.mem_append_left _ h)))
theorem lw_m4 : ∀ w ∈ tables_1_4, w ∈ lw_tbl := fun w h => show w ∈ k2_sels lw_privs ++ tables_1 from List.mem_append_right (k2_sels lw_privs) (show w ∈ tables_1 from List.mem_append_right _ (List.mem_append_right _ (List.mem_append_right _ (List.mem_append_left _ h))))
theorem lw_m5 : ∀ w ∈ tables_1_5, w ∈ lw_tbl := fun w h => show w ∈ k2_sels lw_privs ++ tables_1 from List.mem_append_right (k2_sels lw_privs) (show w ∈ tables_1 from List.mem_append_right _ (List.mem_append_right _ (List.mem_append_right _ (List.mem_append_right _ (List.mem_append_left _ h)))))
theorem lw_m6 : ∀ w ∈ tables_1_6, w ∈ lw_tbl := fun w h => show w ∈ k2_sels lw_privs ++ tables_1 from List.mem_append_right (k2_sels lw_privs) (show w ∈ tables_1 from List.mem_append_right _ (List.mem_append_right _ (List.mem_append_right _ (List.mem_append_right _ (List.mem_append_right _ (List.mem_append_left _ h))))))
theorem lw_m7 : ∀ w ∈ tables_1_7, w ∈ lw_tbl := fun w h => show w ∈ k2_sels lw_privs ++ tables_1 from List.mem_append_right (k2_sels lw_privs) (show w ∈ tables_1 from List.mem_append_right _ (List.mem_append_right _ (List.mem_append_right _ (List.mem_append_right _ (List.mem_append_right _ (List.mem_append_right _ (List.mem_append_left _ h)))))))
theorem lw_m8 : ∀ w ∈ tables_1_8, w ∈ lw_tbl := fun w h => show w ∈ k2_sels lw_privs ++ tables_1 from List.mem_append_right (k2_sels lw_privs) (show w ∈ tables_1 from List.mem_append_right _ (List.mem_append_right _ (List.mem_append_right _ (List.mem_append_right _ (List.mem_append_right _ (List.mem_append_right _ (List.mem_append_right _ (List.mem_append_left _ h))))))))
theorem lw_m9 : ∀ w ∈ tables_1_9, w ∈ lw_tbl := fun w h => show w ∈ k2_sels lw_privs ++ tables_1 from List.mem_append_right (k2_sels lw_privs) (show w ∈ tables_1 from List.mem_append_right _ (List.mem_append_right _ (List.mem_append_right _ (List.mem_append_right _ (List.mem_append_right _ (List.mem_append_right _ (List.mem_append_right _ (List.mem_append_right _ (List.mem_append_left _ h)))))))))
theorem lw_m10 : ∀ w ∈ tables_1_10, w ∈ lw_tbl := fun w h => show w ∈ k2_sels lw_privs ++ tables_1 from List.mem_append_right (k2_sels lw_privs) (show w ∈ tables_1 from List.mem_append_right _ (List.mem_append_right _ (List.mem_append_right _ (List.mem_append_right _ (List.mem_append_right _ (List.mem_append_right _ (List.mem_append_right _ (List.mem_append_right _ (List.mem_append_right _ h)))))))))
theorem qs0 : (Cond.selects "java/lang/Throwable" ⟨"java/lang/Throwable", "fillInStackTrace", "(I)Ljava/lang/Throwable;"⟩ ⟨"java/lang/Throwable", "fillInStackTrace", "(I)Ljava/lang/Throwable;"⟩) ∈ lw_all := lw_g (lw_at lw_ms 0 rfl) rfl
theorem qs1 : (Cond.selects "SecondHelpings" ⟨"SecondHelpings", "four", "(I)V"⟩ ⟨"SecondHelpings", "four", "(I)V"⟩) ∈ lw_all := lw_g (lw_at lw_ms 1 rfl) rfl
theorem qs2 : (Cond.selects "SecondHelpings" ⟨"SecondHelpings", "taken", "()V"⟩ ⟨"SecondHelpings", "taken", "()V"⟩) ∈ lw_all := lw_g (lw_at lw_ms 2 rfl) rfl
theorem qs3 : (Cond.selects "SecondHelpings$BoardReader" ⟨"SecondHelpings$BoardReader", "line", "(I)V"⟩ ⟨"SecondHelpings$BoardReader", "line", "(I)V"⟩) ∈ lw_all := lw_g (lw_at lw_ms 3 rfl) rfl
theorem qs4 : (Cond.selects "SecondHelpings$BoardReader" ⟨"SecondHelpings$BoardReader", "person", "()V"⟩ ⟨"SecondHelpings$BoardReader", "person", "()V"⟩) ∈ lw_all := lw_g (lw_at lw_ms 4 rfl) rfl
theorem qs5 : (Cond.selects "SecondHelpings$BoardReader" ⟨"SecondHelpings$BoardReader", "fresh", "()J"⟩ ⟨"SecondHelpings$BoardReader", "fresh", "()J"⟩) ∈ lw_all := lw_g (lw_at lw_ms 5 rfl) rfl
theorem qs6 : (Cond.selects "SecondHelpings$BoardReader" ⟨"SecondHelpings$BoardReader", "dish", "()V"⟩ ⟨"SecondHelpings$BoardReader", "dish", "()V"⟩) ∈ lw_all := lw_g (lw_at lw_ms 6 rfl) rfl
theorem qs7 : (Cond.selects "SecondHelpings" ⟨"SecondHelpings", "isPerson", "(I)Z"⟩ ⟨"SecondHelpings", "isPerson", "(I)Z"⟩) ∈ lw_all := lw_g (lw_at lw_ms 7 rfl) rfl
theorem qs8 : (Cond.selects "SecondHelpings" ⟨"SecondHelpings", "isDish", "(I)Z"⟩ ⟨"SecondHelpings", "isDish", "(I)Z"⟩) ∈ lw_all := lw_g (lw_at lw_ms 8 rfl) rfl
theorem qs9 : (Cond.selects "SecondHelpings" ⟨"SecondHelpings", "keep", "()V"⟩ ⟨"SecondHelpings", "keep", "()V"⟩) ∈ lw_all := lw_g (lw_at lw_ms 9 rfl) rfl
theorem qs10 : (Cond.selects "SecondHelpings$State" ⟨"SecondHelpings$State", "passes", "(LSecondHelpings$Board;I)V"⟩ ⟨"SecondHelpings$State", "passes", "(LSecondHelpings$Board;I)V"⟩) ∈ lw_all := lw_g (lw_at lw_ms 10 rfl) rfl
theorem qs11 : (Cond.selects "SecondHelpings$State" ⟨"SecondHelpings$State", "nextOf", "(LSecondHelpings$Board;II)I"⟩ ⟨"SecondHelpings$State", "nextOf", "(LSecondHelpings$Board;II)I"⟩) ∈ lw_all := lw_g (lw_at lw_ms 11 rfl) rfl
theorem qs12 : (Cond.selects "SecondHelpings" ⟨"SecondHelpings", "living", "()I"⟩ ⟨"SecondHelpings", "living", "()I"⟩) ∈ lw_all := lw_g (lw_at lw_ms 12 rfl) rfl
theorem qs13 : (Cond.selects "SecondHelpings" ⟨"SecondHelpings", "orders", "(II)V"⟩ ⟨"SecondHelpings", "orders", "(II)V"⟩) ∈ lw_all := lw_g (lw_at lw_ms 13 rfl) rfl
theorem qs14 : (Cond.selects "SecondHelpings" ⟨"SecondHelpings", "one", "(I)I"⟩ ⟨"SecondHelpings", "one", "(I)I"⟩) ∈ lw_all := lw_g (lw_at lw_ms 14 rfl) rfl
theorem qs15 : (Cond.selects "SecondHelpings" ⟨"SecondHelpings", "onPlates", "(II)I"⟩ ⟨"SecondHelpings", "onPlates", "(II)I"⟩) ∈ lw_all := lw_g (lw_at lw_ms 15 rfl) rfl
theorem qs16 : (Cond.selects "SecondHelpings" ⟨"SecondHelpings", "sits", "(III)V"⟩ ⟨"SecondHelpings", "sits", "(III)V"⟩) ∈ lw_all := lw_g (lw_at lw_ms 16 rfl) rfl
theorem qs17 : (Cond.selects "SecondHelpings" ⟨"SecondHelpings", "put", "(J)V"⟩ ⟨"SecondHelpings", "put", "(J)V"⟩) ∈ lw_all := lw_g (lw_at lw_ms 17 rfl) rfl
theorem qs18 : (Cond.selects "SecondHelpings" ⟨"SecondHelpings", "put", "(I)V"⟩ ⟨"SecondHelpings", "put", "(I)V"⟩) ∈ lw_all := lw_g (lw_at lw_ms 18 rfl) rfl
theorem qs19 : (Cond.selects "SecondHelpings" ⟨"SecondHelpings", "put", "(Ljava/lang/String;)V"⟩ ⟨"SecondHelpings", "put", "(Ljava/lang/String;)V"⟩) ∈ lw_all := lw_g (lw_at lw_ms 19 rfl) rfl
theorem qs20 : (Cond.selects "SecondHelpings$State" ⟨"SecondHelpings$State", "drawPerson", "(LSecondHelpings$Board;I)V"⟩ ⟨"SecondHelpings$State", "drawPerson", "(LSecondHelpings$Board;I)V"⟩) ∈ lw_all := lw_g (lw_at lw_ms 20 rfl) rfl
theorem qs21 : (Cond.selects "SecondHelpings$State" ⟨"SecondHelpings$State", "draw", "(I)I"⟩ ⟨"SecondHelpings$State", "draw", "(I)I"⟩) ∈ lw_all := lw_g (lw_at lw_ms 21 rfl) rfl
theorem qs22 : (Cond.selects "SecondHelpings$BookReader" ⟨"SecondHelpings$BookReader", "line", "()LSecondHelpings$Line;"⟩ ⟨"SecondHelpings$BookReader", "line", "()LSecondHelpings$Line;"⟩) ∈ lw_all := lw_g (lw_at lw_ms 22 rfl) rfl
theorem qs23 : (Cond.selects "SecondHelpings$SentenceReader" ⟨"SecondHelpings$SentenceReader", "any", "(I)LSecondHelpings$Cond;"⟩ ⟨"SecondHelpings$SentenceReader", "any", "(I)LSecondHelpings$Cond;"⟩) ∈ lw_all := lw_g (lw_at lw_ms 23 rfl) rfl
theorem qs24 : (Cond.selects "SecondHelpings$SentenceReader" ⟨"SecondHelpings$SentenceReader", "both", "(I)LSecondHelpings$Cond;"⟩ ⟨"SecondHelpings$SentenceReader", "both", "(I)LSecondHelpings$Cond;"⟩) ∈ lw_all := lw_g (lw_at lw_ms 24 rfl) rfl
theorem qs25 : (Cond.selects "SecondHelpings$SentenceReader" ⟨"SecondHelpings$SentenceReader", "single", "(I)LSecondHelpings$Cond;"⟩ ⟨"SecondHelpings$SentenceReader", "single", "(I)LSecondHelpings$Cond;"⟩) ∈ lw_all := lw_g (lw_at lw_ms 25 rfl) rfl
theorem qs26 : (Cond.selects "SecondHelpingsModel" ⟨"SecondHelpingsModel", "come", "(I)V"⟩ ⟨"SecondHelpingsModel", "come", "(I)V"⟩) ∈ lw_all := lw_g (lw_at lw_ms 26 rfl) rfl
theorem qs27 : (Cond.selects "SecondHelpingsModel" ⟨"SecondHelpingsModel", "begin", "(I)V"⟩ ⟨"SecondHelpingsModel", "begin", "(I)V"⟩) ∈ lw_all := lw_g (lw_at lw_ms 27 rfl) rfl
theorem qs28 : (Cond.selects "SecondHelpingsModel" ⟨"SecondHelpingsModel", "take", "()I"⟩ ⟨"SecondHelpingsModel", "take", "()I"⟩) ∈ lw_all := lw_g (lw_at lw_ms 28 rfl) rfl
theorem qs29 : (Cond.selects "SecondHelpingsModel" ⟨"SecondHelpingsModel", "go", "()V"⟩ ⟨"SecondHelpingsModel", "go", "()V"⟩) ∈ lw_all := lw_g (lw_at lw_ms 29 rfl) rfl
theorem qs30 : (Cond.selects "SecondHelpingsModel" ⟨"SecondHelpingsModel", "tapeAt", "(I)I"⟩ ⟨"SecondHelpingsModel", "tapeAt", "(I)I"⟩) ∈ lw_all := lw_g (lw_at lw_ms 30 rfl) rfl
theorem qs31 : (Cond.selects "SecondHelpingsModel" ⟨"SecondHelpingsModel", "readLine", "()Z"⟩ ⟨"SecondHelpingsModel", "readLine", "()Z"⟩) ∈ lw_all := lw_g (lw_at lw_ms 31 rfl) rfl
theorem qs32 : (Cond.selects "SecondHelpingsModel" ⟨"SecondHelpingsModel", "isWord", "(I)Z"⟩ ⟨"SecondHelpingsModel", "isWord", "(I)Z"⟩) ∈ lw_all := lw_g (lw_at lw_ms 32 rfl) rfl
theorem qs33 : (Cond.selects "SecondHelpingsModel" ⟨"SecondHelpingsModel", "readPerson", "()Z"⟩ ⟨"SecondHelpingsModel", "readPerson", "()Z"⟩) ∈ lw_all := lw_g (lw_at lw_ms 33 rfl) rfl
theorem qs34 : (Cond.selects "SecondHelpingsModel" ⟨"SecondHelpingsModel", "readFirst", "(II)Z"⟩ ⟨"SecondHelpingsModel", "readFirst", "(II)Z"⟩) ∈ lw_all := lw_g (lw_at lw_ms 34 rfl) rfl
theorem qs35 : (Cond.selects "SecondHelpingsModel" ⟨"SecondHelpingsModel", "bad", "(I)Z"⟩ ⟨"SecondHelpingsModel", "bad", "(I)Z"⟩) ∈ lw_all := lw_g (lw_at lw_ms 35 rfl) rfl
theorem qs36 : (Cond.selects "SecondHelpingsModel" ⟨"SecondHelpingsModel", "readNew", "(I)Z"⟩ ⟨"SecondHelpingsModel", "readNew", "(I)Z"⟩) ∈ lw_all := lw_g (lw_at lw_ms 36 rfl) rfl
theorem qs37 : (Cond.selects "SecondHelpingsModel" ⟨"SecondHelpingsModel", "isName", "()Z"⟩ ⟨"SecondHelpingsModel", "isName", "()Z"⟩) ∈ lw_all := lw_g (lw_at lw_ms 37 rfl) rfl
theorem qs38 : (Cond.selects "SecondHelpingsModel" ⟨"SecondHelpingsModel", "readNumber", "(II)Z"⟩ ⟨"SecondHelpingsModel", "readNumber", "(II)Z"⟩) ∈ lw_all := lw_g (lw_at lw_ms 38 rfl) rfl
theorem qs39 : (Cond.selects "SecondHelpingsModel" ⟨"SecondHelpingsModel", "put", "(IZ)Z"⟩ ⟨"SecondHelpingsModel", "put", "(IZ)Z"⟩) ∈ lw_all := lw_g (lw_at lw_ms 39 rfl) rfl
theorem qs40 : (Cond.selects "SecondHelpingsModel" ⟨"SecondHelpingsModel", "readOne", "(II)Z"⟩ ⟨"SecondHelpingsModel", "readOne", "(II)Z"⟩) ∈ lw_all := lw_g (lw_at lw_ms 40 rfl) rfl
theorem qs41 : (Cond.selects "SecondHelpingsModel" ⟨"SecondHelpingsModel", "isOne", "(II)Z"⟩ ⟨"SecondHelpingsModel", "isOne", "(II)Z"⟩) ∈ lw_all := lw_g (lw_at lw_ms 41 rfl) rfl
theorem qs42 : (Cond.selects "SecondHelpingsModel" ⟨"SecondHelpingsModel", "readDish", "()Z"⟩ ⟨"SecondHelpingsModel", "readDish", "()Z"⟩) ∈ lw_all := lw_g (lw_at lw_ms 42 rfl) rfl
theorem qs43 : (Cond.selects "SecondHelpingsModel" ⟨"SecondHelpingsModel", "readPlate", "()Z"⟩ ⟨"SecondHelpingsModel", "readPlate", "()Z"⟩) ∈ lw_all := lw_g (lw_at lw_ms 43 rfl) rfl
theorem qs44 : (Cond.selects "SecondHelpingsModel" ⟨"SecondHelpingsModel", "readLaw", "()Z"⟩ ⟨"SecondHelpingsModel", "readLaw", "()Z"⟩) ∈ lw_all := lw_g (lw_at lw_ms 44 rfl) rfl
theorem qs45 : (Cond.selects "SecondHelpingsModel" ⟨"SecondHelpingsModel", "readEnd", "()Z"⟩ ⟨"SecondHelpingsModel", "readEnd", "()Z"⟩) ∈ lw_all := lw_g (lw_at lw_ms 45 rfl) rfl
theorem qs46 : (Cond.selects "SecondHelpingsModel" ⟨"SecondHelpingsModel", "isSign", "(I)Z"⟩ ⟨"SecondHelpingsModel", "isSign", "(I)Z"⟩) ∈ lw_all := lw_g (lw_at lw_ms 46 rfl) rfl
theorem qs47 : (Cond.selects "SecondHelpingsModel" ⟨"SecondHelpingsModel", "startSo", "()V"⟩ ⟨"SecondHelpingsModel", "startSo", "()V"⟩) ∈ lw_all := lw_g (lw_at lw_ms 47 rfl) rfl
theorem qs48 : (Cond.selects "SecondHelpingsModel" ⟨"SecondHelpingsModel", "isPerson", "(I)Z"⟩ ⟨"SecondHelpingsModel", "isPerson", "(I)Z"⟩) ∈ lw_all := lw_g (lw_at lw_ms 48 rfl) rfl
theorem qs49 : (Cond.selects "SecondHelpingsModel" ⟨"SecondHelpingsModel", "refuse", "()I"⟩ ⟨"SecondHelpingsModel", "refuse", "()I"⟩) ∈ lw_all := lw_g (lw_at lw_ms 49 rfl) rfl
theorem qs50 : (Cond.selects "SecondHelpingsModel" ⟨"SecondHelpingsModel", "isDead", "(I)Z"⟩ ⟨"SecondHelpingsModel", "isDead", "(I)Z"⟩) ∈ lw_all := lw_g (lw_at lw_ms 50 rfl) rfl
theorem qs51 : (Cond.selects "SecondHelpingsModel" ⟨"SecondHelpingsModel", "plateOf", "(I)I"⟩ ⟨"SecondHelpingsModel", "plateOf", "(I)I"⟩) ∈ lw_all := lw_g (lw_at lw_ms 51 rfl) rfl
theorem qs52 : (Cond.selects "SecondHelpingsModel" ⟨"SecondHelpingsModel", "onPlate", "(II)I"⟩ ⟨"SecondHelpingsModel", "onPlate", "(II)I"⟩) ∈ lw_all := lw_g (lw_at lw_ms 52 rfl) rfl
theorem qs53 : (Cond.selects "SecondHelpingsModel" ⟨"SecondHelpingsModel", "isDish", "(I)Z"⟩ ⟨"SecondHelpingsModel", "isDish", "(I)Z"⟩) ∈ lw_all := lw_g (lw_at lw_ms 53 rfl) rfl
theorem qs54 : (Cond.selects "SecondHelpingsModel" ⟨"SecondHelpingsModel", "sumOf", "(I)I"⟩ ⟨"SecondHelpingsModel", "sumOf", "(I)I"⟩) ∈ lw_all := lw_g (lw_at lw_ms 54 rfl) rfl
theorem qs55 : (Cond.selects "SecondHelpingsModel" ⟨"SecondHelpingsModel", "outs", "()I"⟩ ⟨"SecondHelpingsModel", "outs", "()I"⟩) ∈ lw_all := lw_g (lw_at lw_ms 55 rfl) rfl
theorem qs56 : (Cond.selects "SecondHelpingsModel" ⟨"SecondHelpingsModel", "heirBy", "(II)I"⟩ ⟨"SecondHelpingsModel", "heirBy", "(II)I"⟩) ∈ lw_all := lw_g (lw_at lw_ms 56 rfl) rfl
theorem qs57 : (Cond.selects "SecondHelpingsModel" ⟨"SecondHelpingsModel", "nextTo", "(II)I"⟩ ⟨"SecondHelpingsModel", "nextTo", "(II)I"⟩) ∈ lw_all := lw_g (lw_at lw_ms 57 rfl) rfl
theorem qs58 : (Cond.selects "SecondHelpingsModel" ⟨"SecondHelpingsModel", "act", "(IIII)I"⟩ ⟨"SecondHelpingsModel", "act", "(IIII)I"⟩) ∈ lw_all := lw_g (lw_at lw_ms 58 rfl) rfl
theorem qs59 : (Cond.selects "SecondHelpingsModel" ⟨"SecondHelpingsModel", "why", "(IIII)I"⟩ ⟨"SecondHelpingsModel", "why", "(IIII)I"⟩) ∈ lw_all := lw_g (lw_at lw_ms 59 rfl) rfl
theorem qs60 : (Cond.selects "SecondHelpingsModel" ⟨"SecondHelpingsModel", "wantsYet", "(I)I"⟩ ⟨"SecondHelpingsModel", "wantsYet", "(I)I"⟩) ∈ lw_all := lw_g (lw_at lw_ms 60 rfl) rfl
theorem qs61 : (Cond.selects "SecondHelpingsModel" ⟨"SecondHelpingsModel", "snap", "()V"⟩ ⟨"SecondHelpingsModel", "snap", "()V"⟩) ∈ lw_all := lw_g (lw_at lw_ms 61 rfl) rfl
theorem qs62 : (Cond.selects "SecondHelpingsModel" ⟨"SecondHelpingsModel", "live", "(IIII)V"⟩ ⟨"SecondHelpingsModel", "live", "(IIII)V"⟩) ∈ lw_all := lw_g (lw_at lw_ms 62 rfl) rfl
theorem qs63 : (Cond.selects "SecondHelpingsModel" ⟨"SecondHelpingsModel", "doEat", "(III)V"⟩ ⟨"SecondHelpingsModel", "doEat", "(III)V"⟩) ∈ lw_all := lw_g (lw_at lw_ms 63 rfl) rfl
theorem qs64 : (Cond.selects "SecondHelpingsModel" ⟨"SecondHelpingsModel", "pass", "(I)V"⟩ ⟨"SecondHelpingsModel", "pass", "(I)V"⟩) ∈ lw_all := lw_g (lw_at lw_ms 64 rfl) rfl
theorem qs65 : (Cond.selects "SecondHelpingsModel" ⟨"SecondHelpingsModel", "passMeals", "(I)I"⟩ ⟨"SecondHelpingsModel", "passMeals", "(I)I"⟩) ∈ lw_all := lw_g (lw_at lw_ms 65 rfl) rfl
theorem qs66 : (Cond.selects "SecondHelpingsModel" ⟨"SecondHelpingsModel", "oneMeal", "()V"⟩ ⟨"SecondHelpingsModel", "oneMeal", "()V"⟩) ∈ lw_all := lw_g (lw_at lw_ms 66 rfl) rfl
theorem qs67 : (Cond.selects "SecondHelpingsModel" ⟨"SecondHelpingsModel", "living", "()I"⟩ ⟨"SecondHelpingsModel", "living", "()I"⟩) ∈ lw_all := lw_g (lw_at lw_ms 67 rfl) rfl
theorem qs68 : (Cond.selects "SecondHelpingsModel" ⟨"SecondHelpingsModel", "orderFrom", "(II)V"⟩ ⟨"SecondHelpingsModel", "orderFrom", "(II)V"⟩) ∈ lw_all := lw_g (lw_at lw_ms 68 rfl) rfl
theorem qs69 : (Cond.selects "SecondHelpingsModel" ⟨"SecondHelpingsModel", "eatsAll", "(I)V"⟩ ⟨"SecondHelpingsModel", "eatsAll", "(I)V"⟩) ∈ lw_all := lw_g (lw_at lw_ms 69 rfl) rfl
theorem qs70 : (Cond.selects "SecondHelpingsModel" ⟨"SecondHelpingsModel", "seatFrom", "(III)V"⟩ ⟨"SecondHelpingsModel", "seatFrom", "(III)V"⟩) ∈ lw_all := lw_g (lw_at lw_ms 70 rfl) rfl
theorem qs71 : (Cond.selects "SecondHelpingsModel" ⟨"SecondHelpingsModel", "layAside", "()V"⟩ ⟨"SecondHelpingsModel", "layAside", "()V"⟩) ∈ lw_all := lw_g (lw_at lw_ms 71 rfl) rfl
theorem qs72 : (Cond.selects "SecondHelpingsModel" ⟨"SecondHelpingsModel", "takeBack", "()V"⟩ ⟨"SecondHelpingsModel", "takeBack", "()V"⟩) ∈ lw_all := lw_g (lw_at lw_ms 72 rfl) rfl
theorem qs73 : (Cond.selects "SecondHelpingsModel" ⟨"SecondHelpingsModel", "writeWord", "(J)V"⟩ ⟨"SecondHelpingsModel", "writeWord", "(J)V"⟩) ∈ lw_all := lw_g (lw_at lw_ms 73 rfl) rfl
theorem qs74 : (Cond.selects "SecondHelpingsModel" ⟨"SecondHelpingsModel", "write", "(I)V"⟩ ⟨"SecondHelpingsModel", "write", "(I)V"⟩) ∈ lw_all := lw_g (lw_at lw_ms 74 rfl) rfl
theorem qs75 : (Cond.selects "SecondHelpingsModel" ⟨"SecondHelpingsModel", "writeNext", "(J)V"⟩ ⟨"SecondHelpingsModel", "writeNext", "(J)V"⟩) ∈ lw_all := lw_g (lw_at lw_ms 75 rfl) rfl
theorem qs76 : (Cond.selects "SecondHelpingsModel" ⟨"SecondHelpingsModel", "writeNumber", "(I)V"⟩ ⟨"SecondHelpingsModel", "writeNumber", "(I)V"⟩) ∈ lw_all := lw_g (lw_at lw_ms 76 rfl) rfl
theorem qs77 : (Cond.selects "SecondHelpingsModel" ⟨"SecondHelpingsModel", "drawMeals", "(II)I"⟩ ⟨"SecondHelpingsModel", "drawMeals", "(II)I"⟩) ∈ lw_all := lw_g (lw_at lw_ms 77 rfl) rfl
theorem qs78 : (Cond.selects "SecondHelpingsModel" ⟨"SecondHelpingsModel", "draw", "(I)I"⟩ ⟨"SecondHelpingsModel", "draw", "(I)I"⟩) ∈ lw_all := lw_g (lw_at lw_ms 78 rfl) rfl
theorem qs79 : (Cond.selects "SecondHelpingsModel" ⟨"SecondHelpingsModel", "readBookLine", "()Z"⟩ ⟨"SecondHelpingsModel", "readBookLine", "()Z"⟩) ∈ lw_all := lw_g (lw_at lw_ms 79 rfl) rfl
theorem qs80 : (Cond.selects "SecondHelpingsModel" ⟨"SecondHelpingsModel", "readDoes", "(I)Z"⟩ ⟨"SecondHelpingsModel", "readDoes", "(I)Z"⟩) ∈ lw_all := lw_g (lw_at lw_ms 80 rfl) rfl
theorem qs81 : (Cond.selects "SecondHelpingsModel" ⟨"SecondHelpingsModel", "goBy", "(I)I"⟩ ⟨"SecondHelpingsModel", "goBy", "(I)I"⟩) ∈ lw_all := lw_g (lw_at lw_ms 81 rfl) rfl
theorem qs82 : (Cond.selects "SecondHelpingsModel" ⟨"SecondHelpingsModel", "stay", "(Z)V"⟩ ⟨"SecondHelpingsModel", "stay", "(Z)V"⟩) ∈ lw_all := lw_g (lw_at lw_ms 82 rfl) rfl
theorem qs83 : (Cond.selects "SecondHelpingsModel" ⟨"SecondHelpingsModel", "readOr", "()Z"⟩ ⟨"SecondHelpingsModel", "readOr", "()Z"⟩) ∈ lw_all := lw_g (lw_at lw_ms 83 rfl) rfl
theorem qs84 : (Cond.selects "SecondHelpingsModel" ⟨"SecondHelpingsModel", "readAnd", "()Z"⟩ ⟨"SecondHelpingsModel", "readAnd", "()Z"⟩) ∈ lw_all := lw_g (lw_at lw_ms 84 rfl) rfl
theorem qs85 : (Cond.selects "SecondHelpingsModel" ⟨"SecondHelpingsModel", "readSaid", "()Z"⟩ ⟨"SecondHelpingsModel", "readSaid", "()Z"⟩) ∈ lw_all := lw_g (lw_at lw_ms 85 rfl) rfl
theorem qs86 : (Cond.selects "SecondHelpingsModel" ⟨"SecondHelpingsModel", "readBracket", "()Z"⟩ ⟨"SecondHelpingsModel", "readBracket", "()Z"⟩) ∈ lw_all := lw_g (lw_at lw_ms 86 rfl) rfl
theorem qs87 : (Cond.selects "SecondHelpingsModel" ⟨"SecondHelpingsModel", "readNot", "()Z"⟩ ⟨"SecondHelpingsModel", "readNot", "()Z"⟩) ∈ lw_all := lw_g (lw_at lw_ms 87 rfl) rfl
theorem qs88 : (Cond.selects "SecondHelpingsModel" ⟨"SecondHelpingsModel", "saysOne", "(IIII)I"⟩ ⟨"SecondHelpingsModel", "saysOne", "(IIII)I"⟩) ∈ lw_all := lw_g (lw_at lw_ms 88 rfl) rfl
theorem qs89 : (Cond.selects "SecondHelpingsModel" ⟨"SecondHelpingsModel", "readOf", "(I)Z"⟩ ⟨"SecondHelpingsModel", "readOf", "(I)Z"⟩) ∈ lw_all := lw_g (lw_at lw_ms 89 rfl) rfl
theorem qs90 : (Cond.selects "SecondHelpingsModel" ⟨"SecondHelpingsModel", "readNamed", "(II)Z"⟩ ⟨"SecondHelpingsModel", "readNamed", "(II)Z"⟩) ∈ lw_all := lw_g (lw_at lw_ms 90 rfl) rfl
theorem qs91 : (Cond.selects "SecondHelpingsModel" ⟨"SecondHelpingsModel", "readCompare", "(I)Z"⟩ ⟨"SecondHelpingsModel", "readCompare", "(I)Z"⟩) ∈ lw_all := lw_g (lw_at lw_ms 91 rfl) rfl
theorem qs92 : (Cond.selects "SecondHelpingsModel" ⟨"SecondHelpingsModel", "holds", "(II)Z"⟩ ⟨"SecondHelpingsModel", "holds", "(II)Z"⟩) ∈ lw_all := lw_g (lw_at lw_ms 92 rfl) rfl
