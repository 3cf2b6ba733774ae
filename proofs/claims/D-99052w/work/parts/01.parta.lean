-- ===== PART A: goes FIRST, ahead of the names: the tables' words, and 'selects' of the private methods out of them =====
/-- a private method of a class that the tables say can be made, by its rows of tables_1 -/
def lw_okq (q : MethodName × Nat) : Prop := (q.1.cls ≠ "java/lang/invoke/MethodHandle" ∧ q.1.cls ≠ "java/lang/invoke/VarHandle") ∧ Cond.instantiable q.1.cls q.2 ∈ tables_1 ∧ Cond.privateMethod q.1 ∈ tables_1 ∧ Cond.instanceMethod q.1 ∈ tables_1
set_option maxRecDepth 100000
theorem lw_t1 {w : Cond} (h : w ∈ tables_1_1) : w ∈ tables_1 := List.mem_append_left _ h
theorem lw_t2 {w : Cond} (h : w ∈ tables_1_2) : w ∈ tables_1 := List.mem_append_right _ (List.mem_append_left _ h)
theorem lw_t3 {w : Cond} (h : w ∈ tables_1_3) : w ∈ tables_1 := List.mem_append_right _ (List.mem_append_right _ (List.mem_append_left _ h))
theorem lw_t4 {w : Cond} (h : w ∈ tables_1_4) : w ∈ tables_1 := List.mem_append_right _ (List.mem_append_right _ (List.mem_append_right _ (List.mem_append_left _ h)))
theorem lw_t5 {w : Cond} (h : w ∈ tables_1_5) : w ∈ tables_1 := List.mem_append_right _ (List.mem_append_right _ (List.mem_append_right _ (List.mem_append_right _ (List.mem_append_left _ h))))
theorem lw_t6 {w : Cond} (h : w ∈ tables_1_6) : w ∈ tables_1 := List.mem_append_right _ (List.mem_append_right _ (List.mem_append_right _ (List.mem_append_right _ (List.mem_append_right _ (List.mem_append_left _ h)))))
theorem lw_t7 {w : Cond} (h : w ∈ tables_1_7) : w ∈ tables_1 := List.mem_append_right _ (List.mem_append_right _ (List.mem_append_right _ (List.mem_append_right _ (List.mem_append_right _ (List.mem_append_right _ (List.mem_append_left _ h))))))
theorem lw_t8 {w : Cond} (h : w ∈ tables_1_8) : w ∈ tables_1 := List.mem_append_right _ (List.mem_append_right _ (List.mem_append_right _ (List.mem_append_right _ (List.mem_append_right _ (List.mem_append_right _ (List.mem_append_right _ h))))))
theorem lw_p0 : lw_okq (⟨"TreesBeforeMen", "words", "(I)LTreesBeforeMen$Words;"⟩, 40) := ⟨⟨by decide +kernel, by decide +kernel⟩, lw_t1 (List.mem_of_getElem? (i := 30) rfl), lw_t2 (List.mem_of_getElem? (i := 46) rfl), lw_t2 (List.mem_of_getElem? (i := 47) rfl)⟩
theorem lw_p1 : lw_okq (⟨"java/lang/Throwable", "fillInStackTrace", "(I)Ljava/lang/Throwable;"⟩, 6) := ⟨⟨by decide +kernel, by decide +kernel⟩, lw_t2 (List.mem_of_getElem? (i := 125) rfl), lw_t2 (List.mem_of_getElem? (i := 123) rfl), lw_t2 (List.mem_of_getElem? (i := 124) rfl)⟩
theorem lw_p2 : lw_okq (⟨"TreesBeforeMen$Rule", "held", "(I)I"⟩, 7) := ⟨⟨by decide +kernel, by decide +kernel⟩, lw_t2 (List.mem_of_getElem? (i := 215) rfl), lw_t2 (List.mem_of_getElem? (i := 239) rfl), lw_t3 (List.mem_of_getElem? (i := 0) rfl)⟩
theorem lw_p3 : lw_okq (⟨"TreesBeforeMen$Rule", "sum", "(I)I"⟩, 7) := ⟨⟨by decide +kernel, by decide +kernel⟩, lw_t2 (List.mem_of_getElem? (i := 215) rfl), lw_t3 (List.mem_of_getElem? (i := 3) rfl), lw_t3 (List.mem_of_getElem? (i := 4) rfl)⟩
theorem lw_p4 : lw_okq (⟨"TreesBeforeMen$Rule", "product", "(I)I"⟩, 7) := ⟨⟨by decide +kernel, by decide +kernel⟩, lw_t2 (List.mem_of_getElem? (i := 215) rfl), lw_t3 (List.mem_of_getElem? (i := 7) rfl), lw_t3 (List.mem_of_getElem? (i := 8) rfl)⟩
theorem lw_p5 : lw_okq (⟨"TreesBeforeMen$Rule", "thing", "(I)I"⟩, 7) := ⟨⟨by decide +kernel, by decide +kernel⟩, lw_t2 (List.mem_of_getElem? (i := 215) rfl), lw_t3 (List.mem_of_getElem? (i := 11) rfl), lw_t3 (List.mem_of_getElem? (i := 12) rfl)⟩
theorem lw_p6 : lw_okq (⟨"TreesBeforeMen$Rule", "value", "(I)I"⟩, 7) := ⟨⟨by decide +kernel, by decide +kernel⟩, lw_t2 (List.mem_of_getElem? (i := 215) rfl), lw_t3 (List.mem_of_getElem? (i := 119) rfl), lw_t3 (List.mem_of_getElem? (i := 120) rfl)⟩
theorem lw_p7 : lw_okq (⟨"TreesBeforeMen", "skyOf", "(I)I"⟩, 40) := ⟨⟨by decide +kernel, by decide +kernel⟩, lw_t1 (List.mem_of_getElem? (i := 30) rfl), lw_t3 (List.mem_of_getElem? (i := 123) rfl), lw_t3 (List.mem_of_getElem? (i := 124) rfl)⟩
theorem lw_p8 : lw_okq (⟨"TreesBeforeMen", "remember", "(LTreesBeforeMen$Voyage;)V"⟩, 40) := ⟨⟨by decide +kernel, by decide +kernel⟩, lw_t1 (List.mem_of_getElem? (i := 30) rfl), lw_t3 (List.mem_of_getElem? (i := 136) rfl), lw_t3 (List.mem_of_getElem? (i := 137) rfl)⟩
theorem lw_p9 : lw_okq (⟨"TreesBeforeMen", "goDays", "(LTreesBeforeMen$Voyage;I)I"⟩, 40) := ⟨⟨by decide +kernel, by decide +kernel⟩, lw_t1 (List.mem_of_getElem? (i := 30) rfl), lw_t3 (List.mem_of_getElem? (i := 198) rfl), lw_t3 (List.mem_of_getElem? (i := 199) rfl)⟩
theorem lw_p10 : lw_okq (⟨"TreesBeforeMen", "goDay", "(LTreesBeforeMen$Voyage;)Z"⟩, 40) := ⟨⟨by decide +kernel, by decide +kernel⟩, lw_t1 (List.mem_of_getElem? (i := 30) rfl), lw_t3 (List.mem_of_getElem? (i := 202) rfl), lw_t3 (List.mem_of_getElem? (i := 203) rfl)⟩
theorem lw_p11 : lw_okq (⟨"TreesBeforeMen", "deathsOf", "(LTreesBeforeMen$Voyage;I)I"⟩, 40) := ⟨⟨by decide +kernel, by decide +kernel⟩, lw_t1 (List.mem_of_getElem? (i := 30) rfl), lw_t3 (List.mem_of_getElem? (i := 220) rfl), lw_t3 (List.mem_of_getElem? (i := 221) rfl)⟩
theorem lw_p12 : lw_okq (⟨"TreesBeforeMen", "tell", "(J)V"⟩, 40) := ⟨⟨by decide +kernel, by decide +kernel⟩, lw_t1 (List.mem_of_getElem? (i := 30) rfl), lw_t4 (List.mem_of_getElem? (i := 0) rfl), lw_t4 (List.mem_of_getElem? (i := 1) rfl)⟩
theorem lw_p13 : lw_okq (⟨"TreesBeforeMen", "isMutiny", "(LTreesBeforeMen$Voyage;)Z"⟩, 40) := ⟨⟨by decide +kernel, by decide +kernel⟩, lw_t1 (List.mem_of_getElem? (i := 30) rfl), lw_t4 (List.mem_of_getElem? (i := 4) rfl), lw_t4 (List.mem_of_getElem? (i := 5) rfl)⟩
theorem lw_p14 : lw_okq (⟨"TreesBeforeMen", "risesOf", "(LTreesBeforeMen$Voyage;II)I"⟩, 40) := ⟨⟨by decide +kernel, by decide +kernel⟩, lw_t1 (List.mem_of_getElem? (i := 30) rfl), lw_t4 (List.mem_of_getElem? (i := 8) rfl), lw_t4 (List.mem_of_getElem? (i := 9) rfl)⟩
theorem lw_p15 : lw_okq (⟨"TreesBeforeMen", "kindOf", "(I)LTreesBeforeMen$Kind;"⟩, 40) := ⟨⟨by decide +kernel, by decide +kernel⟩, lw_t1 (List.mem_of_getElem? (i := 30) rfl), lw_t4 (List.mem_of_getElem? (i := 16) rfl), lw_t4 (List.mem_of_getElem? (i := 17) rfl)⟩
def lw_privs_1 : List (MethodName × Nat) := [(⟨"TreesBeforeMen", "words", "(I)LTreesBeforeMen$Words;"⟩, 40), (⟨"java/lang/Throwable", "fillInStackTrace", "(I)Ljava/lang/Throwable;"⟩, 6), (⟨"TreesBeforeMen$Rule", "held", "(I)I"⟩, 7), (⟨"TreesBeforeMen$Rule", "sum", "(I)I"⟩, 7), (⟨"TreesBeforeMen$Rule", "product", "(I)I"⟩, 7), (⟨"TreesBeforeMen$Rule", "thing", "(I)I"⟩, 7), (⟨"TreesBeforeMen$Rule", "value", "(I)I"⟩, 7), (⟨"TreesBeforeMen", "skyOf", "(I)I"⟩, 40), (⟨"TreesBeforeMen", "remember", "(LTreesBeforeMen$Voyage;)V"⟩, 40), (⟨"TreesBeforeMen", "goDays", "(LTreesBeforeMen$Voyage;I)I"⟩, 40), (⟨"TreesBeforeMen", "goDay", "(LTreesBeforeMen$Voyage;)Z"⟩, 40), (⟨"TreesBeforeMen", "deathsOf", "(LTreesBeforeMen$Voyage;I)I"⟩, 40), (⟨"TreesBeforeMen", "tell", "(J)V"⟩, 40), (⟨"TreesBeforeMen", "isMutiny", "(LTreesBeforeMen$Voyage;)Z"⟩, 40), (⟨"TreesBeforeMen", "risesOf", "(LTreesBeforeMen$Voyage;II)I"⟩, 40), (⟨"TreesBeforeMen", "kindOf", "(I)LTreesBeforeMen$Kind;"⟩, 40)]
theorem lw_r1 : ∀ q ∈ lw_privs_1, lw_okq q := List.forall_mem_cons.mpr ⟨lw_p0, List.forall_mem_cons.mpr ⟨lw_p1, List.forall_mem_cons.mpr ⟨lw_p2, List.forall_mem_cons.mpr ⟨lw_p3, List.forall_mem_cons.mpr ⟨lw_p4, List.forall_mem_cons.mpr ⟨lw_p5, List.forall_mem_cons.mpr ⟨lw_p6, List.forall_mem_cons.mpr ⟨lw_p7, List.forall_mem_cons.mpr ⟨lw_p8, List.forall_mem_cons.mpr ⟨lw_p9, List.forall_mem_cons.mpr ⟨lw_p10, List.forall_mem_cons.mpr ⟨lw_p11, List.forall_mem_cons.mpr ⟨lw_p12, List.forall_mem_cons.mpr ⟨lw_p13, List.forall_mem_cons.mpr ⟨lw_p14, List.forall_mem_cons.mpr ⟨lw_p15, fun _ h => absurd h List.not_mem_nil⟩⟩⟩⟩⟩⟩⟩⟩⟩⟩⟩⟩⟩⟩⟩⟩
theorem lw_p16 : lw_okq (⟨"TreesBeforeMen", "isMutiny", "(LTreesBeforeMen$Voyage;I)Z"⟩, 40) := ⟨⟨by decide +kernel, by decide +kernel⟩, lw_t1 (List.mem_of_getElem? (i := 30) rfl), lw_t4 (List.mem_of_getElem? (i := 52) rfl), lw_t4 (List.mem_of_getElem? (i := 53) rfl)⟩
theorem lw_p17 : lw_okq (⟨"TreesBeforeMen", "speaks", "(III)I"⟩, 40) := ⟨⟨by decide +kernel, by decide +kernel⟩, lw_t1 (List.mem_of_getElem? (i := 30) rfl), lw_t4 (List.mem_of_getElem? (i := 69) rfl), lw_t4 (List.mem_of_getElem? (i := 70) rfl)⟩
theorem lw_p18 : lw_okq (⟨"TreesBeforeMen", "refusesWords", "(II)I"⟩, 40) := ⟨⟨by decide +kernel, by decide +kernel⟩, lw_t1 (List.mem_of_getElem? (i := 30) rfl), lw_t4 (List.mem_of_getElem? (i := 73) rfl), lw_t4 (List.mem_of_getElem? (i := 74) rfl)⟩
theorem lw_p19 : lw_okq (⟨"TreesBeforeMen", "isMan", "(I)Z"⟩, 40) := ⟨⟨by decide +kernel, by decide +kernel⟩, lw_t1 (List.mem_of_getElem? (i := 30) rfl), lw_t4 (List.mem_of_getElem? (i := 77) rfl), lw_t4 (List.mem_of_getElem? (i := 78) rfl)⟩
theorem lw_p20 : lw_okq (⟨"TreesBeforeMen", "refusesRun", "(I)I"⟩, 40) := ⟨⟨by decide +kernel, by decide +kernel⟩, lw_t1 (List.mem_of_getElem? (i := 30) rfl), lw_t4 (List.mem_of_getElem? (i := 89) rfl), lw_t4 (List.mem_of_getElem? (i := 90) rfl)⟩
theorem lw_p21 : lw_okq (⟨"TreesBeforeMen", "goRun", "(I)I"⟩, 40) := ⟨⟨by decide +kernel, by decide +kernel⟩, lw_t1 (List.mem_of_getElem? (i := 30) rfl), lw_t4 (List.mem_of_getElem? (i := 93) rfl), lw_t4 (List.mem_of_getElem? (i := 94) rfl)⟩
theorem lw_p22 : lw_okq (⟨"TreesBeforeMen$Order", "act", "()V"⟩, 8) := ⟨⟨by decide +kernel, by decide +kernel⟩, lw_t4 (List.mem_of_getElem? (i := 108) rfl), lw_t4 (List.mem_of_getElem? (i := 140) rfl), lw_t4 (List.mem_of_getElem? (i := 141) rfl)⟩
theorem lw_p23 : lw_okq (⟨"TreesBeforeMen", "act", "(CII)Z"⟩, 40) := ⟨⟨by decide +kernel, by decide +kernel⟩, lw_t1 (List.mem_of_getElem? (i := 30) rfl), lw_t4 (List.mem_of_getElem? (i := 159) rfl), lw_t4 (List.mem_of_getElem? (i := 160) rfl)⟩
theorem lw_p24 : lw_okq (⟨"TreesBeforeMen", "fewest", "(Z)I"⟩, 40) := ⟨⟨by decide +kernel, by decide +kernel⟩, lw_t1 (List.mem_of_getElem? (i := 30) rfl), lw_t4 (List.mem_of_getElem? (i := 183) rfl), lw_t4 (List.mem_of_getElem? (i := 184) rfl)⟩
theorem lw_p25 : lw_okq (⟨"TreesBeforeMen", "isLess", "()Z"⟩, 40) := ⟨⟨by decide +kernel, by decide +kernel⟩, lw_t1 (List.mem_of_getElem? (i := 30) rfl), lw_t4 (List.mem_of_getElem? (i := 188) rfl), lw_t4 (List.mem_of_getElem? (i := 189) rfl)⟩
theorem lw_p26 : lw_okq (⟨"TreesBeforeMen", "goPlan", "(II)V"⟩, 40) := ⟨⟨by decide +kernel, by decide +kernel⟩, lw_t1 (List.mem_of_getElem? (i := 30) rfl), lw_t4 (List.mem_of_getElem? (i := 225) rfl), lw_t4 (List.mem_of_getElem? (i := 226) rfl)⟩
theorem lw_p27 : lw_okq (⟨"TreesBeforeMen", "treesIn10", "()I"⟩, 40) := ⟨⟨by decide +kernel, by decide +kernel⟩, lw_t1 (List.mem_of_getElem? (i := 30) rfl), lw_t4 (List.mem_of_getElem? (i := 233) rfl), lw_t4 (List.mem_of_getElem? (i := 234) rfl)⟩
theorem lw_p28 : lw_okq (⟨"TreesBeforeMen", "bestLandings", "(II)I"⟩, 40) := ⟨⟨by decide +kernel, by decide +kernel⟩, lw_t1 (List.mem_of_getElem? (i := 30) rfl), lw_t5 (List.mem_of_getElem? (i := 3) rfl), lw_t5 (List.mem_of_getElem? (i := 4) rfl)⟩
theorem lw_p29 : lw_okq (⟨"TreesBeforeMen", "aliveBy", "(III)I"⟩, 40) := ⟨⟨by decide +kernel, by decide +kernel⟩, lw_t1 (List.mem_of_getElem? (i := 30) rfl), lw_t5 (List.mem_of_getElem? (i := 7) rfl), lw_t5 (List.mem_of_getElem? (i := 8) rfl)⟩
theorem lw_p30 : lw_okq (⟨"TreesBeforeMen", "likelyAll", "(I)J"⟩, 40) := ⟨⟨by decide +kernel, by decide +kernel⟩, lw_t1 (List.mem_of_getElem? (i := 30) rfl), lw_t5 (List.mem_of_getElem? (i := 35) rfl), lw_t5 (List.mem_of_getElem? (i := 36) rfl)⟩
theorem lw_p31 : lw_okq (⟨"TreesBeforeMen", "likelyAt", "(II)J"⟩, 40) := ⟨⟨by decide +kernel, by decide +kernel⟩, lw_t1 (List.mem_of_getElem? (i := 30) rfl), lw_t5 (List.mem_of_getElem? (i := 39) rfl), lw_t5 (List.mem_of_getElem? (i := 40) rfl)⟩
def lw_privs_2 : List (MethodName × Nat) := [(⟨"TreesBeforeMen", "isMutiny", "(LTreesBeforeMen$Voyage;I)Z"⟩, 40), (⟨"TreesBeforeMen", "speaks", "(III)I"⟩, 40), (⟨"TreesBeforeMen", "refusesWords", "(II)I"⟩, 40), (⟨"TreesBeforeMen", "isMan", "(I)Z"⟩, 40), (⟨"TreesBeforeMen", "refusesRun", "(I)I"⟩, 40), (⟨"TreesBeforeMen", "goRun", "(I)I"⟩, 40), (⟨"TreesBeforeMen$Order", "act", "()V"⟩, 8), (⟨"TreesBeforeMen", "act", "(CII)Z"⟩, 40), (⟨"TreesBeforeMen", "fewest", "(Z)I"⟩, 40), (⟨"TreesBeforeMen", "isLess", "()Z"⟩, 40), (⟨"TreesBeforeMen", "goPlan", "(II)V"⟩, 40), (⟨"TreesBeforeMen", "treesIn10", "()I"⟩, 40), (⟨"TreesBeforeMen", "bestLandings", "(II)I"⟩, 40), (⟨"TreesBeforeMen", "aliveBy", "(III)I"⟩, 40), (⟨"TreesBeforeMen", "likelyAll", "(I)J"⟩, 40), (⟨"TreesBeforeMen", "likelyAt", "(II)J"⟩, 40)]
theorem lw_r2 : ∀ q ∈ lw_privs_2, lw_okq q := List.forall_mem_cons.mpr ⟨lw_p16, List.forall_mem_cons.mpr ⟨lw_p17, List.forall_mem_cons.mpr ⟨lw_p18, List.forall_mem_cons.mpr ⟨lw_p19, List.forall_mem_cons.mpr ⟨lw_p20, List.forall_mem_cons.mpr ⟨lw_p21, List.forall_mem_cons.mpr ⟨lw_p22, List.forall_mem_cons.mpr ⟨lw_p23, List.forall_mem_cons.mpr ⟨lw_p24, List.forall_mem_cons.mpr ⟨lw_p25, List.forall_mem_cons.mpr ⟨lw_p26, List.forall_mem_cons.mpr ⟨lw_p27, List.forall_mem_cons.mpr ⟨lw_p28, List.forall_mem_cons.mpr ⟨lw_p29, List.forall_mem_cons.mpr ⟨lw_p30, List.forall_mem_cons.mpr ⟨lw_p31, fun _ h => absurd h List.not_mem_nil⟩⟩⟩⟩⟩⟩⟩⟩⟩⟩⟩⟩⟩⟩⟩⟩
theorem lw_p32 : lw_okq (⟨"TreesBeforeMen", "tellPart", "(JJ)V"⟩, 40) := ⟨⟨by decide +kernel, by decide +kernel⟩, lw_t1 (List.mem_of_getElem? (i := 30) rfl), lw_t5 (List.mem_of_getElem? (i := 46) rfl), lw_t5 (List.mem_of_getElem? (i := 47) rfl)⟩
theorem lw_p33 : lw_okq (⟨"TreesBeforeMen", "fitting", "()I"⟩, 40) := ⟨⟨by decide +kernel, by decide +kernel⟩, lw_t1 (List.mem_of_getElem? (i := 30) rfl), lw_t5 (List.mem_of_getElem? (i := 70) rfl), lw_t5 (List.mem_of_getElem? (i := 71) rfl)⟩
theorem lw_p34 : lw_okq (⟨"TreesBeforeMen", "fitsTo", "(III)Z"⟩, 40) := ⟨⟨by decide +kernel, by decide +kernel⟩, lw_t1 (List.mem_of_getElem? (i := 30) rfl), lw_t5 (List.mem_of_getElem? (i := 74) rfl), lw_t5 (List.mem_of_getElem? (i := 75) rfl)⟩
theorem lw_p35 : lw_okq (⟨"TreesBeforeMen", "draw", "(I)I"⟩, 40) := ⟨⟨by decide +kernel, by decide +kernel⟩, lw_t1 (List.mem_of_getElem? (i := 30) rfl), lw_t5 (List.mem_of_getElem? (i := 97) rfl), lw_t5 (List.mem_of_getElem? (i := 98) rfl)⟩
theorem lw_p36 : lw_okq (⟨"TreesBeforeMenModel", "begins", "(I)I"⟩, 53) := ⟨⟨by decide +kernel, by decide +kernel⟩, lw_t5 (List.mem_of_getElem? (i := 175) rfl), lw_t6 (List.mem_of_getElem? (i := 121) rfl), lw_t6 (List.mem_of_getElem? (i := 122) rfl)⟩
theorem lw_p37 : lw_okq (⟨"TreesBeforeMenModel", "readsMan", "()Z"⟩, 53) := ⟨⟨by decide +kernel, by decide +kernel⟩, lw_t5 (List.mem_of_getElem? (i := 175) rfl), lw_t6 (List.mem_of_getElem? (i := 126) rfl), lw_t6 (List.mem_of_getElem? (i := 127) rfl)⟩
theorem lw_p38 : lw_okq (⟨"TreesBeforeMenModel", "number", "(I)I"⟩, 53) := ⟨⟨by decide +kernel, by decide +kernel⟩, lw_t5 (List.mem_of_getElem? (i := 175) rfl), lw_t6 (List.mem_of_getElem? (i := 130) rfl), lw_t6 (List.mem_of_getElem? (i := 131) rfl)⟩
theorem lw_p39 : lw_okq (⟨"TreesBeforeMenModel", "isDigit", "()Z"⟩, 53) := ⟨⟨by decide +kernel, by decide +kernel⟩, lw_t5 (List.mem_of_getElem? (i := 175) rfl), lw_t6 (List.mem_of_getElem? (i := 134) rfl), lw_t6 (List.mem_of_getElem? (i := 135) rfl)⟩
theorem lw_p40 : lw_okq (⟨"TreesBeforeMenModel", "digitIn", "(II)I"⟩, 53) := ⟨⟨by decide +kernel, by decide +kernel⟩, lw_t5 (List.mem_of_getElem? (i := 175) rfl), lw_t6 (List.mem_of_getElem? (i := 140) rfl), lw_t6 (List.mem_of_getElem? (i := 141) rfl)⟩
theorem lw_p41 : lw_okq (⟨"TreesBeforeMenModel", "takes", "(I)Z"⟩, 53) := ⟨⟨by decide +kernel, by decide +kernel⟩, lw_t5 (List.mem_of_getElem? (i := 175) rfl), lw_t6 (List.mem_of_getElem? (i := 144) rfl), lw_t6 (List.mem_of_getElem? (i := 145) rfl)⟩
theorem lw_p42 : lw_okq (⟨"TreesBeforeMenModel", "faultOf", "(IIZ)I"⟩, 53) := ⟨⟨by decide +kernel, by decide +kernel⟩, lw_t5 (List.mem_of_getElem? (i := 175) rfl), lw_t6 (List.mem_of_getElem? (i := 151) rfl), lw_t6 (List.mem_of_getElem? (i := 152) rfl)⟩
theorem lw_p43 : lw_okq (⟨"TreesBeforeMenModel", "among", "(Ljava/lang/String;)I"⟩, 53) := ⟨⟨by decide +kernel, by decide +kernel⟩, lw_t5 (List.mem_of_getElem? (i := 175) rfl), lw_t6 (List.mem_of_getElem? (i := 160) rfl), lw_t6 (List.mem_of_getElem? (i := 161) rfl)⟩
theorem lw_p44 : lw_okq (⟨"TreesBeforeMenModel", "takesOf", "(Ljava/lang/String;)I"⟩, 53) := ⟨⟨by decide +kernel, by decide +kernel⟩, lw_t5 (List.mem_of_getElem? (i := 175) rfl), lw_t6 (List.mem_of_getElem? (i := 185) rfl), lw_t6 (List.mem_of_getElem? (i := 186) rfl)⟩
theorem lw_p45 : lw_okq (⟨"TreesBeforeMenModel", "readsIsland", "()Z"⟩, 53) := ⟨⟨by decide +kernel, by decide +kernel⟩, lw_t5 (List.mem_of_getElem? (i := 175) rfl), lw_t6 (List.mem_of_getElem? (i := 193) rfl), lw_t6 (List.mem_of_getElem? (i := 194) rfl)⟩
theorem lw_p46 : lw_okq (⟨"TreesBeforeMenModel", "readsRule", "()I"⟩, 53) := ⟨⟨by decide +kernel, by decide +kernel⟩, lw_t5 (List.mem_of_getElem? (i := 175) rfl), lw_t6 (List.mem_of_getElem? (i := 201) rfl), lw_t6 (List.mem_of_getElem? (i := 202) rfl)⟩
theorem lw_p47 : lw_okq (⟨"TreesBeforeMenModel", "readsRank", "(I)Z"⟩, 53) := ⟨⟨by decide +kernel, by decide +kernel⟩, lw_t5 (List.mem_of_getElem? (i := 175) rfl), lw_t6 (List.mem_of_getElem? (i := 205) rfl), lw_t6 (List.mem_of_getElem? (i := 206) rfl)⟩
def lw_privs_3 : List (MethodName × Nat) := [(⟨"TreesBeforeMen", "tellPart", "(JJ)V"⟩, 40), (⟨"TreesBeforeMen", "fitting", "()I"⟩, 40), (⟨"TreesBeforeMen", "fitsTo", "(III)Z"⟩, 40), (⟨"TreesBeforeMen", "draw", "(I)I"⟩, 40), (⟨"TreesBeforeMenModel", "begins", "(I)I"⟩, 53), (⟨"TreesBeforeMenModel", "readsMan", "()Z"⟩, 53), (⟨"TreesBeforeMenModel", "number", "(I)I"⟩, 53), (⟨"TreesBeforeMenModel", "isDigit", "()Z"⟩, 53), (⟨"TreesBeforeMenModel", "digitIn", "(II)I"⟩, 53), (⟨"TreesBeforeMenModel", "takes", "(I)Z"⟩, 53), (⟨"TreesBeforeMenModel", "faultOf", "(IIZ)I"⟩, 53), (⟨"TreesBeforeMenModel", "among", "(Ljava/lang/String;)I"⟩, 53), (⟨"TreesBeforeMenModel", "takesOf", "(Ljava/lang/String;)I"⟩, 53), (⟨"TreesBeforeMenModel", "readsIsland", "()Z"⟩, 53), (⟨"TreesBeforeMenModel", "readsRule", "()I"⟩, 53), (⟨"TreesBeforeMenModel", "readsRank", "(I)Z"⟩, 53)]
theorem lw_r3 : ∀ q ∈ lw_privs_3, lw_okq q := List.forall_mem_cons.mpr ⟨lw_p32, List.forall_mem_cons.mpr ⟨lw_p33, List.forall_mem_cons.mpr ⟨lw_p34, List.forall_mem_cons.mpr ⟨lw_p35, List.forall_mem_cons.mpr ⟨lw_p36, List.forall_mem_cons.mpr ⟨lw_p37, List.forall_mem_cons.mpr ⟨lw_p38, List.forall_mem_cons.mpr ⟨lw_p39, List.forall_mem_cons.mpr ⟨lw_p40, List.forall_mem_cons.mpr ⟨lw_p41, List.forall_mem_cons.mpr ⟨lw_p42, List.forall_mem_cons.mpr ⟨lw_p43, List.forall_mem_cons.mpr ⟨lw_p44, List.forall_mem_cons.mpr ⟨lw_p45, List.forall_mem_cons.mpr ⟨lw_p46, List.forall_mem_cons.mpr ⟨lw_p47, fun _ h => absurd h List.not_mem_nil⟩⟩⟩⟩⟩⟩⟩⟩⟩⟩⟩⟩⟩⟩⟩⟩
theorem lw_p48 : lw_okq (⟨"TreesBeforeMenModel", "readsThing", "()Z"⟩, 53) := ⟨⟨by decide +kernel, by decide +kernel⟩, lw_t5 (List.mem_of_getElem? (i := 175) rfl), lw_t6 (List.mem_of_getElem? (i := 209) rfl), lw_t6 (List.mem_of_getElem? (i := 210) rfl)⟩
theorem lw_p49 : lw_okq (⟨"TreesBeforeMenModel", "codes", "(I)V"⟩, 53) := ⟨⟨by decide +kernel, by decide +kernel⟩, lw_t5 (List.mem_of_getElem? (i := 175) rfl), lw_t6 (List.mem_of_getElem? (i := 213) rfl), lw_t6 (List.mem_of_getElem? (i := 214) rfl)⟩
theorem lw_p50 : lw_okq (⟨"TreesBeforeMenModel", "laysCode", "([II)V"⟩, 53) := ⟨⟨by decide +kernel, by decide +kernel⟩, lw_t5 (List.mem_of_getElem? (i := 175) rfl), lw_t6 (List.mem_of_getElem? (i := 221) rfl), lw_t6 (List.mem_of_getElem? (i := 222) rfl)⟩
theorem lw_p51 : lw_okq (⟨"TreesBeforeMenModel", "isMan", "(I)Z"⟩, 53) := ⟨⟨by decide +kernel, by decide +kernel⟩, lw_t5 (List.mem_of_getElem? (i := 175) rfl), lw_t6 (List.mem_of_getElem? (i := 229) rfl), lw_t6 (List.mem_of_getElem? (i := 230) rfl)⟩
theorem lw_p52 : lw_okq (⟨"TreesBeforeMenModel", "refuse", "()I"⟩, 53) := ⟨⟨by decide +kernel, by decide +kernel⟩, lw_t5 (List.mem_of_getElem? (i := 175) rfl), lw_t6 (List.mem_of_getElem? (i := 234) rfl), lw_t6 (List.mem_of_getElem? (i := 235) rfl)⟩
theorem lw_p53 : lw_okq (⟨"TreesBeforeMenModel", "risen", "([III)I"⟩, 53) := ⟨⟨by decide +kernel, by decide +kernel⟩, lw_t5 (List.mem_of_getElem? (i := 175) rfl), lw_t6 (List.mem_of_getElem? (i := 238) rfl), lw_t6 (List.mem_of_getElem? (i := 239) rfl)⟩
theorem lw_p54 : lw_okq (⟨"TreesBeforeMenModel", "those", "([II)I"⟩, 53) := ⟨⟨by decide +kernel, by decide +kernel⟩, lw_t5 (List.mem_of_getElem? (i := 175) rfl), lw_t7 (List.mem_of_getElem? (i := 2) rfl), lw_t7 (List.mem_of_getElem? (i := 3) rfl)⟩
theorem lw_p55 : lw_okq (⟨"TreesBeforeMenModel", "joins", "([III)Z"⟩, 53) := ⟨⟨by decide +kernel, by decide +kernel⟩, lw_t5 (List.mem_of_getElem? (i := 175) rfl), lw_t7 (List.mem_of_getElem? (i := 10) rfl), lw_t7 (List.mem_of_getElem? (i := 11) rfl)⟩
theorem lw_p56 : lw_okq (⟨"TreesBeforeMenModel", "isIsland", "(I)Z"⟩, 53) := ⟨⟨by decide +kernel, by decide +kernel⟩, lw_t5 (List.mem_of_getElem? (i := 175) rfl), lw_t7 (List.mem_of_getElem? (i := 18) rfl), lw_t7 (List.mem_of_getElem? (i := 19) rfl)⟩
theorem lw_p57 : lw_okq (⟨"TreesBeforeMenModel", "searchesOf", "(I)I"⟩, 53) := ⟨⟨by decide +kernel, by decide +kernel⟩, lw_t5 (List.mem_of_getElem? (i := 175) rfl), lw_t7 (List.mem_of_getElem? (i := 23) rfl), lw_t7 (List.mem_of_getElem? (i := 24) rfl)⟩
theorem lw_p58 : lw_okq (⟨"TreesBeforeMenModel", "putsBy", "()V"⟩, 53) := ⟨⟨by decide +kernel, by decide +kernel⟩, lw_t5 (List.mem_of_getElem? (i := 175) rfl), lw_t7 (List.mem_of_getElem? (i := 40) rfl), lw_t7 (List.mem_of_getElem? (i := 41) rfl)⟩
theorem lw_p59 : lw_okq (⟨"TreesBeforeMenModel", "sets", "(II)I"⟩, 53) := ⟨⟨by decide +kernel, by decide +kernel⟩, lw_t5 (List.mem_of_getElem? (i := 175) rfl), lw_t7 (List.mem_of_getElem? (i := 44) rfl), lw_t7 (List.mem_of_getElem? (i := 45) rfl)⟩
theorem lw_p60 : lw_okq (⟨"TreesBeforeMenModel", "counts", "(I)I"⟩, 53) := ⟨⟨by decide +kernel, by decide +kernel⟩, lw_t5 (List.mem_of_getElem? (i := 175) rfl), lw_t7 (List.mem_of_getElem? (i := 49) rfl), lw_t7 (List.mem_of_getElem? (i := 50) rfl)⟩
theorem lw_p61 : lw_okq (⟨"TreesBeforeMenModel", "adds", "(I)I"⟩, 53) := ⟨⟨by decide +kernel, by decide +kernel⟩, lw_t5 (List.mem_of_getElem? (i := 175) rfl), lw_t7 (List.mem_of_getElem? (i := 53) rfl), lw_t7 (List.mem_of_getElem? (i := 54) rfl)⟩
theorem lw_p62 : lw_okq (⟨"TreesBeforeMenModel", "goesOn", "([II)I"⟩, 53) := ⟨⟨by decide +kernel, by decide +kernel⟩, lw_t5 (List.mem_of_getElem? (i := 175) rfl), lw_t7 (List.mem_of_getElem? (i := 62) rfl), lw_t7 (List.mem_of_getElem? (i := 63) rfl)⟩
theorem lw_p63 : lw_okq (⟨"TreesBeforeMenModel", "dayGoes", "([I)Z"⟩, 53) := ⟨⟨by decide +kernel, by decide +kernel⟩, lw_t5 (List.mem_of_getElem? (i := 175) rfl), lw_t7 (List.mem_of_getElem? (i := 66) rfl), lw_t7 (List.mem_of_getElem? (i := 67) rfl)⟩
def lw_privs_4 : List (MethodName × Nat) := [(⟨"TreesBeforeMenModel", "readsThing", "()Z"⟩, 53), (⟨"TreesBeforeMenModel", "codes", "(I)V"⟩, 53), (⟨"TreesBeforeMenModel", "laysCode", "([II)V"⟩, 53), (⟨"TreesBeforeMenModel", "isMan", "(I)Z"⟩, 53), (⟨"TreesBeforeMenModel", "refuse", "()I"⟩, 53), (⟨"TreesBeforeMenModel", "risen", "([III)I"⟩, 53), (⟨"TreesBeforeMenModel", "those", "([II)I"⟩, 53), (⟨"TreesBeforeMenModel", "joins", "([III)Z"⟩, 53), (⟨"TreesBeforeMenModel", "isIsland", "(I)Z"⟩, 53), (⟨"TreesBeforeMenModel", "searchesOf", "(I)I"⟩, 53), (⟨"TreesBeforeMenModel", "putsBy", "()V"⟩, 53), (⟨"TreesBeforeMenModel", "sets", "(II)I"⟩, 53), (⟨"TreesBeforeMenModel", "counts", "(I)I"⟩, 53), (⟨"TreesBeforeMenModel", "adds", "(I)I"⟩, 53), (⟨"TreesBeforeMenModel", "goesOn", "([II)I"⟩, 53), (⟨"TreesBeforeMenModel", "dayGoes", "([I)Z"⟩, 53)]
theorem lw_r4 : ∀ q ∈ lw_privs_4, lw_okq q := List.forall_mem_cons.mpr ⟨lw_p48, List.forall_mem_cons.mpr ⟨lw_p49, List.forall_mem_cons.mpr ⟨lw_p50, List.forall_mem_cons.mpr ⟨lw_p51, List.forall_mem_cons.mpr ⟨lw_p52, List.forall_mem_cons.mpr ⟨lw_p53, List.forall_mem_cons.mpr ⟨lw_p54, List.forall_mem_cons.mpr ⟨lw_p55, List.forall_mem_cons.mpr ⟨lw_p56, List.forall_mem_cons.mpr ⟨lw_p57, List.forall_mem_cons.mpr ⟨lw_p58, List.forall_mem_cons.mpr ⟨lw_p59, List.forall_mem_cons.mpr ⟨lw_p60, List.forall_mem_cons.mpr ⟨lw_p61, List.forall_mem_cons.mpr ⟨lw_p62, List.forall_mem_cons.mpr ⟨lw_p63, fun _ h => absurd h List.not_mem_nil⟩⟩⟩⟩⟩⟩⟩⟩⟩⟩⟩⟩⟩⟩⟩⟩
theorem lw_p64 : lw_okq (⟨"TreesBeforeMenModel", "canGive", "([I)Z"⟩, 53) := ⟨⟨by decide +kernel, by decide +kernel⟩, lw_t5 (List.mem_of_getElem? (i := 175) rfl), lw_t7 (List.mem_of_getElem? (i := 70) rfl), lw_t7 (List.mem_of_getElem? (i := 71) rfl)⟩
theorem lw_p65 : lw_okq (⟨"TreesBeforeMenModel", "ruled", "()I"⟩, 53) := ⟨⟨by decide +kernel, by decide +kernel⟩, lw_t5 (List.mem_of_getElem? (i := 175) rfl), lw_t7 (List.mem_of_getElem? (i := 74) rfl), lw_t7 (List.mem_of_getElem? (i := 75) rfl)⟩
theorem lw_p66 : lw_okq (⟨"TreesBeforeMenModel", "enters", "(J)V"⟩, 53) := ⟨⟨by decide +kernel, by decide +kernel⟩, lw_t5 (List.mem_of_getElem? (i := 175) rfl), lw_t7 (List.mem_of_getElem? (i := 81) rfl), lw_t7 (List.mem_of_getElem? (i := 82) rfl)⟩
theorem lw_p67 : lw_okq (⟨"TreesBeforeMenModel", "isMutiny", "([I)Z"⟩, 53) := ⟨⟨by decide +kernel, by decide +kernel⟩, lw_t5 (List.mem_of_getElem? (i := 175) rfl), lw_t7 (List.mem_of_getElem? (i := 85) rfl), lw_t7 (List.mem_of_getElem? (i := 86) rfl)⟩
theorem lw_p68 : lw_okq (⟨"TreesBeforeMenModel", "isMutiny", "([II)Z"⟩, 53) := ⟨⟨by decide +kernel, by decide +kernel⟩, lw_t5 (List.mem_of_getElem? (i := 175) rfl), lw_t7 (List.mem_of_getElem? (i := 89) rfl), lw_t7 (List.mem_of_getElem? (i := 90) rfl)⟩
theorem lw_p69 : lw_okq (⟨"TreesBeforeMenModel", "fills", "([II)I"⟩, 53) := ⟨⟨by decide +kernel, by decide +kernel⟩, lw_t5 (List.mem_of_getElem? (i := 175) rfl), lw_t7 (List.mem_of_getElem? (i := 97) rfl), lw_t7 (List.mem_of_getElem? (i := 98) rfl)⟩
theorem lw_p70 : lw_okq (⟨"TreesBeforeMenModel", "plants", "(I)I"⟩, 53) := ⟨⟨by decide +kernel, by decide +kernel⟩, lw_t5 (List.mem_of_getElem? (i := 175) rfl), lw_t7 (List.mem_of_getElem? (i := 106) rfl), lw_t7 (List.mem_of_getElem? (i := 107) rfl)⟩
theorem lw_p71 : lw_okq (⟨"TreesBeforeMenModel", "grudges", "([III)I"⟩, 53) := ⟨⟨by decide +kernel, by decide +kernel⟩, lw_t5 (List.mem_of_getElem? (i := 175) rfl), lw_t7 (List.mem_of_getElem? (i := 114) rfl), lw_t7 (List.mem_of_getElem? (i := 115) rfl)⟩
theorem lw_p72 : lw_okq (⟨"TreesBeforeMenModel", "runsOff", "(I)I"⟩, 53) := ⟨⟨by decide +kernel, by decide +kernel⟩, lw_t5 (List.mem_of_getElem? (i := 175) rfl), lw_t7 (List.mem_of_getElem? (i := 129) rfl), lw_t7 (List.mem_of_getElem? (i := 130) rfl)⟩
theorem lw_p73 : lw_okq (⟨"TreesBeforeMenModel", "puts", "([I)I"⟩, 53) := ⟨⟨by decide +kernel, by decide +kernel⟩, lw_t5 (List.mem_of_getElem? (i := 175) rfl), lw_t7 (List.mem_of_getElem? (i := 137) rfl), lw_t7 (List.mem_of_getElem? (i := 138) rfl)⟩
theorem lw_p74 : lw_okq (⟨"TreesBeforeMenModel", "readsAct", "()Z"⟩, 53) := ⟨⟨by decide +kernel, by decide +kernel⟩, lw_t5 (List.mem_of_getElem? (i := 175) rfl), lw_t7 (List.mem_of_getElem? (i := 145) rfl), lw_t7 (List.mem_of_getElem? (i := 146) rfl)⟩
theorem lw_p75 : lw_okq (⟨"TreesBeforeMenModel", "does", "(I)Z"⟩, 53) := ⟨⟨by decide +kernel, by decide +kernel⟩, lw_t5 (List.mem_of_getElem? (i := 175) rfl), lw_t7 (List.mem_of_getElem? (i := 151) rfl), lw_t7 (List.mem_of_getElem? (i := 152) rfl)⟩
theorem lw_p76 : lw_okq (⟨"TreesBeforeMenModel", "tellsRisen", "(I)V"⟩, 53) := ⟨⟨by decide +kernel, by decide +kernel⟩, lw_t5 (List.mem_of_getElem? (i := 175) rfl), lw_t7 (List.mem_of_getElem? (i := 159) rfl), lw_t7 (List.mem_of_getElem? (i := 160) rfl)⟩
theorem lw_p77 : lw_okq (⟨"TreesBeforeMenModel", "copies", "()V"⟩, 53) := ⟨⟨by decide +kernel, by decide +kernel⟩, lw_t5 (List.mem_of_getElem? (i := 175) rfl), lw_t7 (List.mem_of_getElem? (i := 171) rfl), lw_t7 (List.mem_of_getElem? (i := 172) rfl)⟩
theorem lw_p78 : lw_okq (⟨"TreesBeforeMenModel", "tellsCheapest", "(Z)I"⟩, 53) := ⟨⟨by decide +kernel, by decide +kernel⟩, lw_t5 (List.mem_of_getElem? (i := 175) rfl), lw_t7 (List.mem_of_getElem? (i := 179) rfl), lw_t7 (List.mem_of_getElem? (i := 180) rfl)⟩
theorem lw_p79 : lw_okq (⟨"TreesBeforeMenModel", "cheapest", "(Z)I"⟩, 53) := ⟨⟨by decide +kernel, by decide +kernel⟩, lw_t5 (List.mem_of_getElem? (i := 175) rfl), lw_t7 (List.mem_of_getElem? (i := 183) rfl), lw_t7 (List.mem_of_getElem? (i := 184) rfl)⟩
def lw_privs_5 : List (MethodName × Nat) := [(⟨"TreesBeforeMenModel", "canGive", "([I)Z"⟩, 53), (⟨"TreesBeforeMenModel", "ruled", "()I"⟩, 53), (⟨"TreesBeforeMenModel", "enters", "(J)V"⟩, 53), (⟨"TreesBeforeMenModel", "isMutiny", "([I)Z"⟩, 53), (⟨"TreesBeforeMenModel", "isMutiny", "([II)Z"⟩, 53), (⟨"TreesBeforeMenModel", "fills", "([II)I"⟩, 53), (⟨"TreesBeforeMenModel", "plants", "(I)I"⟩, 53), (⟨"TreesBeforeMenModel", "grudges", "([III)I"⟩, 53), (⟨"TreesBeforeMenModel", "runsOff", "(I)I"⟩, 53), (⟨"TreesBeforeMenModel", "puts", "([I)I"⟩, 53), (⟨"TreesBeforeMenModel", "readsAct", "()Z"⟩, 53), (⟨"TreesBeforeMenModel", "does", "(I)Z"⟩, 53), (⟨"TreesBeforeMenModel", "tellsRisen", "(I)V"⟩, 53), (⟨"TreesBeforeMenModel", "copies", "()V"⟩, 53), (⟨"TreesBeforeMenModel", "tellsCheapest", "(Z)I"⟩, 53), (⟨"TreesBeforeMenModel", "cheapest", "(Z)I"⟩, 53)]
theorem lw_r5 : ∀ q ∈ lw_privs_5, lw_okq q := List.forall_mem_cons.mpr ⟨lw_p64, List.forall_mem_cons.mpr ⟨lw_p65, List.forall_mem_cons.mpr ⟨lw_p66, List.forall_mem_cons.mpr ⟨lw_p67, List.forall_mem_cons.mpr ⟨lw_p68, List.forall_mem_cons.mpr ⟨lw_p69, List.forall_mem_cons.mpr ⟨lw_p70, List.forall_mem_cons.mpr ⟨lw_p71, List.forall_mem_cons.mpr ⟨lw_p72, List.forall_mem_cons.mpr ⟨lw_p73, List.forall_mem_cons.mpr ⟨lw_p74, List.forall_mem_cons.mpr ⟨lw_p75, List.forall_mem_cons.mpr ⟨lw_p76, List.forall_mem_cons.mpr ⟨lw_p77, List.forall_mem_cons.mpr ⟨lw_p78, List.forall_mem_cons.mpr ⟨lw_p79, fun _ h => absurd h List.not_mem_nil⟩⟩⟩⟩⟩⟩⟩⟩⟩⟩⟩⟩⟩⟩⟩⟩
theorem lw_p80 : lw_okq (⟨"TreesBeforeMenModel", "plans", "(II)V"⟩, 53) := ⟨⟨by decide +kernel, by decide +kernel⟩, lw_t5 (List.mem_of_getElem? (i := 175) rfl), lw_t7 (List.mem_of_getElem? (i := 221) rfl), lw_t7 (List.mem_of_getElem? (i := 222) rfl)⟩
theorem lw_p81 : lw_okq (⟨"TreesBeforeMenModel", "treesIn", "(I)I"⟩, 53) := ⟨⟨by decide +kernel, by decide +kernel⟩, lw_t5 (List.mem_of_getElem? (i := 175) rfl), lw_t7 (List.mem_of_getElem? (i := 229) rfl), lw_t7 (List.mem_of_getElem? (i := 230) rfl)⟩
theorem lw_p82 : lw_okq (⟨"TreesBeforeMenModel", "bestLanding", "(II)I"⟩, 53) := ⟨⟨by decide +kernel, by decide +kernel⟩, lw_t5 (List.mem_of_getElem? (i := 175) rfl), lw_t7 (List.mem_of_getElem? (i := 239) rfl), lw_t8 (List.mem_of_getElem? (i := 0) rfl)⟩
theorem lw_p83 : lw_okq (⟨"TreesBeforeMenModel", "alive", "(III)I"⟩, 53) := ⟨⟨by decide +kernel, by decide +kernel⟩, lw_t5 (List.mem_of_getElem? (i := 175) rfl), lw_t8 (List.mem_of_getElem? (i := 3) rfl), lw_t8 (List.mem_of_getElem? (i := 4) rfl)⟩
theorem lw_p84 : lw_okq (⟨"TreesBeforeMenModel", "allWeights", "(I)J"⟩, 53) := ⟨⟨by decide +kernel, by decide +kernel⟩, lw_t5 (List.mem_of_getElem? (i := 175) rfl), lw_t8 (List.mem_of_getElem? (i := 28) rfl), lw_t8 (List.mem_of_getElem? (i := 29) rfl)⟩
theorem lw_p85 : lw_okq (⟨"TreesBeforeMenModel", "weightOf", "(II)J"⟩, 53) := ⟨⟨by decide +kernel, by decide +kernel⟩, lw_t5 (List.mem_of_getElem? (i := 175) rfl), lw_t8 (List.mem_of_getElem? (i := 32) rfl), lw_t8 (List.mem_of_getElem? (i := 33) rfl)⟩
theorem lw_p86 : lw_okq (⟨"TreesBeforeMenModel", "tellsFraction", "(JJ)V"⟩, 53) := ⟨⟨by decide +kernel, by decide +kernel⟩, lw_t5 (List.mem_of_getElem? (i := 175) rfl), lw_t8 (List.mem_of_getElem? (i := 36) rfl), lw_t8 (List.mem_of_getElem? (i := 37) rfl)⟩
theorem lw_p87 : lw_okq (⟨"TreesBeforeMenModel", "fitting", "()I"⟩, 53) := ⟨⟨by decide +kernel, by decide +kernel⟩, lw_t5 (List.mem_of_getElem? (i := 175) rfl), lw_t8 (List.mem_of_getElem? (i := 59) rfl), lw_t8 (List.mem_of_getElem? (i := 60) rfl)⟩
theorem lw_p88 : lw_okq (⟨"TreesBeforeMenModel", "isSo", "(III)Z"⟩, 53) := ⟨⟨by decide +kernel, by decide +kernel⟩, lw_t5 (List.mem_of_getElem? (i := 175) rfl), lw_t8 (List.mem_of_getElem? (i := 63) rfl), lw_t8 (List.mem_of_getElem? (i := 64) rfl)⟩
theorem lw_p89 : lw_okq (⟨"TreesBeforeMenModel", "draws", "(I)I"⟩, 53) := ⟨⟨by decide +kernel, by decide +kernel⟩, lw_t5 (List.mem_of_getElem? (i := 175) rfl), lw_t8 (List.mem_of_getElem? (i := 86) rfl), lw_t8 (List.mem_of_getElem? (i := 87) rfl)⟩
def lw_privs_6 : List (MethodName × Nat) := [(⟨"TreesBeforeMenModel", "plans", "(II)V"⟩, 53), (⟨"TreesBeforeMenModel", "treesIn", "(I)I"⟩, 53), (⟨"TreesBeforeMenModel", "bestLanding", "(II)I"⟩, 53), (⟨"TreesBeforeMenModel", "alive", "(III)I"⟩, 53), (⟨"TreesBeforeMenModel", "allWeights", "(I)J"⟩, 53), (⟨"TreesBeforeMenModel", "weightOf", "(II)J"⟩, 53), (⟨"TreesBeforeMenModel", "tellsFraction", "(JJ)V"⟩, 53), (⟨"TreesBeforeMenModel", "fitting", "()I"⟩, 53), (⟨"TreesBeforeMenModel", "isSo", "(III)Z"⟩, 53), (⟨"TreesBeforeMenModel", "draws", "(I)I"⟩, 53)]
theorem lw_r6 : ∀ q ∈ lw_privs_6, lw_okq q := List.forall_mem_cons.mpr ⟨lw_p80, List.forall_mem_cons.mpr ⟨lw_p81, List.forall_mem_cons.mpr ⟨lw_p82, List.forall_mem_cons.mpr ⟨lw_p83, List.forall_mem_cons.mpr ⟨lw_p84, List.forall_mem_cons.mpr ⟨lw_p85, List.forall_mem_cons.mpr ⟨lw_p86, List.forall_mem_cons.mpr ⟨lw_p87, List.forall_mem_cons.mpr ⟨lw_p88, List.forall_mem_cons.mpr ⟨lw_p89, fun _ h => absurd h List.not_mem_nil⟩⟩⟩⟩⟩⟩⟩⟩⟩⟩
def lw_privs : List (MethodName × Nat) := lw_privs_1 ++ (lw_privs_2 ++ (lw_privs_3 ++ (lw_privs_4 ++ (lw_privs_5 ++ (lw_privs_6)))))
def lw_tbl : List Cond := k2_sels lw_privs ++ tables_1
theorem lw_privs_ok : ∀ q ∈ lw_privs, lw_okq q := by
  show ∀ q ∈ lw_privs_1 ++ (lw_privs_2 ++ (lw_privs_3 ++ (lw_privs_4 ++ (lw_privs_5 ++ (lw_privs_6))))), lw_okq q
  exact List.forall_mem_append.mpr ⟨lw_r1, List.forall_mem_append.mpr ⟨lw_r2, List.forall_mem_append.mpr ⟨lw_r3, List.forall_mem_append.mpr ⟨lw_r4, List.forall_mem_append.mpr ⟨lw_r5, lw_r6⟩⟩⟩⟩⟩
-- ===== ONE list of words for every method: the tables' words that hold all through a run =====
def lw_all : List Cond := lw_tbl.filter goodWord
/-- a word of the tables by its place: claim/WORDS.tsv -/
theorem lw_w {w : Cond} (i : Nat) (h : lw_tbl[i]? = some w) (g : goodWord w = true) : w ∈ lw_all := List.mem_filter.mpr ⟨List.mem_of_getElem? h, g⟩
theorem lw_all_tbl {w : Cond} (h : w ∈ lw_all) : w ∈ lw_tbl := (List.mem_filter.mp h).1
theorem lw_self : GoodIn lw_all lw_all := fun w h => ⟨h, good_of_word (List.mem_filter.mp h).2⟩
/-- a class's field words, by their places -/
theorem lw_in (ws : List Cond) (ps : List Nat) (hp : ws = ps.filterMap (fun i => lw_tbl[i]?)) (hg : ws.all goodWord = true) : ∀ w ∈ ws, w ∈ lw_all := by
  intro w h
  have h1 := List.all_eq_true.mp hg w h
  rw [hp] at h
  obtain ⟨i, -, hi⟩ := List.mem_filterMap.mp h
  exact lw_w i hi h1
/-- the words of a contract for the method y with code b, L locals, answer r -/
abbrev ws_ (y : MethodName) (b : ByteArray) (L : Nat) (r : Option FieldType) : List Cond := Cond.code y b L r :: lw_all
theorem lw_meth {y : MethodName} {b : ByteArray} {L : Nat} {r : Option FieldType} (h : Cond.code y b L r ∈ lw_all) : GoodIn lw_all (ws_ y b L r) := by
  intro w hw
  rcases List.mem_cons.mp hw with e | e
  · rw [e]
    exact lw_self _ h
  · exact lw_self _ e
theorem lw_app {a c : List Cond} (ha : ∀ w ∈ a, w ∈ lw_all) (hc : GoodIn lw_all c) : GoodIn lw_all (a ++ c) := by
  intro w hw
  rcases List.mem_append.mp hw with e | e
  · exact lw_self w (ha w e)
  · exact hc w e
/-- what a call through an object asks: cwV n hts (lw_V ..) -/
theorem lw_V {own : String} {idx : Nat} {C : String} {y : MethodName} {b : ByteArray} {L : Nat} {r : Option FieldType} (h1 : Cond.methodLink own idx y ∈ lw_all) (h2 : Cond.instanceMethod y ∈ lw_all) (h3 : Cond.selects C y y ∈ lw_all) (h4 : Cond.initialized C ∈ lw_all) (h5 : Cond.code y b L r ∈ lw_all) : GoodIn lw_all (wsV own idx C y (ws_ y b L r)) := by
  refine lw_app ?_ (lw_meth h5)
  intro w hw
  simp only [List.mem_cons, List.not_mem_nil, or_false] at hw
  rcases hw with e | e | e | e
  · rw [e]; exact h1
  · rw [e]; exact h2
  · rw [e]; exact h3
  · rw [e]; exact h4
/-- what a static call asks: va_cwS n hts (lw_S ..) -/
theorem lw_S {own : String} {idx : Nat} {y : MethodName} {b : ByteArray} {L : Nat} {r : Option FieldType} (h1 : Cond.methodLink own idx y ∈ lw_all) (h2 : Cond.static y ∈ lw_all) (h3 : Cond.initialized y.cls ∈ lw_all) (h4 : Cond.code y b L r ∈ lw_all) : GoodIn lw_all (va_wsS own idx y (ws_ y b L r)) := by
  refine lw_app ?_ (lw_meth h4)
  intro w hw
  simp only [List.mem_cons, List.not_mem_nil, or_false] at hw
  rcases hw with e | e | e
  · rw [e]; exact h1
  · rw [e]; exact h2
  · rw [e]; exact h3
/-- the words of a contract for a method WITH HANDLERS (hh: its table) -/
abbrev wsW_ (y : MethodName) (b : ByteArray) (L : Nat) (r : Option FieldType) (hh : List (Nat × Nat × Nat × Nat)) : List Cond := Cond.codeWith y b L r hh :: lw_all
theorem lw_methW {y : MethodName} {b : ByteArray} {L : Nat} {r : Option FieldType} {hh : List (Nat × Nat × Nat × Nat)} (h : Cond.codeWith y b L r hh ∈ lw_all) : GoodIn lw_all (wsW_ y b L r hh) := by
  intro w hw
  rcases List.mem_cons.mp hw with e | e
  · rw [e]
    exact lw_self _ h
  · exact lw_self _ e
/-- any list of words by their places (lw_in), good -/
theorem lw_good {ws : List Cond} (h : ∀ w ∈ ws, w ∈ lw_all) : GoodIn lw_all ws := fun w hw => lw_self w (h w hw)
/-- what a call of a method with handlers asks: vx_cwVW n hts (lw_VW ..), vx_cwSW n hts (lw_SW ..) -/
theorem lw_VW {own : String} {idx : Nat} {C : String} {y : MethodName} {b : ByteArray} {L : Nat} {r : Option FieldType} {hh : List (Nat × Nat × Nat × Nat)} (h1 : Cond.methodLink own idx y ∈ lw_all) (h2 : Cond.instanceMethod y ∈ lw_all) (h3 : Cond.selects C y y ∈ lw_all) (h4 : Cond.initialized C ∈ lw_all) (h5 : Cond.codeWith y b L r hh ∈ lw_all) : GoodIn lw_all (wsV own idx C y (wsW_ y b L r hh)) := by
  refine lw_app ?_ (lw_methW h5)
  intro w hw
  simp only [List.mem_cons, List.not_mem_nil, or_false] at hw
  rcases hw with e | e | e | e
  · rw [e]; exact h1
  · rw [e]; exact h2
  · rw [e]; exact h3
  · rw [e]; exact h4
theorem lw_SW {own : String} {idx : Nat} {y : MethodName} {b : ByteArray} {L : Nat} {r : Option FieldType} {hh : List (Nat × Nat × Nat × Nat)} (h1 : Cond.methodLink own idx y ∈ lw_all) (h2 : Cond.static y ∈ lw_all) (h3 : Cond.initialized y.cls ∈ lw_all) (h4 : Cond.codeWith y b L r hh ∈ lw_all) : GoodIn lw_all (va_wsS own idx y (wsW_ y b L r hh)) := by
  refine lw_app ?_ (lw_methW h4)
  intro w hw
  simp only [List.mem_cons, List.not_mem_nil, or_false] at hw
  rcases hw with e | e | e
  · rw [e]; exact h1
  · rw [e]; exact h2
  · rw [e]; exact h3
/-- a word by its place in its run of the tables -/
theorem lw_at {r : List Cond} (hr : ∀ w ∈ r, w ∈ lw_tbl) {w : Cond} (i : Nat) (h : r[i]? = some w) : w ∈ lw_tbl := hr w (List.mem_of_getElem? h)
theorem lw_g {w : Cond} (h : w ∈ lw_tbl) (g : goodWord w = true) : w ∈ lw_all := List.mem_filter.mpr ⟨h, g⟩
theorem lw_ms : ∀ w ∈ k2_sels lw_privs, w ∈ lw_tbl := fun w h => show w ∈ k2_sels lw_privs ++ tables_1 from List.mem_append_left _ h
theorem lw_m1 : ∀ w ∈ tables_1_1, w ∈ lw_tbl := fun w h => show w ∈ k2_sels lw_privs ++ tables_1 from List.mem_append_right (k2_sels lw_privs) (show w ∈ tables_1 from List.mem_append_left _ h)
theorem lw_m2 : ∀ w ∈ tables_1_2, w ∈ lw_tbl := fun w h => show w ∈ k2_sels lw_privs ++ tables_1 from List.mem_append_right (k2_sels lw_privs) (show w ∈ tables_1 from List.mem_append_right _ (List.mem_append_left _ h))
theorem lw_m3 : ∀ w ∈ tables_1_3, w ∈ lw_tbl := fun w h => show w ∈ k2_sels lw_privs ++ tables_1 from List.mem_append_right (k2_sels lw_privs) (show w ∈ tables_1 from List.mem_append_right _ (List.mem_append_right _ (List.mem_append_left _ h)))
theorem lw_m4 : ∀ w ∈ tables_1_4, w ∈ lw_tbl := fun w h => show w ∈ k2_sels lw_privs ++ tables_1 from List.mem_append_right (k2_sels lw_privs) (show w ∈ tables_1 from List.mem_append_right _ (List.mem_append_right _ (List.mem_append_right _ (List.mem_append_left _ h))))
theorem lw_m5 : ∀ w ∈ tables_1_5, w ∈ lw_tbl := fun w h => show w ∈ k2_sels lw_privs ++ tables_1 from List.mem_append_right (k2_sels lw_privs) (show w ∈ tables_1 from List.mem_append_right _ (List.mem_append_right _ (List.mem_append_right _ (List.mem_append_right _ (List.mem_append_left _ h)))))
theorem lw_m6 : ∀ w ∈ tables_1_6, w ∈ lw_tbl := fun w h => show w ∈ k2_sels lw_privs ++ tables_1 from List.mem_append_right (k2_sels lw_privs) (show w ∈ tables_1 from List.mem_append_right _ (List.mem_append_right _ (List.mem_append_right _ (List.mem_append_right _ (List.mem_append_right _ (List.mem_append_left _ h))))))
theorem lw_m7 : ∀ w ∈ tables_1_7, w ∈ lw_tbl := fun w h => show w ∈ k2_sels lw_privs ++ tables_1 from List.mem_append_right (k2_sels lw_privs) (show w ∈ tables_1 from List.mem_append_right _ (List.mem_append_right _ (List.mem_append_right _ (List.mem_append_right _ (List.mem_append_right _ (List.mem_append_right _ (List.mem_append_left _ h)))))))
theorem lw_m8 : ∀ w ∈ tables_1_8, w ∈ lw_tbl := fun w h => show w ∈ k2_sels lw_privs ++ tables_1 from List.mem_append_right (k2_sels lw_privs) (show w ∈ tables_1 from List.mem_append_right _ (List.mem_append_right _ (List.mem_append_right _ (List.mem_append_right _ (List.mem_append_right _ (List.mem_append_right _ (List.mem_append_right _ h)))))))
theorem qs0 : (Cond.selects "TreesBeforeMen" ⟨"TreesBeforeMen", "words", "(I)LTreesBeforeMen$Words;"⟩ ⟨"TreesBeforeMen", "words", "(I)LTreesBeforeMen$Words;"⟩) ∈ lw_all := lw_g (lw_at lw_ms 0 rfl) rfl
theorem qs1 : (Cond.selects "java/lang/Throwable" ⟨"java/lang/Throwable", "fillInStackTrace", "(I)Ljava/lang/Throwable;"⟩ ⟨"java/lang/Throwable", "fillInStackTrace", "(I)Ljava/lang/Throwable;"⟩) ∈ lw_all := lw_g (lw_at lw_ms 1 rfl) rfl
theorem qs2 : (Cond.selects "TreesBeforeMen$Rule" ⟨"TreesBeforeMen$Rule", "held", "(I)I"⟩ ⟨"TreesBeforeMen$Rule", "held", "(I)I"⟩) ∈ lw_all := lw_g (lw_at lw_ms 2 rfl) rfl
theorem qs3 : (Cond.selects "TreesBeforeMen$Rule" ⟨"TreesBeforeMen$Rule", "sum", "(I)I"⟩ ⟨"TreesBeforeMen$Rule", "sum", "(I)I"⟩) ∈ lw_all := lw_g (lw_at lw_ms 3 rfl) rfl
theorem qs4 : (Cond.selects "TreesBeforeMen$Rule" ⟨"TreesBeforeMen$Rule", "product", "(I)I"⟩ ⟨"TreesBeforeMen$Rule", "product", "(I)I"⟩) ∈ lw_all := lw_g (lw_at lw_ms 4 rfl) rfl
theorem qs5 : (Cond.selects "TreesBeforeMen$Rule" ⟨"TreesBeforeMen$Rule", "thing", "(I)I"⟩ ⟨"TreesBeforeMen$Rule", "thing", "(I)I"⟩) ∈ lw_all := lw_g (lw_at lw_ms 5 rfl) rfl
theorem qs6 : (Cond.selects "TreesBeforeMen$Rule" ⟨"TreesBeforeMen$Rule", "value", "(I)I"⟩ ⟨"TreesBeforeMen$Rule", "value", "(I)I"⟩) ∈ lw_all := lw_g (lw_at lw_ms 6 rfl) rfl
theorem qs7 : (Cond.selects "TreesBeforeMen" ⟨"TreesBeforeMen", "skyOf", "(I)I"⟩ ⟨"TreesBeforeMen", "skyOf", "(I)I"⟩) ∈ lw_all := lw_g (lw_at lw_ms 7 rfl) rfl
theorem qs8 : (Cond.selects "TreesBeforeMen" ⟨"TreesBeforeMen", "remember", "(LTreesBeforeMen$Voyage;)V"⟩ ⟨"TreesBeforeMen", "remember", "(LTreesBeforeMen$Voyage;)V"⟩) ∈ lw_all := lw_g (lw_at lw_ms 8 rfl) rfl
theorem qs9 : (Cond.selects "TreesBeforeMen" ⟨"TreesBeforeMen", "goDays", "(LTreesBeforeMen$Voyage;I)I"⟩ ⟨"TreesBeforeMen", "goDays", "(LTreesBeforeMen$Voyage;I)I"⟩) ∈ lw_all := lw_g (lw_at lw_ms 9 rfl) rfl
theorem qs10 : (Cond.selects "TreesBeforeMen" ⟨"TreesBeforeMen", "goDay", "(LTreesBeforeMen$Voyage;)Z"⟩ ⟨"TreesBeforeMen", "goDay", "(LTreesBeforeMen$Voyage;)Z"⟩) ∈ lw_all := lw_g (lw_at lw_ms 10 rfl) rfl
theorem qs11 : (Cond.selects "TreesBeforeMen" ⟨"TreesBeforeMen", "deathsOf", "(LTreesBeforeMen$Voyage;I)I"⟩ ⟨"TreesBeforeMen", "deathsOf", "(LTreesBeforeMen$Voyage;I)I"⟩) ∈ lw_all := lw_g (lw_at lw_ms 11 rfl) rfl
theorem qs12 : (Cond.selects "TreesBeforeMen" ⟨"TreesBeforeMen", "tell", "(J)V"⟩ ⟨"TreesBeforeMen", "tell", "(J)V"⟩) ∈ lw_all := lw_g (lw_at lw_ms 12 rfl) rfl
theorem qs13 : (Cond.selects "TreesBeforeMen" ⟨"TreesBeforeMen", "isMutiny", "(LTreesBeforeMen$Voyage;)Z"⟩ ⟨"TreesBeforeMen", "isMutiny", "(LTreesBeforeMen$Voyage;)Z"⟩) ∈ lw_all := lw_g (lw_at lw_ms 13 rfl) rfl
theorem qs14 : (Cond.selects "TreesBeforeMen" ⟨"TreesBeforeMen", "risesOf", "(LTreesBeforeMen$Voyage;II)I"⟩ ⟨"TreesBeforeMen", "risesOf", "(LTreesBeforeMen$Voyage;II)I"⟩) ∈ lw_all := lw_g (lw_at lw_ms 14 rfl) rfl
theorem qs15 : (Cond.selects "TreesBeforeMen" ⟨"TreesBeforeMen", "kindOf", "(I)LTreesBeforeMen$Kind;"⟩ ⟨"TreesBeforeMen", "kindOf", "(I)LTreesBeforeMen$Kind;"⟩) ∈ lw_all := lw_g (lw_at lw_ms 15 rfl) rfl
theorem qs16 : (Cond.selects "TreesBeforeMen" ⟨"TreesBeforeMen", "isMutiny", "(LTreesBeforeMen$Voyage;I)Z"⟩ ⟨"TreesBeforeMen", "isMutiny", "(LTreesBeforeMen$Voyage;I)Z"⟩) ∈ lw_all := lw_g (lw_at lw_ms 16 rfl) rfl
theorem qs17 : (Cond.selects "TreesBeforeMen" ⟨"TreesBeforeMen", "speaks", "(III)I"⟩ ⟨"TreesBeforeMen", "speaks", "(III)I"⟩) ∈ lw_all := lw_g (lw_at lw_ms 17 rfl) rfl
theorem qs18 : (Cond.selects "TreesBeforeMen" ⟨"TreesBeforeMen", "refusesWords", "(II)I"⟩ ⟨"TreesBeforeMen", "refusesWords", "(II)I"⟩) ∈ lw_all := lw_g (lw_at lw_ms 18 rfl) rfl
theorem qs19 : (Cond.selects "TreesBeforeMen" ⟨"TreesBeforeMen", "isMan", "(I)Z"⟩ ⟨"TreesBeforeMen", "isMan", "(I)Z"⟩) ∈ lw_all := lw_g (lw_at lw_ms 19 rfl) rfl
theorem qs20 : (Cond.selects "TreesBeforeMen" ⟨"TreesBeforeMen", "refusesRun", "(I)I"⟩ ⟨"TreesBeforeMen", "refusesRun", "(I)I"⟩) ∈ lw_all := lw_g (lw_at lw_ms 20 rfl) rfl
theorem qs21 : (Cond.selects "TreesBeforeMen" ⟨"TreesBeforeMen", "goRun", "(I)I"⟩ ⟨"TreesBeforeMen", "goRun", "(I)I"⟩) ∈ lw_all := lw_g (lw_at lw_ms 21 rfl) rfl
theorem qs22 : (Cond.selects "TreesBeforeMen$Order" ⟨"TreesBeforeMen$Order", "act", "()V"⟩ ⟨"TreesBeforeMen$Order", "act", "()V"⟩) ∈ lw_all := lw_g (lw_at lw_ms 22 rfl) rfl
theorem qs23 : (Cond.selects "TreesBeforeMen" ⟨"TreesBeforeMen", "act", "(CII)Z"⟩ ⟨"TreesBeforeMen", "act", "(CII)Z"⟩) ∈ lw_all := lw_g (lw_at lw_ms 23 rfl) rfl
theorem qs24 : (Cond.selects "TreesBeforeMen" ⟨"TreesBeforeMen", "fewest", "(Z)I"⟩ ⟨"TreesBeforeMen", "fewest", "(Z)I"⟩) ∈ lw_all := lw_g (lw_at lw_ms 24 rfl) rfl
theorem qs25 : (Cond.selects "TreesBeforeMen" ⟨"TreesBeforeMen", "isLess", "()Z"⟩ ⟨"TreesBeforeMen", "isLess", "()Z"⟩) ∈ lw_all := lw_g (lw_at lw_ms 25 rfl) rfl
theorem qs26 : (Cond.selects "TreesBeforeMen" ⟨"TreesBeforeMen", "goPlan", "(II)V"⟩ ⟨"TreesBeforeMen", "goPlan", "(II)V"⟩) ∈ lw_all := lw_g (lw_at lw_ms 26 rfl) rfl
theorem qs27 : (Cond.selects "TreesBeforeMen" ⟨"TreesBeforeMen", "treesIn10", "()I"⟩ ⟨"TreesBeforeMen", "treesIn10", "()I"⟩) ∈ lw_all := lw_g (lw_at lw_ms 27 rfl) rfl
theorem qs28 : (Cond.selects "TreesBeforeMen" ⟨"TreesBeforeMen", "bestLandings", "(II)I"⟩ ⟨"TreesBeforeMen", "bestLandings", "(II)I"⟩) ∈ lw_all := lw_g (lw_at lw_ms 28 rfl) rfl
theorem qs29 : (Cond.selects "TreesBeforeMen" ⟨"TreesBeforeMen", "aliveBy", "(III)I"⟩ ⟨"TreesBeforeMen", "aliveBy", "(III)I"⟩) ∈ lw_all := lw_g (lw_at lw_ms 29 rfl) rfl
theorem qs30 : (Cond.selects "TreesBeforeMen" ⟨"TreesBeforeMen", "likelyAll", "(I)J"⟩ ⟨"TreesBeforeMen", "likelyAll", "(I)J"⟩) ∈ lw_all := lw_g (lw_at lw_ms 30 rfl) rfl
theorem qs31 : (Cond.selects "TreesBeforeMen" ⟨"TreesBeforeMen", "likelyAt", "(II)J"⟩ ⟨"TreesBeforeMen", "likelyAt", "(II)J"⟩) ∈ lw_all := lw_g (lw_at lw_ms 31 rfl) rfl
theorem qs32 : (Cond.selects "TreesBeforeMen" ⟨"TreesBeforeMen", "tellPart", "(JJ)V"⟩ ⟨"TreesBeforeMen", "tellPart", "(JJ)V"⟩) ∈ lw_all := lw_g (lw_at lw_ms 32 rfl) rfl
theorem qs33 : (Cond.selects "TreesBeforeMen" ⟨"TreesBeforeMen", "fitting", "()I"⟩ ⟨"TreesBeforeMen", "fitting", "()I"⟩) ∈ lw_all := lw_g (lw_at lw_ms 33 rfl) rfl
theorem qs34 : (Cond.selects "TreesBeforeMen" ⟨"TreesBeforeMen", "fitsTo", "(III)Z"⟩ ⟨"TreesBeforeMen", "fitsTo", "(III)Z"⟩) ∈ lw_all := lw_g (lw_at lw_ms 34 rfl) rfl
theorem qs35 : (Cond.selects "TreesBeforeMen" ⟨"TreesBeforeMen", "draw", "(I)I"⟩ ⟨"TreesBeforeMen", "draw", "(I)I"⟩) ∈ lw_all := lw_g (lw_at lw_ms 35 rfl) rfl
theorem qs36 : (Cond.selects "TreesBeforeMenModel" ⟨"TreesBeforeMenModel", "begins", "(I)I"⟩ ⟨"TreesBeforeMenModel", "begins", "(I)I"⟩) ∈ lw_all := lw_g (lw_at lw_ms 36 rfl) rfl
theorem qs37 : (Cond.selects "TreesBeforeMenModel" ⟨"TreesBeforeMenModel", "readsMan", "()Z"⟩ ⟨"TreesBeforeMenModel", "readsMan", "()Z"⟩) ∈ lw_all := lw_g (lw_at lw_ms 37 rfl) rfl
theorem qs38 : (Cond.selects "TreesBeforeMenModel" ⟨"TreesBeforeMenModel", "number", "(I)I"⟩ ⟨"TreesBeforeMenModel", "number", "(I)I"⟩) ∈ lw_all := lw_g (lw_at lw_ms 38 rfl) rfl
theorem qs39 : (Cond.selects "TreesBeforeMenModel" ⟨"TreesBeforeMenModel", "isDigit", "()Z"⟩ ⟨"TreesBeforeMenModel", "isDigit", "()Z"⟩) ∈ lw_all := lw_g (lw_at lw_ms 39 rfl) rfl
theorem qs40 : (Cond.selects "TreesBeforeMenModel" ⟨"TreesBeforeMenModel", "digitIn", "(II)I"⟩ ⟨"TreesBeforeMenModel", "digitIn", "(II)I"⟩) ∈ lw_all := lw_g (lw_at lw_ms 40 rfl) rfl
theorem qs41 : (Cond.selects "TreesBeforeMenModel" ⟨"TreesBeforeMenModel", "takes", "(I)Z"⟩ ⟨"TreesBeforeMenModel", "takes", "(I)Z"⟩) ∈ lw_all := lw_g (lw_at lw_ms 41 rfl) rfl
theorem qs42 : (Cond.selects "TreesBeforeMenModel" ⟨"TreesBeforeMenModel", "faultOf", "(IIZ)I"⟩ ⟨"TreesBeforeMenModel", "faultOf", "(IIZ)I"⟩) ∈ lw_all := lw_g (lw_at lw_ms 42 rfl) rfl
theorem qs43 : (Cond.selects "TreesBeforeMenModel" ⟨"TreesBeforeMenModel", "among", "(Ljava/lang/String;)I"⟩ ⟨"TreesBeforeMenModel", "among", "(Ljava/lang/String;)I"⟩) ∈ lw_all := lw_g (lw_at lw_ms 43 rfl) rfl
theorem qs44 : (Cond.selects "TreesBeforeMenModel" ⟨"TreesBeforeMenModel", "takesOf", "(Ljava/lang/String;)I"⟩ ⟨"TreesBeforeMenModel", "takesOf", "(Ljava/lang/String;)I"⟩) ∈ lw_all := lw_g (lw_at lw_ms 44 rfl) rfl
theorem qs45 : (Cond.selects "TreesBeforeMenModel" ⟨"TreesBeforeMenModel", "readsIsland", "()Z"⟩ ⟨"TreesBeforeMenModel", "readsIsland", "()Z"⟩) ∈ lw_all := lw_g (lw_at lw_ms 45 rfl) rfl
theorem qs46 : (Cond.selects "TreesBeforeMenModel" ⟨"TreesBeforeMenModel", "readsRule", "()I"⟩ ⟨"TreesBeforeMenModel", "readsRule", "()I"⟩) ∈ lw_all := lw_g (lw_at lw_ms 46 rfl) rfl
theorem qs47 : (Cond.selects "TreesBeforeMenModel" ⟨"TreesBeforeMenModel", "readsRank", "(I)Z"⟩ ⟨"TreesBeforeMenModel", "readsRank", "(I)Z"⟩) ∈ lw_all := lw_g (lw_at lw_ms 47 rfl) rfl
theorem qs48 : (Cond.selects "TreesBeforeMenModel" ⟨"TreesBeforeMenModel", "readsThing", "()Z"⟩ ⟨"TreesBeforeMenModel", "readsThing", "()Z"⟩) ∈ lw_all := lw_g (lw_at lw_ms 48 rfl) rfl
theorem qs49 : (Cond.selects "TreesBeforeMenModel" ⟨"TreesBeforeMenModel", "codes", "(I)V"⟩ ⟨"TreesBeforeMenModel", "codes", "(I)V"⟩) ∈ lw_all := lw_g (lw_at lw_ms 49 rfl) rfl
theorem qs50 : (Cond.selects "TreesBeforeMenModel" ⟨"TreesBeforeMenModel", "laysCode", "([II)V"⟩ ⟨"TreesBeforeMenModel", "laysCode", "([II)V"⟩) ∈ lw_all := lw_g (lw_at lw_ms 50 rfl) rfl
theorem qs51 : (Cond.selects "TreesBeforeMenModel" ⟨"TreesBeforeMenModel", "isMan", "(I)Z"⟩ ⟨"TreesBeforeMenModel", "isMan", "(I)Z"⟩) ∈ lw_all := lw_g (lw_at lw_ms 51 rfl) rfl
theorem qs52 : (Cond.selects "TreesBeforeMenModel" ⟨"TreesBeforeMenModel", "refuse", "()I"⟩ ⟨"TreesBeforeMenModel", "refuse", "()I"⟩) ∈ lw_all := lw_g (lw_at lw_ms 52 rfl) rfl
theorem qs53 : (Cond.selects "TreesBeforeMenModel" ⟨"TreesBeforeMenModel", "risen", "([III)I"⟩ ⟨"TreesBeforeMenModel", "risen", "([III)I"⟩) ∈ lw_all := lw_g (lw_at lw_ms 53 rfl) rfl
theorem qs54 : (Cond.selects "TreesBeforeMenModel" ⟨"TreesBeforeMenModel", "those", "([II)I"⟩ ⟨"TreesBeforeMenModel", "those", "([II)I"⟩) ∈ lw_all := lw_g (lw_at lw_ms 54 rfl) rfl
theorem qs55 : (Cond.selects "TreesBeforeMenModel" ⟨"TreesBeforeMenModel", "joins", "([III)Z"⟩ ⟨"TreesBeforeMenModel", "joins", "([III)Z"⟩) ∈ lw_all := lw_g (lw_at lw_ms 55 rfl) rfl
theorem qs56 : (Cond.selects "TreesBeforeMenModel" ⟨"TreesBeforeMenModel", "isIsland", "(I)Z"⟩ ⟨"TreesBeforeMenModel", "isIsland", "(I)Z"⟩) ∈ lw_all := lw_g (lw_at lw_ms 56 rfl) rfl
theorem qs57 : (Cond.selects "TreesBeforeMenModel" ⟨"TreesBeforeMenModel", "searchesOf", "(I)I"⟩ ⟨"TreesBeforeMenModel", "searchesOf", "(I)I"⟩) ∈ lw_all := lw_g (lw_at lw_ms 57 rfl) rfl
theorem qs58 : (Cond.selects "TreesBeforeMenModel" ⟨"TreesBeforeMenModel", "putsBy", "()V"⟩ ⟨"TreesBeforeMenModel", "putsBy", "()V"⟩) ∈ lw_all := lw_g (lw_at lw_ms 58 rfl) rfl
theorem qs59 : (Cond.selects "TreesBeforeMenModel" ⟨"TreesBeforeMenModel", "sets", "(II)I"⟩ ⟨"TreesBeforeMenModel", "sets", "(II)I"⟩) ∈ lw_all := lw_g (lw_at lw_ms 59 rfl) rfl
theorem qs60 : (Cond.selects "TreesBeforeMenModel" ⟨"TreesBeforeMenModel", "counts", "(I)I"⟩ ⟨"TreesBeforeMenModel", "counts", "(I)I"⟩) ∈ lw_all := lw_g (lw_at lw_ms 60 rfl) rfl
theorem qs61 : (Cond.selects "TreesBeforeMenModel" ⟨"TreesBeforeMenModel", "adds", "(I)I"⟩ ⟨"TreesBeforeMenModel", "adds", "(I)I"⟩) ∈ lw_all := lw_g (lw_at lw_ms 61 rfl) rfl
theorem qs62 : (Cond.selects "TreesBeforeMenModel" ⟨"TreesBeforeMenModel", "goesOn", "([II)I"⟩ ⟨"TreesBeforeMenModel", "goesOn", "([II)I"⟩) ∈ lw_all := lw_g (lw_at lw_ms 62 rfl) rfl
theorem qs63 : (Cond.selects "TreesBeforeMenModel" ⟨"TreesBeforeMenModel", "dayGoes", "([I)Z"⟩ ⟨"TreesBeforeMenModel", "dayGoes", "([I)Z"⟩) ∈ lw_all := lw_g (lw_at lw_ms 63 rfl) rfl
theorem qs64 : (Cond.selects "TreesBeforeMenModel" ⟨"TreesBeforeMenModel", "canGive", "([I)Z"⟩ ⟨"TreesBeforeMenModel", "canGive", "([I)Z"⟩) ∈ lw_all := lw_g (lw_at lw_ms 64 rfl) rfl
theorem qs65 : (Cond.selects "TreesBeforeMenModel" ⟨"TreesBeforeMenModel", "ruled", "()I"⟩ ⟨"TreesBeforeMenModel", "ruled", "()I"⟩) ∈ lw_all := lw_g (lw_at lw_ms 65 rfl) rfl
theorem qs66 : (Cond.selects "TreesBeforeMenModel" ⟨"TreesBeforeMenModel", "enters", "(J)V"⟩ ⟨"TreesBeforeMenModel", "enters", "(J)V"⟩) ∈ lw_all := lw_g (lw_at lw_ms 66 rfl) rfl
theorem qs67 : (Cond.selects "TreesBeforeMenModel" ⟨"TreesBeforeMenModel", "isMutiny", "([I)Z"⟩ ⟨"TreesBeforeMenModel", "isMutiny", "([I)Z"⟩) ∈ lw_all := lw_g (lw_at lw_ms 67 rfl) rfl
theorem qs68 : (Cond.selects "TreesBeforeMenModel" ⟨"TreesBeforeMenModel", "isMutiny", "([II)Z"⟩ ⟨"TreesBeforeMenModel", "isMutiny", "([II)Z"⟩) ∈ lw_all := lw_g (lw_at lw_ms 68 rfl) rfl
theorem qs69 : (Cond.selects "TreesBeforeMenModel" ⟨"TreesBeforeMenModel", "fills", "([II)I"⟩ ⟨"TreesBeforeMenModel", "fills", "([II)I"⟩) ∈ lw_all := lw_g (lw_at lw_ms 69 rfl) rfl
theorem qs70 : (Cond.selects "TreesBeforeMenModel" ⟨"TreesBeforeMenModel", "plants", "(I)I"⟩ ⟨"TreesBeforeMenModel", "plants", "(I)I"⟩) ∈ lw_all := lw_g (lw_at lw_ms 70 rfl) rfl
theorem qs71 : (Cond.selects "TreesBeforeMenModel" ⟨"TreesBeforeMenModel", "grudges", "([III)I"⟩ ⟨"TreesBeforeMenModel", "grudges", "([III)I"⟩) ∈ lw_all := lw_g (lw_at lw_ms 71 rfl) rfl
theorem qs72 : (Cond.selects "TreesBeforeMenModel" ⟨"TreesBeforeMenModel", "runsOff", "(I)I"⟩ ⟨"TreesBeforeMenModel", "runsOff", "(I)I"⟩) ∈ lw_all := lw_g (lw_at lw_ms 72 rfl) rfl
theorem qs73 : (Cond.selects "TreesBeforeMenModel" ⟨"TreesBeforeMenModel", "puts", "([I)I"⟩ ⟨"TreesBeforeMenModel", "puts", "([I)I"⟩) ∈ lw_all := lw_g (lw_at lw_ms 73 rfl) rfl
theorem qs74 : (Cond.selects "TreesBeforeMenModel" ⟨"TreesBeforeMenModel", "readsAct", "()Z"⟩ ⟨"TreesBeforeMenModel", "readsAct", "()Z"⟩) ∈ lw_all := lw_g (lw_at lw_ms 74 rfl) rfl
theorem qs75 : (Cond.selects "TreesBeforeMenModel" ⟨"TreesBeforeMenModel", "does", "(I)Z"⟩ ⟨"TreesBeforeMenModel", "does", "(I)Z"⟩) ∈ lw_all := lw_g (lw_at lw_ms 75 rfl) rfl
theorem qs76 : (Cond.selects "TreesBeforeMenModel" ⟨"TreesBeforeMenModel", "tellsRisen", "(I)V"⟩ ⟨"TreesBeforeMenModel", "tellsRisen", "(I)V"⟩) ∈ lw_all := lw_g (lw_at lw_ms 76 rfl) rfl
theorem qs77 : (Cond.selects "TreesBeforeMenModel" ⟨"TreesBeforeMenModel", "copies", "()V"⟩ ⟨"TreesBeforeMenModel", "copies", "()V"⟩) ∈ lw_all := lw_g (lw_at lw_ms 77 rfl) rfl
theorem qs78 : (Cond.selects "TreesBeforeMenModel" ⟨"TreesBeforeMenModel", "tellsCheapest", "(Z)I"⟩ ⟨"TreesBeforeMenModel", "tellsCheapest", "(Z)I"⟩) ∈ lw_all := lw_g (lw_at lw_ms 78 rfl) rfl
theorem qs79 : (Cond.selects "TreesBeforeMenModel" ⟨"TreesBeforeMenModel", "cheapest", "(Z)I"⟩ ⟨"TreesBeforeMenModel", "cheapest", "(Z)I"⟩) ∈ lw_all := lw_g (lw_at lw_ms 79 rfl) rfl
theorem qs80 : (Cond.selects "TreesBeforeMenModel" ⟨"TreesBeforeMenModel", "plans", "(II)V"⟩ ⟨"TreesBeforeMenModel", "plans", "(II)V"⟩) ∈ lw_all := lw_g (lw_at lw_ms 80 rfl) rfl
theorem qs81 : (Cond.selects "TreesBeforeMenModel" ⟨"TreesBeforeMenModel", "treesIn", "(I)I"⟩ ⟨"TreesBeforeMenModel", "treesIn", "(I)I"⟩) ∈ lw_all := lw_g (lw_at lw_ms 81 rfl) rfl
theorem qs82 : (Cond.selects "TreesBeforeMenModel" ⟨"TreesBeforeMenModel", "bestLanding", "(II)I"⟩ ⟨"TreesBeforeMenModel", "bestLanding", "(II)I"⟩) ∈ lw_all := lw_g (lw_at lw_ms 82 rfl) rfl
theorem qs83 : (Cond.selects "TreesBeforeMenModel" ⟨"TreesBeforeMenModel", "alive", "(III)I"⟩ ⟨"TreesBeforeMenModel", "alive", "(III)I"⟩) ∈ lw_all := lw_g (lw_at lw_ms 83 rfl) rfl
theorem qs84 : (Cond.selects "TreesBeforeMenModel" ⟨"TreesBeforeMenModel", "allWeights", "(I)J"⟩ ⟨"TreesBeforeMenModel", "allWeights", "(I)J"⟩) ∈ lw_all := lw_g (lw_at lw_ms 84 rfl) rfl
theorem qs85 : (Cond.selects "TreesBeforeMenModel" ⟨"TreesBeforeMenModel", "weightOf", "(II)J"⟩ ⟨"TreesBeforeMenModel", "weightOf", "(II)J"⟩) ∈ lw_all := lw_g (lw_at lw_ms 85 rfl) rfl
theorem qs86 : (Cond.selects "TreesBeforeMenModel" ⟨"TreesBeforeMenModel", "tellsFraction", "(JJ)V"⟩ ⟨"TreesBeforeMenModel", "tellsFraction", "(JJ)V"⟩) ∈ lw_all := lw_g (lw_at lw_ms 86 rfl) rfl
theorem qs87 : (Cond.selects "TreesBeforeMenModel" ⟨"TreesBeforeMenModel", "fitting", "()I"⟩ ⟨"TreesBeforeMenModel", "fitting", "()I"⟩) ∈ lw_all := lw_g (lw_at lw_ms 87 rfl) rfl
theorem qs88 : (Cond.selects "TreesBeforeMenModel" ⟨"TreesBeforeMenModel", "isSo", "(III)Z"⟩ ⟨"TreesBeforeMenModel", "isSo", "(III)Z"⟩) ∈ lw_all := lw_g (lw_at lw_ms 88 rfl) rfl
theorem qs89 : (Cond.selects "TreesBeforeMenModel" ⟨"TreesBeforeMenModel", "draws", "(I)I"⟩ ⟨"TreesBeforeMenModel", "draws", "(I)I"⟩) ∈ lw_all := lw_g (lw_at lw_ms 89 rfl) rfl
-- ===== end of PART A; then your names; then what follows =====
