-- ===== PART A: goes FIRST, ahead of the names: the tables' words, and 'selects' of the private methods out of them =====
/-- a private method of a class that the tables say can be made, by its rows of tables_1 -/
def lw_okq (q : MethodName × Nat) : Prop := (q.1.cls ≠ "java/lang/invoke/MethodHandle" ∧ q.1.cls ≠ "java/lang/invoke/VarHandle") ∧ Cond.instantiable q.1.cls q.2 ∈ tables_1 ∧ Cond.privateMethod q.1 ∈ tables_1 ∧ Cond.instanceMethod q.1 ∈ tables_1
set_option maxRecDepth 100000
theorem lw_t1 {w : Cond} (h : w ∈ tables_1_1) : w ∈ tables_1 := List.mem_append_left _ h
theorem lw_t2 {w : Cond} (h : w ∈ tables_1_2) : w ∈ tables_1 := List.mem_append_right _ (List.mem_append_left _ h)
theorem lw_t3 {w : Cond} (h : w ∈ tables_1_3) : w ∈ tables_1 := List.mem_append_right _ (List.mem_append_right _ (List.mem_append_left _ h))
theorem lw_t4 {w : Cond} (h : w ∈ tables_1_4) : w ∈ tables_1 := List.mem_append_right _ (List.mem_append_right _ (List.mem_append_right _ (List.mem_append_left _ h)))
theorem lw_t5 {w : Cond} (h : w ∈ tables_1_5) : w ∈ tables_1 := List.mem_append_right _ (List.mem_append_right _ (List.mem_append_right _ (List.mem_append_right _ (List.mem_append_left _ h))))
theorem lw_t6 {w : Cond} (h : w ∈ tables_1_6) : w ∈ tables_1 := List.mem_append_right _ (List.mem_append_right _ (List.mem_append_right _ (List.mem_append_right _ (List.mem_append_right _ (List.mem_append_left _ h)))))
theorem lw_t7 {w : Cond} (h : w ∈ tables_1_7) : w ∈ tables_1 := List.mem_append_right _ (List.mem_append_right _ (List.mem_append_right _ (List.mem_append_right _ (List.mem_append_right _ (List.mem_append_right _ (List.mem_append_left _ h))))))
theorem lw_t8 {w : Cond} (h : w ∈ tables_1_8) : w ∈ tables_1 := List.mem_append_right _ (List.mem_append_right _ (List.mem_append_right _ (List.mem_append_right _ (List.mem_append_right _ (List.mem_append_right _ (List.mem_append_right _ h))))))
theorem lw_p0 : lw_okq (⟨"MarketDays$Reader", "next", "()V"⟩, 8) := ⟨⟨by decide +kernel, by decide +kernel⟩, lw_t1 (List.mem_of_getElem? (i := 149) rfl), lw_t1 (List.mem_of_getElem? (i := 188) rfl), lw_t1 (List.mem_of_getElem? (i := 189) rfl)⟩
theorem lw_p1 : lw_okq (⟨"MarketDays$Reader", "here", "()I"⟩, 8) := ⟨⟨by decide +kernel, by decide +kernel⟩, lw_t1 (List.mem_of_getElem? (i := 149) rfl), lw_t1 (List.mem_of_getElem? (i := 192) rfl), lw_t1 (List.mem_of_getElem? (i := 193) rfl)⟩
theorem lw_p2 : lw_okq (⟨"MarketDays$Reader", "fault", "()LMarketDays$Fault;"⟩, 8) := ⟨⟨by decide +kernel, by decide +kernel⟩, lw_t1 (List.mem_of_getElem? (i := 149) rfl), lw_t2 (List.mem_of_getElem? (i := 125) rfl), lw_t2 (List.mem_of_getElem? (i := 126) rfl)⟩
theorem lw_p3 : lw_okq (⟨"java/lang/Throwable", "fillInStackTrace", "(I)Ljava/lang/Throwable;"⟩, 6) := ⟨⟨by decide +kernel, by decide +kernel⟩, lw_t2 (List.mem_of_getElem? (i := 166) rfl), lw_t2 (List.mem_of_getElem? (i := 164) rfl), lw_t2 (List.mem_of_getElem? (i := 165) rfl)⟩
theorem lw_p4 : lw_okq (⟨"MarketDays$Reader", "is", "(Ljava/lang/String;)Z"⟩, 8) := ⟨⟨by decide +kernel, by decide +kernel⟩, lw_t1 (List.mem_of_getElem? (i := 149) rfl), lw_t3 (List.mem_of_getElem? (i := 14) rfl), lw_t3 (List.mem_of_getElem? (i := 15) rfl)⟩
theorem lw_p5 : lw_okq (⟨"MarketDays$Reader", "either", "()LMarketDays$Node;"⟩, 8) := ⟨⟨by decide +kernel, by decide +kernel⟩, lw_t1 (List.mem_of_getElem? (i := 149) rfl), lw_t3 (List.mem_of_getElem? (i := 26) rfl), lw_t3 (List.mem_of_getElem? (i := 27) rfl)⟩
theorem lw_p6 : lw_okq (⟨"MarketDays$Reader", "both", "()LMarketDays$Node;"⟩, 8) := ⟨⟨by decide +kernel, by decide +kernel⟩, lw_t1 (List.mem_of_getElem? (i := 149) rfl), lw_t3 (List.mem_of_getElem? (i := 30) rfl), lw_t3 (List.mem_of_getElem? (i := 31) rfl)⟩
theorem lw_p7 : lw_okq (⟨"MarketDays$Reader", "not", "()LMarketDays$Node;"⟩, 8) := ⟨⟨by decide +kernel, by decide +kernel⟩, lw_t1 (List.mem_of_getElem? (i := 149) rfl), lw_t3 (List.mem_of_getElem? (i := 34) rfl), lw_t3 (List.mem_of_getElem? (i := 35) rfl)⟩
theorem lw_p8 : lw_okq (⟨"MarketDays$Reader", "opens", "()V"⟩, 8) := ⟨⟨by decide +kernel, by decide +kernel⟩, lw_t1 (List.mem_of_getElem? (i := 149) rfl), lw_t3 (List.mem_of_getElem? (i := 39) rfl), lw_t3 (List.mem_of_getElem? (i := 40) rfl)⟩
theorem lw_p9 : lw_okq (⟨"MarketDays$Reader", "sum", "()LMarketDays$Node;"⟩, 8) := ⟨⟨by decide +kernel, by decide +kernel⟩, lw_t1 (List.mem_of_getElem? (i := 149) rfl), lw_t3 (List.mem_of_getElem? (i := 56) rfl), lw_t3 (List.mem_of_getElem? (i := 57) rfl)⟩
theorem lw_p10 : lw_okq (⟨"MarketDays$Reader", "term", "()LMarketDays$Node;"⟩, 8) := ⟨⟨by decide +kernel, by decide +kernel⟩, lw_t1 (List.mem_of_getElem? (i := 149) rfl), lw_t3 (List.mem_of_getElem? (i := 60) rfl), lw_t3 (List.mem_of_getElem? (i := 61) rfl)⟩
theorem lw_p11 : lw_okq (⟨"MarketDays$Reader", "one", "()LMarketDays$Node;"⟩, 8) := ⟨⟨by decide +kernel, by decide +kernel⟩, lw_t1 (List.mem_of_getElem? (i := 149) rfl), lw_t3 (List.mem_of_getElem? (i := 64) rfl), lw_t3 (List.mem_of_getElem? (i := 65) rfl)⟩
theorem lw_p12 : lw_okq (⟨"MarketDays$Reader", "takes", "(I)Z"⟩, 8) := ⟨⟨by decide +kernel, by decide +kernel⟩, lw_t1 (List.mem_of_getElem? (i := 149) rfl), lw_t3 (List.mem_of_getElem? (i := 83) rfl), lw_t3 (List.mem_of_getElem? (i := 84) rfl)⟩
theorem lw_p13 : lw_okq (⟨"MarketDays", "ways", "()V"⟩, 43) := ⟨⟨by decide +kernel, by decide +kernel⟩, lw_t1 (List.mem_of_getElem? (i := 39) rfl), lw_t4 (List.mem_of_getElem? (i := 1) rfl), lw_t4 (List.mem_of_getElem? (i := 2) rfl)⟩
theorem lw_p14 : lw_okq (⟨"MarketDays", "isTown", "(I)Z"⟩, 43) := ⟨⟨by decide +kernel, by decide +kernel⟩, lw_t1 (List.mem_of_getElem? (i := 39) rfl), lw_t4 (List.mem_of_getElem? (i := 10) rfl), lw_t4 (List.mem_of_getElem? (i := 11) rfl)⟩
theorem lw_p15 : lw_okq (⟨"MarketDays", "isWeek", "(I)Z"⟩, 43) := ⟨⟨by decide +kernel, by decide +kernel⟩, lw_t1 (List.mem_of_getElem? (i := 39) rfl), lw_t4 (List.mem_of_getElem? (i := 40) rfl), lw_t4 (List.mem_of_getElem? (i := 41) rfl)⟩
def lw_privs_1 : List (MethodName × Nat) := [(⟨"MarketDays$Reader", "next", "()V"⟩, 8), (⟨"MarketDays$Reader", "here", "()I"⟩, 8), (⟨"MarketDays$Reader", "fault", "()LMarketDays$Fault;"⟩, 8), (⟨"java/lang/Throwable", "fillInStackTrace", "(I)Ljava/lang/Throwable;"⟩, 6), (⟨"MarketDays$Reader", "is", "(Ljava/lang/String;)Z"⟩, 8), (⟨"MarketDays$Reader", "either", "()LMarketDays$Node;"⟩, 8), (⟨"MarketDays$Reader", "both", "()LMarketDays$Node;"⟩, 8), (⟨"MarketDays$Reader", "not", "()LMarketDays$Node;"⟩, 8), (⟨"MarketDays$Reader", "opens", "()V"⟩, 8), (⟨"MarketDays$Reader", "sum", "()LMarketDays$Node;"⟩, 8), (⟨"MarketDays$Reader", "term", "()LMarketDays$Node;"⟩, 8), (⟨"MarketDays$Reader", "one", "()LMarketDays$Node;"⟩, 8), (⟨"MarketDays$Reader", "takes", "(I)Z"⟩, 8), (⟨"MarketDays", "ways", "()V"⟩, 43), (⟨"MarketDays", "isTown", "(I)Z"⟩, 43), (⟨"MarketDays", "isWeek", "(I)Z"⟩, 43)]
theorem lw_r1 : ∀ q ∈ lw_privs_1, lw_okq q := List.forall_mem_cons.mpr ⟨lw_p0, List.forall_mem_cons.mpr ⟨lw_p1, List.forall_mem_cons.mpr ⟨lw_p2, List.forall_mem_cons.mpr ⟨lw_p3, List.forall_mem_cons.mpr ⟨lw_p4, List.forall_mem_cons.mpr ⟨lw_p5, List.forall_mem_cons.mpr ⟨lw_p6, List.forall_mem_cons.mpr ⟨lw_p7, List.forall_mem_cons.mpr ⟨lw_p8, List.forall_mem_cons.mpr ⟨lw_p9, List.forall_mem_cons.mpr ⟨lw_p10, List.forall_mem_cons.mpr ⟨lw_p11, List.forall_mem_cons.mpr ⟨lw_p12, List.forall_mem_cons.mpr ⟨lw_p13, List.forall_mem_cons.mpr ⟨lw_p14, List.forall_mem_cons.mpr ⟨lw_p15, fun _ h => absurd h List.not_mem_nil⟩⟩⟩⟩⟩⟩⟩⟩⟩⟩⟩⟩⟩⟩⟩⟩
theorem lw_p16 : lw_okq (⟨"MarketDays", "near", "(II)I"⟩, 43) := ⟨⟨by decide +kernel, by decide +kernel⟩, lw_t1 (List.mem_of_getElem? (i := 39) rfl), lw_t4 (List.mem_of_getElem? (i := 48) rfl), lw_t4 (List.mem_of_getElem? (i := 49) rfl)⟩
theorem lw_p17 : lw_okq (⟨"MarketDays", "isDay", "(I)Z"⟩, 43) := ⟨⟨by decide +kernel, by decide +kernel⟩, lw_t1 (List.mem_of_getElem? (i := 39) rfl), lw_t4 (List.mem_of_getElem? (i := 83) rfl), lw_t4 (List.mem_of_getElem? (i := 84) rfl)⟩
theorem lw_p18 : lw_okq (⟨"MarketDays", "saysWorth", "(IIII)I"⟩, 43) := ⟨⟨by decide +kernel, by decide +kernel⟩, lw_t1 (List.mem_of_getElem? (i := 39) rfl), lw_t4 (List.mem_of_getElem? (i := 87) rfl), lw_t4 (List.mem_of_getElem? (i := 88) rfl)⟩
theorem lw_p19 : lw_okq (⟨"java/util/ArrayList", "add", "(Ljava/lang/Object;[Ljava/lang/Object;I)V"⟩, 3) := ⟨⟨by decide +kernel, by decide +kernel⟩, lw_t1 (List.mem_of_getElem? (i := 47) rfl), lw_t4 (List.mem_of_getElem? (i := 197) rfl), lw_t4 (List.mem_of_getElem? (i := 198) rfl)⟩
theorem lw_p20 : lw_okq (⟨"java/util/ArrayList", "grow", "()[Ljava/lang/Object;"⟩, 3) := ⟨⟨by decide +kernel, by decide +kernel⟩, lw_t1 (List.mem_of_getElem? (i := 47) rfl), lw_t4 (List.mem_of_getElem? (i := 201) rfl), lw_t4 (List.mem_of_getElem? (i := 202) rfl)⟩
theorem lw_p21 : lw_okq (⟨"java/util/ArrayList", "grow", "(I)[Ljava/lang/Object;"⟩, 3) := ⟨⟨by decide +kernel, by decide +kernel⟩, lw_t1 (List.mem_of_getElem? (i := 47) rfl), lw_t4 (List.mem_of_getElem? (i := 205) rfl), lw_t4 (List.mem_of_getElem? (i := 206) rfl)⟩
theorem lw_p22 : lw_okq (⟨"MarketDays", "isGiving", "(I)Z"⟩, 43) := ⟨⟨by decide +kernel, by decide +kernel⟩, lw_t1 (List.mem_of_getElem? (i := 39) rfl), lw_t5 (List.mem_of_getElem? (i := 9) rfl), lw_t5 (List.mem_of_getElem? (i := 10) rfl)⟩
theorem lw_p23 : lw_okq (⟨"MarketDays", "market", "(LMarketDays$Giving;II)I"⟩, 43) := ⟨⟨by decide +kernel, by decide +kernel⟩, lw_t1 (List.mem_of_getElem? (i := 39) rfl), lw_t5 (List.mem_of_getElem? (i := 25) rfl), lw_t5 (List.mem_of_getElem? (i := 26) rfl)⟩
theorem lw_p24 : lw_okq (⟨"MarketDays", "looks", "(LMarketDays$Giving;I)V"⟩, 43) := ⟨⟨by decide +kernel, by decide +kernel⟩, lw_t1 (List.mem_of_getElem? (i := 39) rfl), lw_t5 (List.mem_of_getElem? (i := 64) rfl), lw_t5 (List.mem_of_getElem? (i := 65) rfl)⟩
theorem lw_p25 : lw_okq (⟨"MarketDays", "firstBar", "()I"⟩, 43) := ⟨⟨by decide +kernel, by decide +kernel⟩, lw_t1 (List.mem_of_getElem? (i := 39) rfl), lw_t5 (List.mem_of_getElem? (i := 68) rfl), lw_t5 (List.mem_of_getElem? (i := 69) rfl)⟩
theorem lw_p26 : lw_okq (⟨"MarketDays", "bars", "(II)Z"⟩, 43) := ⟨⟨by decide +kernel, by decide +kernel⟩, lw_t1 (List.mem_of_getElem? (i := 39) rfl), lw_t5 (List.mem_of_getElem? (i := 72) rfl), lw_t5 (List.mem_of_getElem? (i := 73) rfl)⟩
theorem lw_p27 : lw_okq (⟨"MarketDays", "nextDay", "(I)I"⟩, 43) := ⟨⟨by decide +kernel, by decide +kernel⟩, lw_t1 (List.mem_of_getElem? (i := 39) rfl), lw_t5 (List.mem_of_getElem? (i := 76) rfl), lw_t5 (List.mem_of_getElem? (i := 77) rfl)⟩
theorem lw_p28 : lw_okq (⟨"MarketDays", "worthAt", "(LMarketDays$Giving;I)I"⟩, 43) := ⟨⟨by decide +kernel, by decide +kernel⟩, lw_t1 (List.mem_of_getElem? (i := 39) rfl), lw_t5 (List.mem_of_getElem? (i := 88) rfl), lw_t5 (List.mem_of_getElem? (i := 89) rfl)⟩
theorem lw_p29 : lw_okq (⟨"MarketDays", "hoursAhead", "(II)I"⟩, 43) := ⟨⟨by decide +kernel, by decide +kernel⟩, lw_t1 (List.mem_of_getElem? (i := 39) rfl), lw_t5 (List.mem_of_getElem? (i := 92) rfl), lw_t5 (List.mem_of_getElem? (i := 93) rfl)⟩
theorem lw_p30 : lw_okq (⟨"MarketDays", "others", "(II)I"⟩, 43) := ⟨⟨by decide +kernel, by decide +kernel⟩, lw_t1 (List.mem_of_getElem? (i := 39) rfl), lw_t5 (List.mem_of_getElem? (i := 96) rfl), lw_t5 (List.mem_of_getElem? (i := 97) rfl)⟩
theorem lw_p31 : lw_okq (⟨"MarketDays", "all", "()I"⟩, 43) := ⟨⟨by decide +kernel, by decide +kernel⟩, lw_t1 (List.mem_of_getElem? (i := 39) rfl), lw_t5 (List.mem_of_getElem? (i := 126) rfl), lw_t5 (List.mem_of_getElem? (i := 127) rfl)⟩
def lw_privs_2 : List (MethodName × Nat) := [(⟨"MarketDays", "near", "(II)I"⟩, 43), (⟨"MarketDays", "isDay", "(I)Z"⟩, 43), (⟨"MarketDays", "saysWorth", "(IIII)I"⟩, 43), (⟨"java/util/ArrayList", "add", "(Ljava/lang/Object;[Ljava/lang/Object;I)V"⟩, 3), (⟨"java/util/ArrayList", "grow", "()[Ljava/lang/Object;"⟩, 3), (⟨"java/util/ArrayList", "grow", "(I)[Ljava/lang/Object;"⟩, 3), (⟨"MarketDays", "isGiving", "(I)Z"⟩, 43), (⟨"MarketDays", "market", "(LMarketDays$Giving;II)I"⟩, 43), (⟨"MarketDays", "looks", "(LMarketDays$Giving;I)V"⟩, 43), (⟨"MarketDays", "firstBar", "()I"⟩, 43), (⟨"MarketDays", "bars", "(II)Z"⟩, 43), (⟨"MarketDays", "nextDay", "(I)I"⟩, 43), (⟨"MarketDays", "worthAt", "(LMarketDays$Giving;I)I"⟩, 43), (⟨"MarketDays", "hoursAhead", "(II)I"⟩, 43), (⟨"MarketDays", "others", "(II)I"⟩, 43), (⟨"MarketDays", "all", "()I"⟩, 43)]
theorem lw_r2 : ∀ q ∈ lw_privs_2, lw_okq q := List.forall_mem_cons.mpr ⟨lw_p16, List.forall_mem_cons.mpr ⟨lw_p17, List.forall_mem_cons.mpr ⟨lw_p18, List.forall_mem_cons.mpr ⟨lw_p19, List.forall_mem_cons.mpr ⟨lw_p20, List.forall_mem_cons.mpr ⟨lw_p21, List.forall_mem_cons.mpr ⟨lw_p22, List.forall_mem_cons.mpr ⟨lw_p23, List.forall_mem_cons.mpr ⟨lw_p24, List.forall_mem_cons.mpr ⟨lw_p25, List.forall_mem_cons.mpr ⟨lw_p26, List.forall_mem_cons.mpr ⟨lw_p27, List.forall_mem_cons.mpr ⟨lw_p28, List.forall_mem_cons.mpr ⟨lw_p29, List.forall_mem_cons.mpr ⟨lw_p30, List.forall_mem_cons.mpr ⟨lw_p31, fun _ h => absurd h List.not_mem_nil⟩⟩⟩⟩⟩⟩⟩⟩⟩⟩⟩⟩⟩⟩⟩⟩
theorem lw_p32 : lw_okq (⟨"MarketDays", "search", "(II)V"⟩, 43) := ⟨⟨by decide +kernel, by decide +kernel⟩, lw_t1 (List.mem_of_getElem? (i := 39) rfl), lw_t5 (List.mem_of_getElem? (i := 130) rfl), lw_t5 (List.mem_of_getElem? (i := 131) rfl)⟩
theorem lw_p33 : lw_okq (⟨"MarketDays", "walks", "(I)Z"⟩, 43) := ⟨⟨by decide +kernel, by decide +kernel⟩, lw_t1 (List.mem_of_getElem? (i := 39) rfl), lw_t5 (List.mem_of_getElem? (i := 140) rfl), lw_t5 (List.mem_of_getElem? (i := 141) rfl)⟩
theorem lw_p34 : lw_okq (⟨"MarketDays", "meets", "()Z"⟩, 43) := ⟨⟨by decide +kernel, by decide +kernel⟩, lw_t1 (List.mem_of_getElem? (i := 39) rfl), lw_t5 (List.mem_of_getElem? (i := 144) rfl), lw_t5 (List.mem_of_getElem? (i := 145) rfl)⟩
theorem lw_p35 : lw_okq (⟨"MarketDays", "wholeWorth", "()J"⟩, 43) := ⟨⟨by decide +kernel, by decide +kernel⟩, lw_t1 (List.mem_of_getElem? (i := 39) rfl), lw_t5 (List.mem_of_getElem? (i := 149) rfl), lw_t5 (List.mem_of_getElem? (i := 150) rfl)⟩
theorem lw_p36 : lw_okq (⟨"MarketDays", "moved", "()I"⟩, 43) := ⟨⟨by decide +kernel, by decide +kernel⟩, lw_t1 (List.mem_of_getElem? (i := 39) rfl), lw_t5 (List.mem_of_getElem? (i := 153) rfl), lw_t5 (List.mem_of_getElem? (i := 154) rfl)⟩
theorem lw_p37 : lw_okq (⟨"MarketDays", "barsAhead", "(I)Z"⟩, 43) := ⟨⟨by decide +kernel, by decide +kernel⟩, lw_t1 (List.mem_of_getElem? (i := 39) rfl), lw_t5 (List.mem_of_getElem? (i := 158) rfl), lw_t5 (List.mem_of_getElem? (i := 159) rfl)⟩
theorem lw_p38 : lw_okq (⟨"MarketDays", "lays", "()V"⟩, 43) := ⟨⟨by decide +kernel, by decide +kernel⟩, lw_t1 (List.mem_of_getElem? (i := 39) rfl), lw_t5 (List.mem_of_getElem? (i := 166) rfl), lw_t5 (List.mem_of_getElem? (i := 167) rfl)⟩
theorem lw_p39 : lw_okq (⟨"MarketDays", "isRound", "(IIIII)Z"⟩, 43) := ⟨⟨by decide +kernel, by decide +kernel⟩, lw_t1 (List.mem_of_getElem? (i := 39) rfl), lw_t5 (List.mem_of_getElem? (i := 201) rfl), lw_t5 (List.mem_of_getElem? (i := 202) rfl)⟩
theorem lw_p40 : lw_okq (⟨"MarketDays", "rounds", "(III)V"⟩, 43) := ⟨⟨by decide +kernel, by decide +kernel⟩, lw_t1 (List.mem_of_getElem? (i := 39) rfl), lw_t5 (List.mem_of_getElem? (i := 206) rfl), lw_t5 (List.mem_of_getElem? (i := 207) rfl)⟩
theorem lw_p41 : lw_okq (⟨"MarketDays", "best", "(IIII)I"⟩, 43) := ⟨⟨by decide +kernel, by decide +kernel⟩, lw_t1 (List.mem_of_getElem? (i := 39) rfl), lw_t5 (List.mem_of_getElem? (i := 210) rfl), lw_t5 (List.mem_of_getElem? (i := 211) rfl)⟩
theorem lw_p42 : lw_okq (⟨"MarketDays", "sells", "(III)I"⟩, 43) := ⟨⟨by decide +kernel, by decide +kernel⟩, lw_t1 (List.mem_of_getElem? (i := 39) rfl), lw_t5 (List.mem_of_getElem? (i := 214) rfl), lw_t5 (List.mem_of_getElem? (i := 215) rfl)⟩
theorem lw_p43 : lw_okq (⟨"MarketDays", "most", "(III)I"⟩, 43) := ⟨⟨by decide +kernel, by decide +kernel⟩, lw_t1 (List.mem_of_getElem? (i := 39) rfl), lw_t5 (List.mem_of_getElem? (i := 218) rfl), lw_t5 (List.mem_of_getElem? (i := 219) rfl)⟩
theorem lw_p44 : lw_okq (⟨"MarketDays", "there", "(I)LMarketDays$Sheet;"⟩, 43) := ⟨⟨by decide +kernel, by decide +kernel⟩, lw_t1 (List.mem_of_getElem? (i := 39) rfl), lw_t6 (List.mem_of_getElem? (i := 51) rfl), lw_t6 (List.mem_of_getElem? (i := 52) rfl)⟩
theorem lw_p45 : lw_okq (⟨"MarketDaysModel", "first", "(IIIII)V"⟩, 56) := ⟨⟨by decide +kernel, by decide +kernel⟩, lw_t6 (List.mem_of_getElem? (i := 144) rfl), lw_t6 (List.mem_of_getElem? (i := 163) rfl), lw_t6 (List.mem_of_getElem? (i := 164) rfl)⟩
theorem lw_p46 : lw_okq (⟨"MarketDaysModel", "isTown", "(I)Z"⟩, 56) := ⟨⟨by decide +kernel, by decide +kernel⟩, lw_t6 (List.mem_of_getElem? (i := 144) rfl), lw_t7 (List.mem_of_getElem? (i := 111) rfl), lw_t7 (List.mem_of_getElem? (i := 112) rfl)⟩
theorem lw_p47 : lw_okq (⟨"MarketDaysModel", "spreads", "()V"⟩, 56) := ⟨⟨by decide +kernel, by decide +kernel⟩, lw_t6 (List.mem_of_getElem? (i := 144) rfl), lw_t7 (List.mem_of_getElem? (i := 119) rfl), lw_t7 (List.mem_of_getElem? (i := 120) rfl)⟩
def lw_privs_3 : List (MethodName × Nat) := [(⟨"MarketDays", "search", "(II)V"⟩, 43), (⟨"MarketDays", "walks", "(I)Z"⟩, 43), (⟨"MarketDays", "meets", "()Z"⟩, 43), (⟨"MarketDays", "wholeWorth", "()J"⟩, 43), (⟨"MarketDays", "moved", "()I"⟩, 43), (⟨"MarketDays", "barsAhead", "(I)Z"⟩, 43), (⟨"MarketDays", "lays", "()V"⟩, 43), (⟨"MarketDays", "isRound", "(IIIII)Z"⟩, 43), (⟨"MarketDays", "rounds", "(III)V"⟩, 43), (⟨"MarketDays", "best", "(IIII)I"⟩, 43), (⟨"MarketDays", "sells", "(III)I"⟩, 43), (⟨"MarketDays", "most", "(III)I"⟩, 43), (⟨"MarketDays", "there", "(I)LMarketDays$Sheet;"⟩, 43), (⟨"MarketDaysModel", "first", "(IIIII)V"⟩, 56), (⟨"MarketDaysModel", "isTown", "(I)Z"⟩, 56), (⟨"MarketDaysModel", "spreads", "()V"⟩, 56)]
theorem lw_r3 : ∀ q ∈ lw_privs_3, lw_okq q := List.forall_mem_cons.mpr ⟨lw_p32, List.forall_mem_cons.mpr ⟨lw_p33, List.forall_mem_cons.mpr ⟨lw_p34, List.forall_mem_cons.mpr ⟨lw_p35, List.forall_mem_cons.mpr ⟨lw_p36, List.forall_mem_cons.mpr ⟨lw_p37, List.forall_mem_cons.mpr ⟨lw_p38, List.forall_mem_cons.mpr ⟨lw_p39, List.forall_mem_cons.mpr ⟨lw_p40, List.forall_mem_cons.mpr ⟨lw_p41, List.forall_mem_cons.mpr ⟨lw_p42, List.forall_mem_cons.mpr ⟨lw_p43, List.forall_mem_cons.mpr ⟨lw_p44, List.forall_mem_cons.mpr ⟨lw_p45, List.forall_mem_cons.mpr ⟨lw_p46, List.forall_mem_cons.mpr ⟨lw_p47, fun _ h => absurd h List.not_mem_nil⟩⟩⟩⟩⟩⟩⟩⟩⟩⟩⟩⟩⟩⟩⟩⟩
theorem lw_p48 : lw_okq (⟨"MarketDaysModel", "next", "()V"⟩, 56) := ⟨⟨by decide +kernel, by decide +kernel⟩, lw_t6 (List.mem_of_getElem? (i := 144) rfl), lw_t7 (List.mem_of_getElem? (i := 151) rfl), lw_t7 (List.mem_of_getElem? (i := 152) rfl)⟩
theorem lw_p49 : lw_okq (⟨"MarketDaysModel", "letters", "()J"⟩, 56) := ⟨⟨by decide +kernel, by decide +kernel⟩, lw_t6 (List.mem_of_getElem? (i := 144) rfl), lw_t7 (List.mem_of_getElem? (i := 155) rfl), lw_t7 (List.mem_of_getElem? (i := 156) rfl)⟩
theorem lw_p50 : lw_okq (⟨"MarketDaysModel", "eRead", "()Z"⟩, 56) := ⟨⟨by decide +kernel, by decide +kernel⟩, lw_t6 (List.mem_of_getElem? (i := 144) rfl), lw_t7 (List.mem_of_getElem? (i := 159) rfl), lw_t7 (List.mem_of_getElem? (i := 160) rfl)⟩
theorem lw_p51 : lw_okq (⟨"MarketDaysModel", "puts", "(I)V"⟩, 56) := ⟨⟨by decide +kernel, by decide +kernel⟩, lw_t6 (List.mem_of_getElem? (i := 144) rfl), lw_t7 (List.mem_of_getElem? (i := 164) rfl), lw_t7 (List.mem_of_getElem? (i := 165) rfl)⟩
theorem lw_p52 : lw_okq (⟨"MarketDaysModel", "unwinds", "(I)V"⟩, 56) := ⟨⟨by decide +kernel, by decide +kernel⟩, lw_t6 (List.mem_of_getElem? (i := 144) rfl), lw_t7 (List.mem_of_getElem? (i := 168) rfl), lw_t7 (List.mem_of_getElem? (i := 169) rfl)⟩
theorem lw_p53 : lw_okq (⟨"MarketDaysModel", "opensOne", "(I)Z"⟩, 56) := ⟨⟨by decide +kernel, by decide +kernel⟩, lw_t6 (List.mem_of_getElem? (i := 144) rfl), lw_t7 (List.mem_of_getElem? (i := 175) rfl), lw_t7 (List.mem_of_getElem? (i := 176) rfl)⟩
theorem lw_p54 : lw_okq (⟨"MarketDaysModel", "holds", "(I)V"⟩, 56) := ⟨⟨by decide +kernel, by decide +kernel⟩, lw_t6 (List.mem_of_getElem? (i := 144) rfl), lw_t7 (List.mem_of_getElem? (i := 179) rfl), lw_t7 (List.mem_of_getElem? (i := 180) rfl)⟩
theorem lw_p55 : lw_okq (⟨"MarketDaysModel", "signOf", "()I"⟩, 56) := ⟨⟨by decide +kernel, by decide +kernel⟩, lw_t6 (List.mem_of_getElem? (i := 144) rfl), lw_t7 (List.mem_of_getElem? (i := 183) rfl), lw_t7 (List.mem_of_getElem? (i := 184) rfl)⟩
theorem lw_p56 : lw_okq (⟨"MarketDaysModel", "between", "(I)Z"⟩, 56) := ⟨⟨by decide +kernel, by decide +kernel⟩, lw_t6 (List.mem_of_getElem? (i := 144) rfl), lw_t7 (List.mem_of_getElem? (i := 187) rfl), lw_t7 (List.mem_of_getElem? (i := 188) rfl)⟩
theorem lw_p57 : lw_okq (⟨"MarketDaysModel", "nearOf", "(II)I"⟩, 56) := ⟨⟨by decide +kernel, by decide +kernel⟩, lw_t6 (List.mem_of_getElem? (i := 144) rfl), lw_t7 (List.mem_of_getElem? (i := 200) rfl), lw_t7 (List.mem_of_getElem? (i := 201) rfl)⟩
theorem lw_p58 : lw_okq (⟨"MarketDaysModel", "names", "(IIIII)V"⟩, 56) := ⟨⟨by decide +kernel, by decide +kernel⟩, lw_t6 (List.mem_of_getElem? (i := 144) rfl), lw_t7 (List.mem_of_getElem? (i := 204) rfl), lw_t7 (List.mem_of_getElem? (i := 205) rfl)⟩
theorem lw_p59 : lw_okq (⟨"MarketDaysModel", "worth", "(I)I"⟩, 56) := ⟨⟨by decide +kernel, by decide +kernel⟩, lw_t6 (List.mem_of_getElem? (i := 144) rfl), lw_t7 (List.mem_of_getElem? (i := 208) rfl), lw_t7 (List.mem_of_getElem? (i := 209) rfl)⟩
theorem lw_p60 : lw_okq (⟨"MarketDaysModel", "worthBy", "(IIII)I"⟩, 56) := ⟨⟨by decide +kernel, by decide +kernel⟩, lw_t6 (List.mem_of_getElem? (i := 144) rfl), lw_t7 (List.mem_of_getElem? (i := 219) rfl), lw_t7 (List.mem_of_getElem? (i := 220) rfl)⟩
theorem lw_p61 : lw_okq (⟨"MarketDaysModel", "isNumber", "(II)Z"⟩, 56) := ⟨⟨by decide +kernel, by decide +kernel⟩, lw_t6 (List.mem_of_getElem? (i := 144) rfl), lw_t7 (List.mem_of_getElem? (i := 227) rfl), lw_t7 (List.mem_of_getElem? (i := 228) rfl)⟩
theorem lw_p62 : lw_okq (⟨"MarketDaysModel", "isGiving", "(I)Z"⟩, 56) := ⟨⟨by decide +kernel, by decide +kernel⟩, lw_t6 (List.mem_of_getElem? (i := 144) rfl), lw_t7 (List.mem_of_getElem? (i := 235) rfl), lw_t7 (List.mem_of_getElem? (i := 236) rfl)⟩
theorem lw_p63 : lw_okq (⟨"MarketDaysModel", "market", "(III)I"⟩, 56) := ⟨⟨by decide +kernel, by decide +kernel⟩, lw_t6 (List.mem_of_getElem? (i := 144) rfl), lw_t7 (List.mem_of_getElem? (i := 239) rfl), lw_t8 (List.mem_of_getElem? (i := 0) rfl)⟩
def lw_privs_4 : List (MethodName × Nat) := [(⟨"MarketDaysModel", "next", "()V"⟩, 56), (⟨"MarketDaysModel", "letters", "()J"⟩, 56), (⟨"MarketDaysModel", "eRead", "()Z"⟩, 56), (⟨"MarketDaysModel", "puts", "(I)V"⟩, 56), (⟨"MarketDaysModel", "unwinds", "(I)V"⟩, 56), (⟨"MarketDaysModel", "opensOne", "(I)Z"⟩, 56), (⟨"MarketDaysModel", "holds", "(I)V"⟩, 56), (⟨"MarketDaysModel", "signOf", "()I"⟩, 56), (⟨"MarketDaysModel", "between", "(I)Z"⟩, 56), (⟨"MarketDaysModel", "nearOf", "(II)I"⟩, 56), (⟨"MarketDaysModel", "names", "(IIIII)V"⟩, 56), (⟨"MarketDaysModel", "worth", "(I)I"⟩, 56), (⟨"MarketDaysModel", "worthBy", "(IIII)I"⟩, 56), (⟨"MarketDaysModel", "isNumber", "(II)Z"⟩, 56), (⟨"MarketDaysModel", "isGiving", "(I)Z"⟩, 56), (⟨"MarketDaysModel", "market", "(III)I"⟩, 56)]
theorem lw_r4 : ∀ q ∈ lw_privs_4, lw_okq q := List.forall_mem_cons.mpr ⟨lw_p48, List.forall_mem_cons.mpr ⟨lw_p49, List.forall_mem_cons.mpr ⟨lw_p50, List.forall_mem_cons.mpr ⟨lw_p51, List.forall_mem_cons.mpr ⟨lw_p52, List.forall_mem_cons.mpr ⟨lw_p53, List.forall_mem_cons.mpr ⟨lw_p54, List.forall_mem_cons.mpr ⟨lw_p55, List.forall_mem_cons.mpr ⟨lw_p56, List.forall_mem_cons.mpr ⟨lw_p57, List.forall_mem_cons.mpr ⟨lw_p58, List.forall_mem_cons.mpr ⟨lw_p59, List.forall_mem_cons.mpr ⟨lw_p60, List.forall_mem_cons.mpr ⟨lw_p61, List.forall_mem_cons.mpr ⟨lw_p62, List.forall_mem_cons.mpr ⟨lw_p63, fun _ h => absurd h List.not_mem_nil⟩⟩⟩⟩⟩⟩⟩⟩⟩⟩⟩⟩⟩⟩⟩⟩
theorem lw_p64 : lw_okq (⟨"MarketDaysModel", "daysOf", "(III)I"⟩, 56) := ⟨⟨by decide +kernel, by decide +kernel⟩, lw_t6 (List.mem_of_getElem? (i := 144) rfl), lw_t8 (List.mem_of_getElem? (i := 3) rfl), lw_t8 (List.mem_of_getElem? (i := 4) rfl)⟩
theorem lw_p65 : lw_okq (⟨"MarketDaysModel", "looks", "()V"⟩, 56) := ⟨⟨by decide +kernel, by decide +kernel⟩, lw_t6 (List.mem_of_getElem? (i := 144) rfl), lw_t8 (List.mem_of_getElem? (i := 11) rfl), lw_t8 (List.mem_of_getElem? (i := 12) rfl)⟩
theorem lw_p66 : lw_okq (⟨"MarketDaysModel", "laysNow", "(II)V"⟩, 56) := ⟨⟨by decide +kernel, by decide +kernel⟩, lw_t6 (List.mem_of_getElem? (i := 144) rfl), lw_t8 (List.mem_of_getElem? (i := 15) rfl), lw_t8 (List.mem_of_getElem? (i := 16) rfl)⟩
theorem lw_p67 : lw_okq (⟨"MarketDaysModel", "firstBar", "()I"⟩, 56) := ⟨⟨by decide +kernel, by decide +kernel⟩, lw_t6 (List.mem_of_getElem? (i := 144) rfl), lw_t8 (List.mem_of_getElem? (i := 19) rfl), lw_t8 (List.mem_of_getElem? (i := 20) rfl)⟩
theorem lw_p68 : lw_okq (⟨"MarketDaysModel", "doBar", "(II)Z"⟩, 56) := ⟨⟨by decide +kernel, by decide +kernel⟩, lw_t6 (List.mem_of_getElem? (i := 144) rfl), lw_t8 (List.mem_of_getElem? (i := 23) rfl), lw_t8 (List.mem_of_getElem? (i := 24) rfl)⟩
theorem lw_p69 : lw_okq (⟨"MarketDaysModel", "follows", "(II)Z"⟩, 56) := ⟨⟨by decide +kernel, by decide +kernel⟩, lw_t6 (List.mem_of_getElem? (i := 144) rfl), lw_t8 (List.mem_of_getElem? (i := 27) rfl), lw_t8 (List.mem_of_getElem? (i := 28) rfl)⟩
theorem lw_p70 : lw_okq (⟨"MarketDaysModel", "worthAll", "(II)I"⟩, 56) := ⟨⟨by decide +kernel, by decide +kernel⟩, lw_t6 (List.mem_of_getElem? (i := 144) rfl), lw_t8 (List.mem_of_getElem? (i := 39) rfl), lw_t8 (List.mem_of_getElem? (i := 40) rfl)⟩
theorem lw_p71 : lw_okq (⟨"MarketDaysModel", "worthIn", "(II)I"⟩, 56) := ⟨⟨by decide +kernel, by decide +kernel⟩, lw_t6 (List.mem_of_getElem? (i := 144) rfl), lw_t8 (List.mem_of_getElem? (i := 43) rfl), lw_t8 (List.mem_of_getElem? (i := 44) rfl)⟩
theorem lw_p72 : lw_okq (⟨"MarketDaysModel", "worthNow", "(I)I"⟩, 56) := ⟨⟨by decide +kernel, by decide +kernel⟩, lw_t6 (List.mem_of_getElem? (i := 144) rfl), lw_t8 (List.mem_of_getElem? (i := 47) rfl), lw_t8 (List.mem_of_getElem? (i := 48) rfl)⟩
theorem lw_p73 : lw_okq (⟨"MarketDaysModel", "all", "()I"⟩, 56) := ⟨⟨by decide +kernel, by decide +kernel⟩, lw_t6 (List.mem_of_getElem? (i := 144) rfl), lw_t8 (List.mem_of_getElem? (i := 59) rfl), lw_t8 (List.mem_of_getElem? (i := 60) rfl)⟩
theorem lw_p74 : lw_okq (⟨"MarketDaysModel", "nextWay", "(IZ)Z"⟩, 56) := ⟨⟨by decide +kernel, by decide +kernel⟩, lw_t6 (List.mem_of_getElem? (i := 144) rfl), lw_t8 (List.mem_of_getElem? (i := 63) rfl), lw_t8 (List.mem_of_getElem? (i := 64) rfl)⟩
theorem lw_p75 : lw_okq (⟨"MarketDaysModel", "isFree", "(I)Z"⟩, 56) := ⟨⟨by decide +kernel, by decide +kernel⟩, lw_t6 (List.mem_of_getElem? (i := 144) rfl), lw_t8 (List.mem_of_getElem? (i := 67) rfl), lw_t8 (List.mem_of_getElem? (i := 68) rfl)⟩
theorem lw_p76 : lw_okq (⟨"MarketDaysModel", "worthWay", "()I"⟩, 56) := ⟨⟨by decide +kernel, by decide +kernel⟩, lw_t6 (List.mem_of_getElem? (i := 144) rfl), lw_t8 (List.mem_of_getElem? (i := 75) rfl), lw_t8 (List.mem_of_getElem? (i := 76) rfl)⟩
theorem lw_p77 : lw_okq (⟨"MarketDaysModel", "keptWorth", "(IIII)I"⟩, 56) := ⟨⟨by decide +kernel, by decide +kernel⟩, lw_t6 (List.mem_of_getElem? (i := 144) rfl), lw_t8 (List.mem_of_getElem? (i := 82) rfl), lw_t8 (List.mem_of_getElem? (i := 83) rfl)⟩
theorem lw_p78 : lw_okq (⟨"MarketDaysModel", "others", "(I)I"⟩, 56) := ⟨⟨by decide +kernel, by decide +kernel⟩, lw_t6 (List.mem_of_getElem? (i := 144) rfl), lw_t8 (List.mem_of_getElem? (i := 86) rfl), lw_t8 (List.mem_of_getElem? (i := 87) rfl)⟩
theorem lw_p79 : lw_okq (⟨"MarketDaysModel", "keeps", "()V"⟩, 56) := ⟨⟨by decide +kernel, by decide +kernel⟩, lw_t6 (List.mem_of_getElem? (i := 144) rfl), lw_t8 (List.mem_of_getElem? (i := 90) rfl), lw_t8 (List.mem_of_getElem? (i := 91) rfl)⟩
def lw_privs_5 : List (MethodName × Nat) := [(⟨"MarketDaysModel", "daysOf", "(III)I"⟩, 56), (⟨"MarketDaysModel", "looks", "()V"⟩, 56), (⟨"MarketDaysModel", "laysNow", "(II)V"⟩, 56), (⟨"MarketDaysModel", "firstBar", "()I"⟩, 56), (⟨"MarketDaysModel", "doBar", "(II)Z"⟩, 56), (⟨"MarketDaysModel", "follows", "(II)Z"⟩, 56), (⟨"MarketDaysModel", "worthAll", "(II)I"⟩, 56), (⟨"MarketDaysModel", "worthIn", "(II)I"⟩, 56), (⟨"MarketDaysModel", "worthNow", "(I)I"⟩, 56), (⟨"MarketDaysModel", "all", "()I"⟩, 56), (⟨"MarketDaysModel", "nextWay", "(IZ)Z"⟩, 56), (⟨"MarketDaysModel", "isFree", "(I)Z"⟩, 56), (⟨"MarketDaysModel", "worthWay", "()I"⟩, 56), (⟨"MarketDaysModel", "keptWorth", "(IIII)I"⟩, 56), (⟨"MarketDaysModel", "others", "(I)I"⟩, 56), (⟨"MarketDaysModel", "keeps", "()V"⟩, 56)]
theorem lw_r5 : ∀ q ∈ lw_privs_5, lw_okq q := List.forall_mem_cons.mpr ⟨lw_p64, List.forall_mem_cons.mpr ⟨lw_p65, List.forall_mem_cons.mpr ⟨lw_p66, List.forall_mem_cons.mpr ⟨lw_p67, List.forall_mem_cons.mpr ⟨lw_p68, List.forall_mem_cons.mpr ⟨lw_p69, List.forall_mem_cons.mpr ⟨lw_p70, List.forall_mem_cons.mpr ⟨lw_p71, List.forall_mem_cons.mpr ⟨lw_p72, List.forall_mem_cons.mpr ⟨lw_p73, List.forall_mem_cons.mpr ⟨lw_p74, List.forall_mem_cons.mpr ⟨lw_p75, List.forall_mem_cons.mpr ⟨lw_p76, List.forall_mem_cons.mpr ⟨lw_p77, List.forall_mem_cons.mpr ⟨lw_p78, List.forall_mem_cons.mpr ⟨lw_p79, fun _ h => absurd h List.not_mem_nil⟩⟩⟩⟩⟩⟩⟩⟩⟩⟩⟩⟩⟩⟩⟩⟩
theorem lw_p80 : lw_okq (⟨"MarketDaysModel", "soldBy", "(IIIIII)I"⟩, 56) := ⟨⟨by decide +kernel, by decide +kernel⟩, lw_t6 (List.mem_of_getElem? (i := 144) rfl), lw_t8 (List.mem_of_getElem? (i := 122) rfl), lw_t8 (List.mem_of_getElem? (i := 123) rfl)⟩
theorem lw_p81 : lw_okq (⟨"MarketDaysModel", "sold", "(III)I"⟩, 56) := ⟨⟨by decide +kernel, by decide +kernel⟩, lw_t6 (List.mem_of_getElem? (i := 144) rfl), lw_t8 (List.mem_of_getElem? (i := 126) rfl), lw_t8 (List.mem_of_getElem? (i := 127) rfl)⟩
def lw_privs_6 : List (MethodName × Nat) := [(⟨"MarketDaysModel", "soldBy", "(IIIIII)I"⟩, 56), (⟨"MarketDaysModel", "sold", "(III)I"⟩, 56)]
theorem lw_r6 : ∀ q ∈ lw_privs_6, lw_okq q := List.forall_mem_cons.mpr ⟨lw_p80, List.forall_mem_cons.mpr ⟨lw_p81, fun _ h => absurd h List.not_mem_nil⟩⟩
def lw_privs : List (MethodName × Nat) := lw_privs_1 ++ (lw_privs_2 ++ (lw_privs_3 ++ (lw_privs_4 ++ (lw_privs_5 ++ (lw_privs_6)))))
def lw_tbl : List Cond := k2_sels lw_privs ++ tables_1
theorem lw_privs_ok : ∀ q ∈ lw_privs, lw_okq q := by
  show ∀ q ∈ lw_privs_1 ++ (lw_privs_2 ++ (lw_privs_3 ++ (lw_privs_4 ++ (lw_privs_5 ++ (lw_privs_6))))), lw_okq q
  exact List.forall_mem_append.mpr ⟨lw_r1, List.forall_mem_append.mpr ⟨lw_r2, List.forall_mem_append.mpr ⟨lw_r3, List.forall_mem_append.mpr ⟨lw_r4, List.forall_mem_append.mpr ⟨lw_r5, lw_r6⟩⟩⟩⟩⟩
-- ===== ONE list of words for every method: the tables' words that hold all through a run =====
def lw_all : List Cond := lw_tbl.filter goodWord
/-- a word of the tables by its place: claim/WORDS.tsv -/
theorem lw_w {w : Cond} (i : Nat) (h : lw_tbl[i]? = some w) (g : goodWord w = true) : w ∈ lw_all := List.mem_filter.mpr ⟨List.mem_of_getElem? h, g⟩
theorem lw_all_tbl {w : Cond} (h : w ∈ lw_all) : w ∈ lw_tbl := (List.mem_filter.mp h).1
theorem lw_self : GoodIn lw_all lw_all := fun w h => ⟨h, good_of_word (List.mem_filter.mp h).2⟩
/-- a class's field words, by their places -/
theorem lw_in (ws : List Cond) (ps : List Nat) (hp : ws = ps.filterMap (fun i => lw_tbl[i]?)) (hg : ws.all goodWord = true) : ∀ w ∈ ws, w ∈ lw_all := by
  intro w h
  have h1 := List.all_eq_true.mp hg w h
  rw [hp] at h
  obtain ⟨i, -, hi⟩ := List.mem_filterMap.mp h
  exact lw_w i hi h1
/-- the words of a contract for the method y with code b, L locals, answer r -/
abbrev ws_ (y : MethodName) (b : ByteArray) (L : Nat) (r : Option FieldType) : List Cond := Cond.code y b L r :: lw_all
theorem lw_meth {y : MethodName} {b : ByteArray} {L : Nat} {r : Option FieldType} (h : Cond.code y b L r ∈ lw_all) : GoodIn lw_all (ws_ y b L r) := by
  intro w hw
  rcases List.mem_cons.mp hw with e | e
  · rw [e]
    exact lw_self _ h
  · exact lw_self _ e
theorem lw_app {a c : List Cond} (ha : ∀ w ∈ a, w ∈ lw_all) (hc : GoodIn lw_all c) : GoodIn lw_all (a ++ c) := by
  intro w hw
  rcases List.mem_append.mp hw with e | e
  · exact lw_self w (ha w e)
  · exact hc w e
/-- what a call through an object asks: cwV n hts (lw_V ..) -/
theorem lw_V {own : String} {idx : Nat} {C : String} {y : MethodName} {b : ByteArray} {L : Nat} {r : Option FieldType} (h1 : Cond.methodLink own idx y ∈ lw_all) (h2 : Cond.instanceMethod y ∈ lw_all) (h3 : Cond.selects C y y ∈ lw_all) (h4 : Cond.initialized C ∈ lw_all) (h5 : Cond.code y b L r ∈ lw_all) : GoodIn lw_all (wsV own idx C y (ws_ y b L r)) := by
  refine lw_app ?_ (lw_meth h5)
  intro w hw
  simp only [List.mem_cons, List.not_mem_nil, or_false] at hw
  rcases hw with e | e | e | e
  · rw [e]; exact h1
  · rw [e]; exact h2
  · rw [e]; exact h3
  · rw [e]; exact h4
/-- what a static call asks: va_cwS n hts (lw_S ..) -/
theorem lw_S {own : String} {idx : Nat} {y : MethodName} {b : ByteArray} {L : Nat} {r : Option FieldType} (h1 : Cond.methodLink own idx y ∈ lw_all) (h2 : Cond.static y ∈ lw_all) (h3 : Cond.initialized y.cls ∈ lw_all) (h4 : Cond.code y b L r ∈ lw_all) : GoodIn lw_all (va_wsS own idx y (ws_ y b L r)) := by
  refine lw_app ?_ (lw_meth h4)
  intro w hw
  simp only [List.mem_cons, List.not_mem_nil, or_false] at hw
  rcases hw with e | e | e
  · rw [e]; exact h1
  · rw [e]; exact h2
  · rw [e]; exact h3
/-- the words of a contract for a method WITH HANDLERS (hh: its table) -/
abbrev wsW_ (y : MethodName) (b : ByteArray) (L : Nat) (r : Option FieldType) (hh : List (Nat × Nat × Nat × Nat)) : List Cond := Cond.codeWith y b L r hh :: lw_all
theorem lw_methW {y : MethodName} {b : ByteArray} {L : Nat} {r : Option FieldType} {hh : List (Nat × Nat × Nat × Nat)} (h : Cond.codeWith y b L r hh ∈ lw_all) : GoodIn lw_all (wsW_ y b L r hh) := by
  intro w hw
  rcases List.mem_cons.mp hw with e | e
  · rw [e]
    exact lw_self _ h
  · exact lw_self _ e
/-- any list of words by their places (lw_in), good -/
theorem lw_good {ws : List Cond} (h : ∀ w ∈ ws, w ∈ lw_all) : GoodIn lw_all ws := fun w hw => lw_self w (h w hw)
/-- what a call of a method with handlers asks: vx_cwVW n hts (lw_VW ..), vx_cwSW n hts (lw_SW ..) -/
theorem lw_VW {own : String} {idx : Nat} {C : String} {y : MethodName} {b : ByteArray} {L : Nat} {r : Option FieldType} {hh : List (Nat × Nat × Nat × Nat)} (h1 : Cond.methodLink own idx y ∈ lw_all) (h2 : Cond.instanceMethod y ∈ lw_all) (h3 : Cond.selects C y y ∈ lw_all) (h4 : Cond.initialized C ∈ lw_all) (h5 : Cond.codeWith y b L r hh ∈ lw_all) : GoodIn lw_all (wsV own idx C y (wsW_ y b L r hh)) := by
  refine lw_app ?_ (lw_methW h5)
  intro w hw
  simp only [List.mem_cons, List.not_mem_nil, or_false] at hw
  rcases hw with e | e | e | e
  · rw [e]; exact h1
  · rw [e]; exact h2
  · rw [e]; exact h3
  · rw [e]; exact h4
theorem lw_SW {own : String} {idx : Nat} {y : MethodName} {b : ByteArray} {L : Nat} {r : Option FieldType} {hh : List (Nat × Nat × Nat × Nat)} (h1 : Cond.methodLink own idx y ∈ lw_all) (h2 : Cond.static y ∈ lw_all) (h3 : Cond.initialized y.cls ∈ lw_all) (h4 : Cond.codeWith y b L r hh ∈ lw_all) : GoodIn lw_all (va_wsS own idx y (wsW_ y b L r hh)) := by
  refine lw_app ?_ (lw_methW h4)
  intro w hw
  simp only [List.mem_cons, List.not_mem_nil, or_false] at hw
  rcases hw with e | e | e
  · rw [e]; exact h1
  · rw [e]; exact h2
  · rw [e]; exact h3
/-- a word by its place in its run of the tables -/
theorem lw_at {r : List Cond} (hr : ∀ w ∈ r, w ∈ lw_tbl) {w : Cond} (i : Nat) (h : r[i]? = some w) : w ∈ lw_tbl := hr w (List.mem_of_getElem? h)
theorem lw_g {w : Cond} (h : w ∈ lw_tbl) (g : goodWord w = true) : w ∈ lw_all := List.mem_filter.mpr ⟨h, g⟩
theorem lw_ms : ∀ w ∈ k2_sels lw_privs, w ∈ lw_tbl := fun w h => show w ∈ k2_sels lw_privs ++ tables_1 from List.mem_append_left _ h
theorem lw_m1 : ∀ w ∈ tables_1_1, w ∈ lw_tbl := fun w h => show w ∈ k2_sels lw_privs ++ tables_1 from List.mem_append_right (k2_sels lw_privs) (show w ∈ tables_1 from List.mem_append_left _ h)
theorem lw_m2 : ∀ w ∈ tables_1_2, w ∈ lw_tbl := fun w h => show w ∈ k2_sels lw_privs ++ tables_1 from List.mem_append_right (k2_sels lw_privs) (show w ∈ tables_1 from List.mem_append_right _ (List.mem_append_left _ h))
theorem lw_m3 : ∀ w ∈ tables_1_3, w ∈ lw_tbl := fun w h => show w ∈ k2_sels lw_privs ++ tables_1 from List.mem_append_right (k2_sels lw_privs) (show w ∈ tables_1 from List.mem_append_right _ (List.mem_append_right _ (List.mem_append_left _ h)))
theorem lw_m4 : ∀ w ∈ tables_1_4, w ∈ lw_tbl := fun w h => show w ∈ k2_sels lw_privs ++ tables_1 from List.mem_append_right (k2_sels lw_privs) (show w ∈ tables_1 from List.mem_append_right _ (List.mem_append_right _ (List.mem_append_right _ (List.mem_append_left _ h))))
theorem lw_m5 : ∀ w ∈ tables_1_5, w ∈ lw_tbl := fun w h => show w ∈ k2_sels lw_privs ++ tables_1 from List.mem_append_right (k2_sels lw_privs) (show w ∈ tables_1 from List.mem_append_right _ (List.mem_append_right _ (List.mem_append_right _ (List.mem_append_right _ (List.mem_append_left _ h)))))
theorem lw_m6 : ∀ w ∈ tables_1_6, w ∈ lw_tbl := fun w h => show w ∈ k2_sels lw_privs ++ tables_1 from List.mem_append_right (k2_sels lw_privs) (show w ∈ tables_1 from List.mem_append_right _ (List.mem_append_right _ (List.mem_append_right _ (List.mem_append_right _ (List.mem_append_right _ (List.mem_append_left _ h))))))
theorem lw_m7 : ∀ w ∈ tables_1_7, w ∈ lw_tbl := fun w h => show w ∈ k2_sels lw_privs ++ tables_1 from List.mem_append_right (k2_sels lw_privs) (show w ∈ tables_1 from List.mem_append_right _ (List.mem_append_right _ (List.mem_append_right _ (List.mem_append_right _ (List.mem_append_right _ (List.mem_append_right _ (List.mem_append_left _ h)))))))
theorem lw_m8 : ∀ w ∈ tables_1_8, w ∈ lw_tbl := fun w h => show w ∈ k2_sels lw_privs ++ tables_1 from List.mem_append_right (k2_sels lw_privs) (show w ∈ tables_1 from List.mem_append_right _ (List.mem_append_right _ (List.mem_append_right _ (List.mem_append_right _ (List.mem_append_right _ (List.mem_append_right _ (List.mem_append_right _ h)))))))
theorem qs0 : (Cond.selects "MarketDays$Reader" ⟨"MarketDays$Reader", "next", "()V"⟩ ⟨"MarketDays$Reader", "next", "()V"⟩) ∈ lw_all := lw_g (lw_at lw_ms 0 rfl) rfl
theorem qs1 : (Cond.selects "MarketDays$Reader" ⟨"MarketDays$Reader", "here", "()I"⟩ ⟨"MarketDays$Reader", "here", "()I"⟩) ∈ lw_all := lw_g (lw_at lw_ms 1 rfl) rfl
theorem qs2 : (Cond.selects "MarketDays$Reader" ⟨"MarketDays$Reader", "fault", "()LMarketDays$Fault;"⟩ ⟨"MarketDays$Reader", "fault", "()LMarketDays$Fault;"⟩) ∈ lw_all := lw_g (lw_at lw_ms 2 rfl) rfl
theorem qs3 : (Cond.selects "java/lang/Throwable" ⟨"java/lang/Throwable", "fillInStackTrace", "(I)Ljava/lang/Throwable;"⟩ ⟨"java/lang/Throwable", "fillInStackTrace", "(I)Ljava/lang/Throwable;"⟩) ∈ lw_all := lw_g (lw_at lw_ms 3 rfl) rfl
theorem qs4 : (Cond.selects "MarketDays$Reader" ⟨"MarketDays$Reader", "is", "(Ljava/lang/String;)Z"⟩ ⟨"MarketDays$Reader", "is", "(Ljava/lang/String;)Z"⟩) ∈ lw_all := lw_g (lw_at lw_ms 4 rfl) rfl
theorem qs5 : (Cond.selects "MarketDays$Reader" ⟨"MarketDays$Reader", "either", "()LMarketDays$Node;"⟩ ⟨"MarketDays$Reader", "either", "()LMarketDays$Node;"⟩) ∈ lw_all := lw_g (lw_at lw_ms 5 rfl) rfl
theorem qs6 : (Cond.selects "MarketDays$Reader" ⟨"MarketDays$Reader", "both", "()LMarketDays$Node;"⟩ ⟨"MarketDays$Reader", "both", "()LMarketDays$Node;"⟩) ∈ lw_all := lw_g (lw_at lw_ms 6 rfl) rfl
theorem qs7 : (Cond.selects "MarketDays$Reader" ⟨"MarketDays$Reader", "not", "()LMarketDays$Node;"⟩ ⟨"MarketDays$Reader", "not", "()LMarketDays$Node;"⟩) ∈ lw_all := lw_g (lw_at lw_ms 7 rfl) rfl
theorem qs8 : (Cond.selects "MarketDays$Reader" ⟨"MarketDays$Reader", "opens", "()V"⟩ ⟨"MarketDays$Reader", "opens", "()V"⟩) ∈ lw_all := lw_g (lw_at lw_ms 8 rfl) rfl
theorem qs9 : (Cond.selects "MarketDays$Reader" ⟨"MarketDays$Reader", "sum", "()LMarketDays$Node;"⟩ ⟨"MarketDays$Reader", "sum", "()LMarketDays$Node;"⟩) ∈ lw_all := lw_g (lw_at lw_ms 9 rfl) rfl
theorem qs10 : (Cond.selects "MarketDays$Reader" ⟨"MarketDays$Reader", "term", "()LMarketDays$Node;"⟩ ⟨"MarketDays$Reader", "term", "()LMarketDays$Node;"⟩) ∈ lw_all := lw_g (lw_at lw_ms 10 rfl) rfl
theorem qs11 : (Cond.selects "MarketDays$Reader" ⟨"MarketDays$Reader", "one", "()LMarketDays$Node;"⟩ ⟨"MarketDays$Reader", "one", "()LMarketDays$Node;"⟩) ∈ lw_all := lw_g (lw_at lw_ms 11 rfl) rfl
theorem qs12 : (Cond.selects "MarketDays$Reader" ⟨"MarketDays$Reader", "takes", "(I)Z"⟩ ⟨"MarketDays$Reader", "takes", "(I)Z"⟩) ∈ lw_all := lw_g (lw_at lw_ms 12 rfl) rfl
theorem qs13 : (Cond.selects "MarketDays" ⟨"MarketDays", "ways", "()V"⟩ ⟨"MarketDays", "ways", "()V"⟩) ∈ lw_all := lw_g (lw_at lw_ms 13 rfl) rfl
theorem qs14 : (Cond.selects "MarketDays" ⟨"MarketDays", "isTown", "(I)Z"⟩ ⟨"MarketDays", "isTown", "(I)Z"⟩) ∈ lw_all := lw_g (lw_at lw_ms 14 rfl) rfl
theorem qs15 : (Cond.selects "MarketDays" ⟨"MarketDays", "isWeek", "(I)Z"⟩ ⟨"MarketDays", "isWeek", "(I)Z"⟩) ∈ lw_all := lw_g (lw_at lw_ms 15 rfl) rfl
theorem qs16 : (Cond.selects "MarketDays" ⟨"MarketDays", "near", "(II)I"⟩ ⟨"MarketDays", "near", "(II)I"⟩) ∈ lw_all := lw_g (lw_at lw_ms 16 rfl) rfl
theorem qs17 : (Cond.selects "MarketDays" ⟨"MarketDays", "isDay", "(I)Z"⟩ ⟨"MarketDays", "isDay", "(I)Z"⟩) ∈ lw_all := lw_g (lw_at lw_ms 17 rfl) rfl
theorem qs18 : (Cond.selects "MarketDays" ⟨"MarketDays", "saysWorth", "(IIII)I"⟩ ⟨"MarketDays", "saysWorth", "(IIII)I"⟩) ∈ lw_all := lw_g (lw_at lw_ms 18 rfl) rfl
theorem qs19 : (Cond.selects "java/util/ArrayList" ⟨"java/util/ArrayList", "add", "(Ljava/lang/Object;[Ljava/lang/Object;I)V"⟩ ⟨"java/util/ArrayList", "add", "(Ljava/lang/Object;[Ljava/lang/Object;I)V"⟩) ∈ lw_all := lw_g (lw_at lw_ms 19 rfl) rfl
theorem qs20 : (Cond.selects "java/util/ArrayList" ⟨"java/util/ArrayList", "grow", "()[Ljava/lang/Object;"⟩ ⟨"java/util/ArrayList", "grow", "()[Ljava/lang/Object;"⟩) ∈ lw_all := lw_g (lw_at lw_ms 20 rfl) rfl
theorem qs21 : (Cond.selects "java/util/ArrayList" ⟨"java/util/ArrayList", "grow", "(I)[Ljava/lang/Object;"⟩ ⟨"java/util/ArrayList", "grow", "(I)[Ljava/lang/Object;"⟩) ∈ lw_all := lw_g (lw_at lw_ms 21 rfl) rfl
theorem qs22 : (Cond.selects "MarketDays" ⟨"MarketDays", "isGiving", "(I)Z"⟩ ⟨"MarketDays", "isGiving", "(I)Z"⟩) ∈ lw_all := lw_g (lw_at lw_ms 22 rfl) rfl
theorem qs23 : (Cond.selects "MarketDays" ⟨"MarketDays", "market", "(LMarketDays$Giving;II)I"⟩ ⟨"MarketDays", "market", "(LMarketDays$Giving;II)I"⟩) ∈ lw_all := lw_g (lw_at lw_ms 23 rfl) rfl
theorem qs24 : (Cond.selects "MarketDays" ⟨"MarketDays", "looks", "(LMarketDays$Giving;I)V"⟩ ⟨"MarketDays", "looks", "(LMarketDays$Giving;I)V"⟩) ∈ lw_all := lw_g (lw_at lw_ms 24 rfl) rfl
theorem qs25 : (Cond.selects "MarketDays" ⟨"MarketDays", "firstBar", "()I"⟩ ⟨"MarketDays", "firstBar", "()I"⟩) ∈ lw_all := lw_g (lw_at lw_ms 25 rfl) rfl
theorem qs26 : (Cond.selects "MarketDays" ⟨"MarketDays", "bars", "(II)Z"⟩ ⟨"MarketDays", "bars", "(II)Z"⟩) ∈ lw_all := lw_g (lw_at lw_ms 26 rfl) rfl
theorem qs27 : (Cond.selects "MarketDays" ⟨"MarketDays", "nextDay", "(I)I"⟩ ⟨"MarketDays", "nextDay", "(I)I"⟩) ∈ lw_all := lw_g (lw_at lw_ms 27 rfl) rfl
theorem qs28 : (Cond.selects "MarketDays" ⟨"MarketDays", "worthAt", "(LMarketDays$Giving;I)I"⟩ ⟨"MarketDays", "worthAt", "(LMarketDays$Giving;I)I"⟩) ∈ lw_all := lw_g (lw_at lw_ms 28 rfl) rfl
theorem qs29 : (Cond.selects "MarketDays" ⟨"MarketDays", "hoursAhead", "(II)I"⟩ ⟨"MarketDays", "hoursAhead", "(II)I"⟩) ∈ lw_all := lw_g (lw_at lw_ms 29 rfl) rfl
theorem qs30 : (Cond.selects "MarketDays" ⟨"MarketDays", "others", "(II)I"⟩ ⟨"MarketDays", "others", "(II)I"⟩) ∈ lw_all := lw_g (lw_at lw_ms 30 rfl) rfl
theorem qs31 : (Cond.selects "MarketDays" ⟨"MarketDays", "all", "()I"⟩ ⟨"MarketDays", "all", "()I"⟩) ∈ lw_all := lw_g (lw_at lw_ms 31 rfl) rfl
theorem qs32 : (Cond.selects "MarketDays" ⟨"MarketDays", "search", "(II)V"⟩ ⟨"MarketDays", "search", "(II)V"⟩) ∈ lw_all := lw_g (lw_at lw_ms 32 rfl) rfl
theorem qs33 : (Cond.selects "MarketDays" ⟨"MarketDays", "walks", "(I)Z"⟩ ⟨"MarketDays", "walks", "(I)Z"⟩) ∈ lw_all := lw_g (lw_at lw_ms 33 rfl) rfl
theorem qs34 : (Cond.selects "MarketDays" ⟨"MarketDays", "meets", "()Z"⟩ ⟨"MarketDays", "meets", "()Z"⟩) ∈ lw_all := lw_g (lw_at lw_ms 34 rfl) rfl
theorem qs35 : (Cond.selects "MarketDays" ⟨"MarketDays", "wholeWorth", "()J"⟩ ⟨"MarketDays", "wholeWorth", "()J"⟩) ∈ lw_all := lw_g (lw_at lw_ms 35 rfl) rfl
theorem qs36 : (Cond.selects "MarketDays" ⟨"MarketDays", "moved", "()I"⟩ ⟨"MarketDays", "moved", "()I"⟩) ∈ lw_all := lw_g (lw_at lw_ms 36 rfl) rfl
theorem qs37 : (Cond.selects "MarketDays" ⟨"MarketDays", "barsAhead", "(I)Z"⟩ ⟨"MarketDays", "barsAhead", "(I)Z"⟩) ∈ lw_all := lw_g (lw_at lw_ms 37 rfl) rfl
theorem qs38 : (Cond.selects "MarketDays" ⟨"MarketDays", "lays", "()V"⟩ ⟨"MarketDays", "lays", "()V"⟩) ∈ lw_all := lw_g (lw_at lw_ms 38 rfl) rfl
theorem qs39 : (Cond.selects "MarketDays" ⟨"MarketDays", "isRound", "(IIIII)Z"⟩ ⟨"MarketDays", "isRound", "(IIIII)Z"⟩) ∈ lw_all := lw_g (lw_at lw_ms 39 rfl) rfl
theorem qs40 : (Cond.selects "MarketDays" ⟨"MarketDays", "rounds", "(III)V"⟩ ⟨"MarketDays", "rounds", "(III)V"⟩) ∈ lw_all := lw_g (lw_at lw_ms 40 rfl) rfl
theorem qs41 : (Cond.selects "MarketDays" ⟨"MarketDays", "best", "(IIII)I"⟩ ⟨"MarketDays", "best", "(IIII)I"⟩) ∈ lw_all := lw_g (lw_at lw_ms 41 rfl) rfl
theorem qs42 : (Cond.selects "MarketDays" ⟨"MarketDays", "sells", "(III)I"⟩ ⟨"MarketDays", "sells", "(III)I"⟩) ∈ lw_all := lw_g (lw_at lw_ms 42 rfl) rfl
theorem qs43 : (Cond.selects "MarketDays" ⟨"MarketDays", "most", "(III)I"⟩ ⟨"MarketDays", "most", "(III)I"⟩) ∈ lw_all := lw_g (lw_at lw_ms 43 rfl) rfl
theorem qs44 : (Cond.selects "MarketDays" ⟨"MarketDays", "there", "(I)LMarketDays$Sheet;"⟩ ⟨"MarketDays", "there", "(I)LMarketDays$Sheet;"⟩) ∈ lw_all := lw_g (lw_at lw_ms 44 rfl) rfl
theorem qs45 : (Cond.selects "MarketDaysModel" ⟨"MarketDaysModel", "first", "(IIIII)V"⟩ ⟨"MarketDaysModel", "first", "(IIIII)V"⟩) ∈ lw_all := lw_g (lw_at lw_ms 45 rfl) rfl
theorem qs46 : (Cond.selects "MarketDaysModel" ⟨"MarketDaysModel", "isTown", "(I)Z"⟩ ⟨"MarketDaysModel", "isTown", "(I)Z"⟩) ∈ lw_all := lw_g (lw_at lw_ms 46 rfl) rfl
theorem qs47 : (Cond.selects "MarketDaysModel" ⟨"MarketDaysModel", "spreads", "()V"⟩ ⟨"MarketDaysModel", "spreads", "()V"⟩) ∈ lw_all := lw_g (lw_at lw_ms 47 rfl) rfl
theorem qs48 : (Cond.selects "MarketDaysModel" ⟨"MarketDaysModel", "next", "()V"⟩ ⟨"MarketDaysModel", "next", "()V"⟩) ∈ lw_all := lw_g (lw_at lw_ms 48 rfl) rfl
theorem qs49 : (Cond.selects "MarketDaysModel" ⟨"MarketDaysModel", "letters", "()J"⟩ ⟨"MarketDaysModel", "letters", "()J"⟩) ∈ lw_all := lw_g (lw_at lw_ms 49 rfl) rfl
theorem qs50 : (Cond.selects "MarketDaysModel" ⟨"MarketDaysModel", "eRead", "()Z"⟩ ⟨"MarketDaysModel", "eRead", "()Z"⟩) ∈ lw_all := lw_g (lw_at lw_ms 50 rfl) rfl
theorem qs51 : (Cond.selects "MarketDaysModel" ⟨"MarketDaysModel", "puts", "(I)V"⟩ ⟨"MarketDaysModel", "puts", "(I)V"⟩) ∈ lw_all := lw_g (lw_at lw_ms 51 rfl) rfl
theorem qs52 : (Cond.selects "MarketDaysModel" ⟨"MarketDaysModel", "unwinds", "(I)V"⟩ ⟨"MarketDaysModel", "unwinds", "(I)V"⟩) ∈ lw_all := lw_g (lw_at lw_ms 52 rfl) rfl
theorem qs53 : (Cond.selects "MarketDaysModel" ⟨"MarketDaysModel", "opensOne", "(I)Z"⟩ ⟨"MarketDaysModel", "opensOne", "(I)Z"⟩) ∈ lw_all := lw_g (lw_at lw_ms 53 rfl) rfl
theorem qs54 : (Cond.selects "MarketDaysModel" ⟨"MarketDaysModel", "holds", "(I)V"⟩ ⟨"MarketDaysModel", "holds", "(I)V"⟩) ∈ lw_all := lw_g (lw_at lw_ms 54 rfl) rfl
theorem qs55 : (Cond.selects "MarketDaysModel" ⟨"MarketDaysModel", "signOf", "()I"⟩ ⟨"MarketDaysModel", "signOf", "()I"⟩) ∈ lw_all := lw_g (lw_at lw_ms 55 rfl) rfl
theorem qs56 : (Cond.selects "MarketDaysModel" ⟨"MarketDaysModel", "between", "(I)Z"⟩ ⟨"MarketDaysModel", "between", "(I)Z"⟩) ∈ lw_all := lw_g (lw_at lw_ms 56 rfl) rfl
theorem qs57 : (Cond.selects "MarketDaysModel" ⟨"MarketDaysModel", "nearOf", "(II)I"⟩ ⟨"MarketDaysModel", "nearOf", "(II)I"⟩) ∈ lw_all := lw_g (lw_at lw_ms 57 rfl) rfl
theorem qs58 : (Cond.selects "MarketDaysModel" ⟨"MarketDaysModel", "names", "(IIIII)V"⟩ ⟨"MarketDaysModel", "names", "(IIIII)V"⟩) ∈ lw_all := lw_g (lw_at lw_ms 58 rfl) rfl
theorem qs59 : (Cond.selects "MarketDaysModel" ⟨"MarketDaysModel", "worth", "(I)I"⟩ ⟨"MarketDaysModel", "worth", "(I)I"⟩) ∈ lw_all := lw_g (lw_at lw_ms 59 rfl) rfl
theorem qs60 : (Cond.selects "MarketDaysModel" ⟨"MarketDaysModel", "worthBy", "(IIII)I"⟩ ⟨"MarketDaysModel", "worthBy", "(IIII)I"⟩) ∈ lw_all := lw_g (lw_at lw_ms 60 rfl) rfl
theorem qs61 : (Cond.selects "MarketDaysModel" ⟨"MarketDaysModel", "isNumber", "(II)Z"⟩ ⟨"MarketDaysModel", "isNumber", "(II)Z"⟩) ∈ lw_all := lw_g (lw_at lw_ms 61 rfl) rfl
theorem qs62 : (Cond.selects "MarketDaysModel" ⟨"MarketDaysModel", "isGiving", "(I)Z"⟩ ⟨"MarketDaysModel", "isGiving", "(I)Z"⟩) ∈ lw_all := lw_g (lw_at lw_ms 62 rfl) rfl
theorem qs63 : (Cond.selects "MarketDaysModel" ⟨"MarketDaysModel", "market", "(III)I"⟩ ⟨"MarketDaysModel", "market", "(III)I"⟩) ∈ lw_all := lw_g (lw_at lw_ms 63 rfl) rfl
theorem qs64 : (Cond.selects "MarketDaysModel" ⟨"MarketDaysModel", "daysOf", "(III)I"⟩ ⟨"MarketDaysModel", "daysOf", "(III)I"⟩) ∈ lw_all := lw_g (lw_at lw_ms 64 rfl) rfl
theorem qs65 : (Cond.selects "MarketDaysModel" ⟨"MarketDaysModel", "looks", "()V"⟩ ⟨"MarketDaysModel", "looks", "()V"⟩) ∈ lw_all := lw_g (lw_at lw_ms 65 rfl) rfl
theorem qs66 : (Cond.selects "MarketDaysModel" ⟨"MarketDaysModel", "laysNow", "(II)V"⟩ ⟨"MarketDaysModel", "laysNow", "(II)V"⟩) ∈ lw_all := lw_g (lw_at lw_ms 66 rfl) rfl
theorem qs67 : (Cond.selects "MarketDaysModel" ⟨"MarketDaysModel", "firstBar", "()I"⟩ ⟨"MarketDaysModel", "firstBar", "()I"⟩) ∈ lw_all := lw_g (lw_at lw_ms 67 rfl) rfl
theorem qs68 : (Cond.selects "MarketDaysModel" ⟨"MarketDaysModel", "doBar", "(II)Z"⟩ ⟨"MarketDaysModel", "doBar", "(II)Z"⟩) ∈ lw_all := lw_g (lw_at lw_ms 68 rfl) rfl
theorem qs69 : (Cond.selects "MarketDaysModel" ⟨"MarketDaysModel", "follows", "(II)Z"⟩ ⟨"MarketDaysModel", "follows", "(II)Z"⟩) ∈ lw_all := lw_g (lw_at lw_ms 69 rfl) rfl
theorem qs70 : (Cond.selects "MarketDaysModel" ⟨"MarketDaysModel", "worthAll", "(II)I"⟩ ⟨"MarketDaysModel", "worthAll", "(II)I"⟩) ∈ lw_all := lw_g (lw_at lw_ms 70 rfl) rfl
theorem qs71 : (Cond.selects "MarketDaysModel" ⟨"MarketDaysModel", "worthIn", "(II)I"⟩ ⟨"MarketDaysModel", "worthIn", "(II)I"⟩) ∈ lw_all := lw_g (lw_at lw_ms 71 rfl) rfl
theorem qs72 : (Cond.selects "MarketDaysModel" ⟨"MarketDaysModel", "worthNow", "(I)I"⟩ ⟨"MarketDaysModel", "worthNow", "(I)I"⟩) ∈ lw_all := lw_g (lw_at lw_ms 72 rfl) rfl
theorem qs73 : (Cond.selects "MarketDaysModel" ⟨"MarketDaysModel", "all", "()I"⟩ ⟨"MarketDaysModel", "all", "()I"⟩) ∈ lw_all := lw_g (lw_at lw_ms 73 rfl) rfl
theorem qs74 : (Cond.selects "MarketDaysModel" ⟨"MarketDaysModel", "nextWay", "(IZ)Z"⟩ ⟨"MarketDaysModel", "nextWay", "(IZ)Z"⟩) ∈ lw_all := lw_g (lw_at lw_ms 74 rfl) rfl
theorem qs75 : (Cond.selects "MarketDaysModel" ⟨"MarketDaysModel", "isFree", "(I)Z"⟩ ⟨"MarketDaysModel", "isFree", "(I)Z"⟩) ∈ lw_all := lw_g (lw_at lw_ms 75 rfl) rfl
theorem qs76 : (Cond.selects "MarketDaysModel" ⟨"MarketDaysModel", "worthWay", "()I"⟩ ⟨"MarketDaysModel", "worthWay", "()I"⟩) ∈ lw_all := lw_g (lw_at lw_ms 76 rfl) rfl
theorem qs77 : (Cond.selects "MarketDaysModel" ⟨"MarketDaysModel", "keptWorth", "(IIII)I"⟩ ⟨"MarketDaysModel", "keptWorth", "(IIII)I"⟩) ∈ lw_all := lw_g (lw_at lw_ms 77 rfl) rfl
theorem qs78 : (Cond.selects "MarketDaysModel" ⟨"MarketDaysModel", "others", "(I)I"⟩ ⟨"MarketDaysModel", "others", "(I)I"⟩) ∈ lw_all := lw_g (lw_at lw_ms 78 rfl) rfl
theorem qs79 : (Cond.selects "MarketDaysModel" ⟨"MarketDaysModel", "keeps", "()V"⟩ ⟨"MarketDaysModel", "keeps", "()V"⟩) ∈ lw_all := lw_g (lw_at lw_ms 79 rfl) rfl
theorem qs80 : (Cond.selects "MarketDaysModel" ⟨"MarketDaysModel", "soldBy", "(IIIIII)I"⟩ ⟨"MarketDaysModel", "soldBy", "(IIIIII)I"⟩) ∈ lw_all := lw_g (lw_at lw_ms 80 rfl) rfl
theorem qs81 : (Cond.selects "MarketDaysModel" ⟨"MarketDaysModel", "sold", "(III)I"⟩ ⟨"MarketDaysModel", "sold", "(III)I"⟩) ∈ lw_all := lw_g (lw_at lw_ms 81 rfl) rfl
-- ===== end of PART A; then your names; then what follows =====
