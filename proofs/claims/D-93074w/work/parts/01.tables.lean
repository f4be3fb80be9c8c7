-- ===== PART A: goes FIRST, ahead of the names: the tables' words, and 'selects' of the private methods out of them =====
/-- a private method of a class that the tables say can be made, by its rows of tables_1 -/
def lw_okq (q : MethodName × Nat) : Prop := (q.1.cls ≠ "java/lang/invoke/MethodHandle" ∧ q.1.cls ≠ "java/lang/invoke/VarHandle") ∧ Cond.instantiable q.1.cls q.2 ∈ tables_1 ∧ Cond.privateMethod q.1 ∈ tables_1 ∧ Cond.instanceMethod q.1 ∈ tables_1
set_option maxRecDepth 100000
theorem lw_t1 {w : Cond} (h : w ∈ tables_1_1) : w ∈ tables_1 := List.mem_append_left _ h
theorem lw_t2 {w : Cond} (h : w ∈ tables_1_2) : w ∈ tables_1 := List.mem_append_right _ (List.mem_append_left _ h)
theorem lw_t3 {w : Cond} (h : w ∈ tables_1_3) : w ∈ tables_1 := List.mem_append_right _ (List.mem_append_right _ (List.mem_append_left _ h))
theorem lw_t4 {w : Cond} (h : w ∈ tables_1_4) : w ∈ tables_1 := List.mem_append_right _ (List.mem_append_right _ (List.mem_append_right _ (List.mem_append_left _ h)))
theorem lw_t5 {w : Cond} (h : w ∈ tables_1_5) : w ∈ tables_1 := List.mem_append_right _ (List.mem_append_right _ (List.mem_append_right _ (List.mem_append_right _ (List.mem_append_left _ h))))
theorem lw_t6 {w : Cond} (h : w ∈ tables_1_6) : w ∈ tables_1 := List.mem_append_right _ (List.mem_append_right _ (List.mem_append_right _ (List.mem_append_right _ (List.mem_append_right _ (List.mem_append_left _ h)))))
theorem lw_t7 {w : Cond} (h : w ∈ tables_1_7) : w ∈ tables_1 := List.mem_append_right _ (List.mem_append_right _ (List.mem_append_right _ (List.mem_append_right _ (List.mem_append_right _ (List.mem_append_right _ (List.mem_append_left _ h))))))
theorem lw_t8 {w : Cond} (h : w ∈ tables_1_8) : w ∈ tables_1 := List.mem_append_right _ (List.mem_append_right _ (List.mem_append_right _ (List.mem_append_right _ (List.mem_append_right _ (List.mem_append_right _ (List.mem_append_right _ (List.mem_append_left _ h)))))))
theorem lw_t9 {w : Cond} (h : w ∈ tables_1_9) : w ∈ tables_1 := List.mem_append_right _ (List.mem_append_right _ (List.mem_append_right _ (List.mem_append_right _ (List.mem_append_right _ (List.mem_append_right _ (List.mem_append_right _ (List.mem_append_right _ (List.mem_append_left _ h))))))))
theorem lw_t10 {w : Cond} (h : w ∈ tables_1_10) : w ∈ tables_1 := List.mem_append_right _ (List.mem_append_right _ (List.mem_append_right _ (List.mem_append_right _ (List.mem_append_right _ (List.mem_append_right _ (List.mem_append_right _ (List.mem_append_right _ (List.mem_append_right _ (List.mem_append_left _ h)))))))))
theorem lw_t11 {w : Cond} (h : w ∈ tables_1_11) : w ∈ tables_1 := List.mem_append_right _ (List.mem_append_right _ (List.mem_append_right _ (List.mem_append_right _ (List.mem_append_right _ (List.mem_append_right _ (List.mem_append_right _ (List.mem_append_right _ (List.mem_append_right _ (List.mem_append_right _ h)))))))))
theorem lw_p0 : lw_okq (⟨"java/lang/Throwable", "fillInStackTrace", "(I)Ljava/lang/Throwable;"⟩, 6) := ⟨⟨by decide +kernel, by decide +kernel⟩, lw_t1 (List.mem_of_getElem? (i := 94) rfl), lw_t1 (List.mem_of_getElem? (i := 92) rfl), lw_t1 (List.mem_of_getElem? (i := 93) rfl)⟩
theorem lw_p1 : lw_okq (⟨"NineDemands", "need", "(ZI)V"⟩, 11) := ⟨⟨by decide +kernel, by decide +kernel⟩, lw_t1 (List.mem_of_getElem? (i := 49) rfl), lw_t2 (List.mem_of_getElem? (i := 87) rfl), lw_t2 (List.mem_of_getElem? (i := 88) rfl)⟩
theorem lw_p2 : lw_okq (⟨"NineDemands", "finds", "(LNineDemands$Finding;)I"⟩, 11) := ⟨⟨by decide +kernel, by decide +kernel⟩, lw_t1 (List.mem_of_getElem? (i := 49) rfl), lw_t2 (List.mem_of_getElem? (i := 104) rfl), lw_t2 (List.mem_of_getElem? (i := 105) rfl)⟩
theorem lw_p3 : lw_okq (⟨"NineDemands", "sheetAt", "(I)LNineDemands$Sheet;"⟩, 11) := ⟨⟨by decide +kernel, by decide +kernel⟩, lw_t1 (List.mem_of_getElem? (i := 49) rfl), lw_t2 (List.mem_of_getElem? (i := 134) rfl), lw_t2 (List.mem_of_getElem? (i := 135) rfl)⟩
theorem lw_p4 : lw_okq (⟨"NineDemands", "read", "(LNineDemands$Demand;)LNineDemands$Demand;"⟩, 11) := ⟨⟨by decide +kernel, by decide +kernel⟩, lw_t1 (List.mem_of_getElem? (i := 49) rfl), lw_t3 (List.mem_of_getElem? (i := 80) rfl), lw_t3 (List.mem_of_getElem? (i := 81) rfl)⟩
theorem lw_p5 : lw_okq (⟨"NineDemands$Reader", "either", "()LNineDemands$Term;"⟩, 5) := ⟨⟨by decide +kernel, by decide +kernel⟩, lw_t3 (List.mem_of_getElem? (i := 103) rfl), lw_t4 (List.mem_of_getElem? (i := 128) rfl), lw_t4 (List.mem_of_getElem? (i := 129) rfl)⟩
theorem lw_p6 : lw_okq (⟨"NineDemands$Reader", "both", "()LNineDemands$Term;"⟩, 5) := ⟨⟨by decide +kernel, by decide +kernel⟩, lw_t3 (List.mem_of_getElem? (i := 103) rfl), lw_t4 (List.mem_of_getElem? (i := 132) rfl), lw_t4 (List.mem_of_getElem? (i := 133) rfl)⟩
theorem lw_p7 : lw_okq (⟨"NineDemands$Reader", "relation", "()LNineDemands$Term;"⟩, 5) := ⟨⟨by decide +kernel, by decide +kernel⟩, lw_t3 (List.mem_of_getElem? (i := 103) rfl), lw_t4 (List.mem_of_getElem? (i := 136) rfl), lw_t4 (List.mem_of_getElem? (i := 137) rfl)⟩
theorem lw_p8 : lw_okq (⟨"NineDemands$Reader", "sum", "()LNineDemands$Term;"⟩, 5) := ⟨⟨by decide +kernel, by decide +kernel⟩, lw_t3 (List.mem_of_getElem? (i := 103) rfl), lw_t4 (List.mem_of_getElem? (i := 140) rfl), lw_t4 (List.mem_of_getElem? (i := 141) rfl)⟩
theorem lw_p9 : lw_okq (⟨"NineDemands$Reader", "product", "()LNineDemands$Term;"⟩, 5) := ⟨⟨by decide +kernel, by decide +kernel⟩, lw_t3 (List.mem_of_getElem? (i := 103) rfl), lw_t4 (List.mem_of_getElem? (i := 144) rfl), lw_t4 (List.mem_of_getElem? (i := 145) rfl)⟩
theorem lw_p10 : lw_okq (⟨"NineDemands$Reader", "single", "()LNineDemands$Term;"⟩, 5) := ⟨⟨by decide +kernel, by decide +kernel⟩, lw_t3 (List.mem_of_getElem? (i := 103) rfl), lw_t4 (List.mem_of_getElem? (i := 148) rfl), lw_t4 (List.mem_of_getElem? (i := 149) rfl)⟩
theorem lw_p11 : lw_okq (⟨"NineDemands$Reader", "isOne", "(Ljava/lang/String;)Z"⟩, 5) := ⟨⟨by decide +kernel, by decide +kernel⟩, lw_t3 (List.mem_of_getElem? (i := 103) rfl), lw_t4 (List.mem_of_getElem? (i := 152) rfl), lw_t4 (List.mem_of_getElem? (i := 153) rfl)⟩
theorem lw_p12 : lw_okq (⟨"NineDemands$Reader", "look", "()I"⟩, 5) := ⟨⟨by decide +kernel, by decide +kernel⟩, lw_t3 (List.mem_of_getElem? (i := 103) rfl), lw_t4 (List.mem_of_getElem? (i := 156) rfl), lw_t4 (List.mem_of_getElem? (i := 157) rfl)⟩
theorem lw_p13 : lw_okq (⟨"NineDemands$Reader", "opens", "()V"⟩, 5) := ⟨⟨by decide +kernel, by decide +kernel⟩, lw_t3 (List.mem_of_getElem? (i := 103) rfl), lw_t4 (List.mem_of_getElem? (i := 224) rfl), lw_t4 (List.mem_of_getElem? (i := 225) rfl)⟩
theorem lw_p14 : lw_okq (⟨"NineDemands$Reader", "fault", "(Z)V"⟩, 5) := ⟨⟨by decide +kernel, by decide +kernel⟩, lw_t3 (List.mem_of_getElem? (i := 103) rfl), lw_t4 (List.mem_of_getElem? (i := 228) rfl), lw_t4 (List.mem_of_getElem? (i := 229) rfl)⟩
theorem lw_p15 : lw_okq (⟨"NineDemands$Alike", "pair", "(III)V"⟩, 5) := ⟨⟨by decide +kernel, by decide +kernel⟩, lw_t3 (List.mem_of_getElem? (i := 23) rfl), lw_t5 (List.mem_of_getElem? (i := 112) rfl), lw_t5 (List.mem_of_getElem? (i := 113) rfl)⟩
def lw_privs_1 : List (MethodName × Nat) := [(⟨"java/lang/Throwable", "fillInStackTrace", "(I)Ljava/lang/Throwable;"⟩, 6), (⟨"NineDemands", "need", "(ZI)V"⟩, 11), (⟨"NineDemands", "finds", "(LNineDemands$Finding;)I"⟩, 11), (⟨"NineDemands", "sheetAt", "(I)LNineDemands$Sheet;"⟩, 11), (⟨"NineDemands", "read", "(LNineDemands$Demand;)LNineDemands$Demand;"⟩, 11), (⟨"NineDemands$Reader", "either", "()LNineDemands$Term;"⟩, 5), (⟨"NineDemands$Reader", "both", "()LNineDemands$Term;"⟩, 5), (⟨"NineDemands$Reader", "relation", "()LNineDemands$Term;"⟩, 5), (⟨"NineDemands$Reader", "sum", "()LNineDemands$Term;"⟩, 5), (⟨"NineDemands$Reader", "product", "()LNineDemands$Term;"⟩, 5), (⟨"NineDemands$Reader", "single", "()LNineDemands$Term;"⟩, 5), (⟨"NineDemands$Reader", "isOne", "(Ljava/lang/String;)Z"⟩, 5), (⟨"NineDemands$Reader", "look", "()I"⟩, 5), (⟨"NineDemands$Reader", "opens", "()V"⟩, 5), (⟨"NineDemands$Reader", "fault", "(Z)V"⟩, 5), (⟨"NineDemands$Alike", "pair", "(III)V"⟩, 5)]
theorem lw_r1 : ∀ q ∈ lw_privs_1, lw_okq q := List.forall_mem_cons.mpr ⟨lw_p0, List.forall_mem_cons.mpr ⟨lw_p1, List.forall_mem_cons.mpr ⟨lw_p2, List.forall_mem_cons.mpr ⟨lw_p3, List.forall_mem_cons.mpr ⟨lw_p4, List.forall_mem_cons.mpr ⟨lw_p5, List.forall_mem_cons.mpr ⟨lw_p6, List.forall_mem_cons.mpr ⟨lw_p7, List.forall_mem_cons.mpr ⟨lw_p8, List.forall_mem_cons.mpr ⟨lw_p9, List.forall_mem_cons.mpr ⟨lw_p10, List.forall_mem_cons.mpr ⟨lw_p11, List.forall_mem_cons.mpr ⟨lw_p12, List.forall_mem_cons.mpr ⟨lw_p13, List.forall_mem_cons.mpr ⟨lw_p14, List.forall_mem_cons.mpr ⟨lw_p15, fun _ h => absurd h List.not_mem_nil⟩⟩⟩⟩⟩⟩⟩⟩⟩⟩⟩⟩⟩⟩⟩⟩
theorem lw_p16 : lw_okq (⟨"java/util/ArrayList", "add", "(Ljava/lang/Object;[Ljava/lang/Object;I)V"⟩, 3) := ⟨⟨by decide +kernel, by decide +kernel⟩, lw_t1 (List.mem_of_getElem? (i := 132) rfl), lw_t5 (List.mem_of_getElem? (i := 215) rfl), lw_t5 (List.mem_of_getElem? (i := 216) rfl)⟩
theorem lw_p17 : lw_okq (⟨"java/util/ArrayList", "grow", "()[Ljava/lang/Object;"⟩, 3) := ⟨⟨by decide +kernel, by decide +kernel⟩, lw_t1 (List.mem_of_getElem? (i := 132) rfl), lw_t5 (List.mem_of_getElem? (i := 219) rfl), lw_t5 (List.mem_of_getElem? (i := 220) rfl)⟩
theorem lw_p18 : lw_okq (⟨"java/util/ArrayList", "grow", "(I)[Ljava/lang/Object;"⟩, 3) := ⟨⟨by decide +kernel, by decide +kernel⟩, lw_t1 (List.mem_of_getElem? (i := 132) rfl), lw_t5 (List.mem_of_getElem? (i := 223) rfl), lw_t5 (List.mem_of_getElem? (i := 224) rfl)⟩
theorem lw_p19 : lw_okq (⟨"NineDemands", "isLaw", "(I)Z"⟩, 11) := ⟨⟨by decide +kernel, by decide +kernel⟩, lw_t1 (List.mem_of_getElem? (i := 49) rfl), lw_t6 (List.mem_of_getElem? (i := 36) rfl), lw_t6 (List.mem_of_getElem? (i := 37) rfl)⟩
theorem lw_p20 : lw_okq (⟨"NineDemands", "casesOf", "(II)LNineDemands$Cases;"⟩, 11) := ⟨⟨by decide +kernel, by decide +kernel⟩, lw_t1 (List.mem_of_getElem? (i := 49) rfl), lw_t6 (List.mem_of_getElem? (i := 87) rfl), lw_t6 (List.mem_of_getElem? (i := 88) rfl)⟩
theorem lw_p21 : lw_okq (⟨"NineDemands", "isSet", "(I)Z"⟩, 11) := ⟨⟨by decide +kernel, by decide +kernel⟩, lw_t1 (List.mem_of_getElem? (i := 49) rfl), lw_t6 (List.mem_of_getElem? (i := 126) rfl), lw_t6 (List.mem_of_getElem? (i := 127) rfl)⟩
theorem lw_p22 : lw_okq (⟨"NineDemands", "isOut", "(I)Z"⟩, 11) := ⟨⟨by decide +kernel, by decide +kernel⟩, lw_t1 (List.mem_of_getElem? (i := 49) rfl), lw_t6 (List.mem_of_getElem? (i := 130) rfl), lw_t6 (List.mem_of_getElem? (i := 131) rfl)⟩
theorem lw_p23 : lw_okq (⟨"NineDemands", "weave", "(I)V"⟩, 11) := ⟨⟨by decide +kernel, by decide +kernel⟩, lw_t1 (List.mem_of_getElem? (i := 49) rfl), lw_t6 (List.mem_of_getElem? (i := 134) rfl), lw_t6 (List.mem_of_getElem? (i := 135) rfl)⟩
theorem lw_p24 : lw_okq (⟨"NineDemands$Search", "finds", "(I)Z"⟩, 5) := ⟨⟨by decide +kernel, by decide +kernel⟩, lw_t1 (List.mem_of_getElem? (i := 211) rfl), lw_t6 (List.mem_of_getElem? (i := 168) rfl), lw_t6 (List.mem_of_getElem? (i := 169) rfl)⟩
theorem lw_p25 : lw_okq (⟨"NineDemands$Search", "passes", "(I)V"⟩, 5) := ⟨⟨by decide +kernel, by decide +kernel⟩, lw_t1 (List.mem_of_getElem? (i := 211) rfl), lw_t6 (List.mem_of_getElem? (i := 173) rfl), lw_t6 (List.mem_of_getElem? (i := 174) rfl)⟩
theorem lw_p26 : lw_okq (⟨"NineDemands$Search", "isLeft", "(II)Z"⟩, 5) := ⟨⟨by decide +kernel, by decide +kernel⟩, lw_t1 (List.mem_of_getElem? (i := 211) rfl), lw_t6 (List.mem_of_getElem? (i := 177) rfl), lw_t6 (List.mem_of_getElem? (i := 178) rfl)⟩
theorem lw_p27 : lw_okq (⟨"NineDemands$Search", "goesOn", "(II)Z"⟩, 5) := ⟨⟨by decide +kernel, by decide +kernel⟩, lw_t1 (List.mem_of_getElem? (i := 211) rfl), lw_t6 (List.mem_of_getElem? (i := 181) rfl), lw_t6 (List.mem_of_getElem? (i := 182) rfl)⟩
theorem lw_p28 : lw_okq (⟨"NineDemands", "boths", "()I"⟩, 11) := ⟨⟨by decide +kernel, by decide +kernel⟩, lw_t1 (List.mem_of_getElem? (i := 49) rfl), lw_t6 (List.mem_of_getElem? (i := 191) rfl), lw_t6 (List.mem_of_getElem? (i := 192) rfl)⟩
theorem lw_p29 : lw_okq (⟨"NineDemands$Search", "counted", "(I)J"⟩, 5) := ⟨⟨by decide +kernel, by decide +kernel⟩, lw_t1 (List.mem_of_getElem? (i := 211) rfl), lw_t6 (List.mem_of_getElem? (i := 209) rfl), lw_t6 (List.mem_of_getElem? (i := 210) rfl)⟩
theorem lw_p30 : lw_okq (⟨"NineDemands$Search", "nears", "(II[I)V"⟩, 5) := ⟨⟨by decide +kernel, by decide +kernel⟩, lw_t1 (List.mem_of_getElem? (i := 211) rfl), lw_t6 (List.mem_of_getElem? (i := 229) rfl), lw_t6 (List.mem_of_getElem? (i := 230) rfl)⟩
theorem lw_p31 : lw_okq (⟨"NineDemands", "fitsForm", "(II)Z"⟩, 11) := ⟨⟨by decide +kernel, by decide +kernel⟩, lw_t1 (List.mem_of_getElem? (i := 49) rfl), lw_t6 (List.mem_of_getElem? (i := 237) rfl), lw_t6 (List.mem_of_getElem? (i := 238) rfl)⟩
def lw_privs_2 : List (MethodName × Nat) := [(⟨"java/util/ArrayList", "add", "(Ljava/lang/Object;[Ljava/lang/Object;I)V"⟩, 3), (⟨"java/util/ArrayList", "grow", "()[Ljava/lang/Object;"⟩, 3), (⟨"java/util/ArrayList", "grow", "(I)[Ljava/lang/Object;"⟩, 3), (⟨"NineDemands", "isLaw", "(I)Z"⟩, 11), (⟨"NineDemands", "casesOf", "(II)LNineDemands$Cases;"⟩, 11), (⟨"NineDemands", "isSet", "(I)Z"⟩, 11), (⟨"NineDemands", "isOut", "(I)Z"⟩, 11), (⟨"NineDemands", "weave", "(I)V"⟩, 11), (⟨"NineDemands$Search", "finds", "(I)Z"⟩, 5), (⟨"NineDemands$Search", "passes", "(I)V"⟩, 5), (⟨"NineDemands$Search", "isLeft", "(II)Z"⟩, 5), (⟨"NineDemands$Search", "goesOn", "(II)Z"⟩, 5), (⟨"NineDemands", "boths", "()I"⟩, 11), (⟨"NineDemands$Search", "counted", "(I)J"⟩, 5), (⟨"NineDemands$Search", "nears", "(II[I)V"⟩, 5), (⟨"NineDemands", "fitsForm", "(II)Z"⟩, 11)]
theorem lw_r2 : ∀ q ∈ lw_privs_2, lw_okq q := List.forall_mem_cons.mpr ⟨lw_p16, List.forall_mem_cons.mpr ⟨lw_p17, List.forall_mem_cons.mpr ⟨lw_p18, List.forall_mem_cons.mpr ⟨lw_p19, List.forall_mem_cons.mpr ⟨lw_p20, List.forall_mem_cons.mpr ⟨lw_p21, List.forall_mem_cons.mpr ⟨lw_p22, List.forall_mem_cons.mpr ⟨lw_p23, List.forall_mem_cons.mpr ⟨lw_p24, List.forall_mem_cons.mpr ⟨lw_p25, List.forall_mem_cons.mpr ⟨lw_p26, List.forall_mem_cons.mpr ⟨lw_p27, List.forall_mem_cons.mpr ⟨lw_p28, List.forall_mem_cons.mpr ⟨lw_p29, List.forall_mem_cons.mpr ⟨lw_p30, List.forall_mem_cons.mpr ⟨lw_p31, fun _ h => absurd h List.not_mem_nil⟩⟩⟩⟩⟩⟩⟩⟩⟩⟩⟩⟩⟩⟩⟩⟩
theorem lw_p32 : lw_okq (⟨"NineDemands$Showing", "strikes", "(LNineDemands$Demand;)V"⟩, 4) := ⟨⟨by decide +kernel, by decide +kernel⟩, lw_t2 (List.mem_of_getElem? (i := 10) rfl), lw_t7 (List.mem_of_getElem? (i := 26) rfl), lw_t7 (List.mem_of_getElem? (i := 27) rfl)⟩
theorem lw_p33 : lw_okq (⟨"NineDemands$Showing", "strikesFirst", "(LNineDemands$Demand;I)V"⟩, 4) := ⟨⟨by decide +kernel, by decide +kernel⟩, lw_t2 (List.mem_of_getElem? (i := 10) rfl), lw_t7 (List.mem_of_getElem? (i := 30) rfl), lw_t7 (List.mem_of_getElem? (i := 31) rfl)⟩
theorem lw_p34 : lw_okq (⟨"NineDemands$Showing", "goesFirst", "(LNineDemands$Demand;II)Z"⟩, 4) := ⟨⟨by decide +kernel, by decide +kernel⟩, lw_t2 (List.mem_of_getElem? (i := 10) rfl), lw_t7 (List.mem_of_getElem? (i := 34) rfl), lw_t7 (List.mem_of_getElem? (i := 35) rfl)⟩
theorem lw_p35 : lw_okq (⟨"NineDemands$Showing", "strikesSecond", "(LNineDemands$Demand;I)V"⟩, 4) := ⟨⟨by decide +kernel, by decide +kernel⟩, lw_t2 (List.mem_of_getElem? (i := 10) rfl), lw_t7 (List.mem_of_getElem? (i := 44) rfl), lw_t7 (List.mem_of_getElem? (i := 45) rfl)⟩
theorem lw_p36 : lw_okq (⟨"NineDemands$Showing", "goesSecond", "(LNineDemands$Demand;II)Z"⟩, 4) := ⟨⟨by decide +kernel, by decide +kernel⟩, lw_t2 (List.mem_of_getElem? (i := 10) rfl), lw_t7 (List.mem_of_getElem? (i := 48) rfl), lw_t7 (List.mem_of_getElem? (i := 49) rfl)⟩
theorem lw_p37 : lw_okq (⟨"NineDemands", "isStep", "(II)Z"⟩, 11) := ⟨⟨by decide +kernel, by decide +kernel⟩, lw_t1 (List.mem_of_getElem? (i := 49) rfl), lw_t7 (List.mem_of_getElem? (i := 57) rfl), lw_t7 (List.mem_of_getElem? (i := 58) rfl)⟩
theorem lw_p38 : lw_okq (⟨"NineDemands", "smallOf", "(I)I"⟩, 11) := ⟨⟨by decide +kernel, by decide +kernel⟩, lw_t1 (List.mem_of_getElem? (i := 49) rfl), lw_t7 (List.mem_of_getElem? (i := 70) rfl), lw_t7 (List.mem_of_getElem? (i := 71) rfl)⟩
theorem lw_p39 : lw_okq (⟨"NineDemands", "fewOf", "()I"⟩, 11) := ⟨⟨by decide +kernel, by decide +kernel⟩, lw_t1 (List.mem_of_getElem? (i := 49) rfl), lw_t7 (List.mem_of_getElem? (i := 84) rfl), lw_t7 (List.mem_of_getElem? (i := 85) rfl)⟩
theorem lw_p40 : lw_okq (⟨"NineDemands", "isLess", "(II)Z"⟩, 11) := ⟨⟨by decide +kernel, by decide +kernel⟩, lw_t1 (List.mem_of_getElem? (i := 49) rfl), lw_t7 (List.mem_of_getElem? (i := 92) rfl), lw_t7 (List.mem_of_getElem? (i := 93) rfl)⟩
theorem lw_p41 : lw_okq (⟨"NineDemands", "holds", "(LNineDemands$Demand;)Z"⟩, 11) := ⟨⟨by decide +kernel, by decide +kernel⟩, lw_t1 (List.mem_of_getElem? (i := 49) rfl), lw_t7 (List.mem_of_getElem? (i := 104) rfl), lw_t7 (List.mem_of_getElem? (i := 105) rfl)⟩
theorem lw_p42 : lw_okq (⟨"NineDemands", "canBe", "(LNineDemands$Cases;III)Z"⟩, 11) := ⟨⟨by decide +kernel, by decide +kernel⟩, lw_t1 (List.mem_of_getElem? (i := 49) rfl), lw_t7 (List.mem_of_getElem? (i := 108) rfl), lw_t7 (List.mem_of_getElem? (i := 109) rfl)⟩
theorem lw_p43 : lw_okq (⟨"NineDemands", "isUnder", "(II)Z"⟩, 11) := ⟨⟨by decide +kernel, by decide +kernel⟩, lw_t1 (List.mem_of_getElem? (i := 49) rfl), lw_t7 (List.mem_of_getElem? (i := 120) rfl), lw_t7 (List.mem_of_getElem? (i := 121) rfl)⟩
theorem lw_p44 : lw_okq (⟨"NineDemandsModel", "addCases", "(II)V"⟩, 33) := ⟨⟨by decide +kernel, by decide +kernel⟩, lw_t8 (List.mem_of_getElem? (i := 208) rfl), lw_t8 (List.mem_of_getElem? (i := 214) rfl), lw_t8 (List.mem_of_getElem? (i := 215) rfl)⟩
theorem lw_p45 : lw_okq (⟨"NineDemandsModel", "addCase", "(III)V"⟩, 33) := ⟨⟨by decide +kernel, by decide +kernel⟩, lw_t8 (List.mem_of_getElem? (i := 208) rfl), lw_t8 (List.mem_of_getElem? (i := 224) rfl), lw_t8 (List.mem_of_getElem? (i := 225) rfl)⟩
theorem lw_p46 : lw_okq (⟨"NineDemandsModel", "finding", "(I)I"⟩, 33) := ⟨⟨by decide +kernel, by decide +kernel⟩, lw_t8 (List.mem_of_getElem? (i := 208) rfl), lw_t9 (List.mem_of_getElem? (i := 102) rfl), lw_t9 (List.mem_of_getElem? (i := 103) rfl)⟩
theorem lw_p47 : lw_okq (⟨"NineDemandsModel", "either", "()V"⟩, 33) := ⟨⟨by decide +kernel, by decide +kernel⟩, lw_t8 (List.mem_of_getElem? (i := 208) rfl), lw_t9 (List.mem_of_getElem? (i := 152) rfl), lw_t9 (List.mem_of_getElem? (i := 153) rfl)⟩
def lw_privs_3 : List (MethodName × Nat) := [(⟨"NineDemands$Showing", "strikes", "(LNineDemands$Demand;)V"⟩, 4), (⟨"NineDemands$Showing", "strikesFirst", "(LNineDemands$Demand;I)V"⟩, 4), (⟨"NineDemands$Showing", "goesFirst", "(LNineDemands$Demand;II)Z"⟩, 4), (⟨"NineDemands$Showing", "strikesSecond", "(LNineDemands$Demand;I)V"⟩, 4), (⟨"NineDemands$Showing", "goesSecond", "(LNineDemands$Demand;II)Z"⟩, 4), (⟨"NineDemands", "isStep", "(II)Z"⟩, 11), (⟨"NineDemands", "smallOf", "(I)I"⟩, 11), (⟨"NineDemands", "fewOf", "()I"⟩, 11), (⟨"NineDemands", "isLess", "(II)Z"⟩, 11), (⟨"NineDemands", "holds", "(LNineDemands$Demand;)Z"⟩, 11), (⟨"NineDemands", "canBe", "(LNineDemands$Cases;III)Z"⟩, 11), (⟨"NineDemands", "isUnder", "(II)Z"⟩, 11), (⟨"NineDemandsModel", "addCases", "(II)V"⟩, 33), (⟨"NineDemandsModel", "addCase", "(III)V"⟩, 33), (⟨"NineDemandsModel", "finding", "(I)I"⟩, 33), (⟨"NineDemandsModel", "either", "()V"⟩, 33)]
theorem lw_r3 : ∀ q ∈ lw_privs_3, lw_okq q := List.forall_mem_cons.mpr ⟨lw_p32, List.forall_mem_cons.mpr ⟨lw_p33, List.forall_mem_cons.mpr ⟨lw_p34, List.forall_mem_cons.mpr ⟨lw_p35, List.forall_mem_cons.mpr ⟨lw_p36, List.forall_mem_cons.mpr ⟨lw_p37, List.forall_mem_cons.mpr ⟨lw_p38, List.forall_mem_cons.mpr ⟨lw_p39, List.forall_mem_cons.mpr ⟨lw_p40, List.forall_mem_cons.mpr ⟨lw_p41, List.forall_mem_cons.mpr ⟨lw_p42, List.forall_mem_cons.mpr ⟨lw_p43, List.forall_mem_cons.mpr ⟨lw_p44, List.forall_mem_cons.mpr ⟨lw_p45, List.forall_mem_cons.mpr ⟨lw_p46, List.forall_mem_cons.mpr ⟨lw_p47, fun _ h => absurd h List.not_mem_nil⟩⟩⟩⟩⟩⟩⟩⟩⟩⟩⟩⟩⟩⟩⟩⟩
theorem lw_p48 : lw_okq (⟨"NineDemandsModel", "both", "()V"⟩, 33) := ⟨⟨by decide +kernel, by decide +kernel⟩, lw_t8 (List.mem_of_getElem? (i := 208) rfl), lw_t9 (List.mem_of_getElem? (i := 156) rfl), lw_t9 (List.mem_of_getElem? (i := 157) rfl)⟩
theorem lw_p49 : lw_okq (⟨"NineDemandsModel", "compared", "()V"⟩, 33) := ⟨⟨by decide +kernel, by decide +kernel⟩, lw_t8 (List.mem_of_getElem? (i := 208) rfl), lw_t9 (List.mem_of_getElem? (i := 160) rfl), lw_t9 (List.mem_of_getElem? (i := 161) rfl)⟩
theorem lw_p50 : lw_okq (⟨"NineDemandsModel", "sum", "()V"⟩, 33) := ⟨⟨by decide +kernel, by decide +kernel⟩, lw_t8 (List.mem_of_getElem? (i := 208) rfl), lw_t9 (List.mem_of_getElem? (i := 164) rfl), lw_t9 (List.mem_of_getElem? (i := 165) rfl)⟩
theorem lw_p51 : lw_okq (⟨"NineDemandsModel", "product", "()V"⟩, 33) := ⟨⟨by decide +kernel, by decide +kernel⟩, lw_t8 (List.mem_of_getElem? (i := 208) rfl), lw_t9 (List.mem_of_getElem? (i := 168) rfl), lw_t9 (List.mem_of_getElem? (i := 169) rfl)⟩
theorem lw_p52 : lw_okq (⟨"NineDemandsModel", "one", "()V"⟩, 33) := ⟨⟨by decide +kernel, by decide +kernel⟩, lw_t8 (List.mem_of_getElem? (i := 208) rfl), lw_t9 (List.mem_of_getElem? (i := 172) rfl), lw_t9 (List.mem_of_getElem? (i := 173) rfl)⟩
theorem lw_p53 : lw_okq (⟨"NineDemandsModel", "here", "()I"⟩, 33) := ⟨⟨by decide +kernel, by decide +kernel⟩, lw_t8 (List.mem_of_getElem? (i := 208) rfl), lw_t9 (List.mem_of_getElem? (i := 176) rfl), lw_t9 (List.mem_of_getElem? (i := 177) rfl)⟩
theorem lw_p54 : lw_okq (⟨"NineDemandsModel", "codes", "(I)V"⟩, 33) := ⟨⟨by decide +kernel, by decide +kernel⟩, lw_t8 (List.mem_of_getElem? (i := 208) rfl), lw_t9 (List.mem_of_getElem? (i := 180) rfl), lw_t9 (List.mem_of_getElem? (i := 181) rfl)⟩
theorem lw_p55 : lw_okq (⟨"NineDemandsModel", "takes", "(I)Z"⟩, 33) := ⟨⟨by decide +kernel, by decide +kernel⟩, lw_t8 (List.mem_of_getElem? (i := 208) rfl), lw_t9 (List.mem_of_getElem? (i := 184) rfl), lw_t9 (List.mem_of_getElem? (i := 185) rfl)⟩
theorem lw_p56 : lw_okq (⟨"NineDemandsModel", "tableOf", "(II)I"⟩, 33) := ⟨⟨by decide +kernel, by decide +kernel⟩, lw_t8 (List.mem_of_getElem? (i := 208) rfl), lw_t9 (List.mem_of_getElem? (i := 191) rfl), lw_t9 (List.mem_of_getElem? (i := 192) rfl)⟩
theorem lw_p57 : lw_okq (⟨"NineDemandsModel", "isSo", "(III)Z"⟩, 33) := ⟨⟨by decide +kernel, by decide +kernel⟩, lw_t8 (List.mem_of_getElem? (i := 208) rfl), lw_t9 (List.mem_of_getElem? (i := 195) rfl), lw_t9 (List.mem_of_getElem? (i := 196) rfl)⟩
theorem lw_p58 : lw_okq (⟨"NineDemandsModel", "isText", "()Z"⟩, 33) := ⟨⟨by decide +kernel, by decide +kernel⟩, lw_t8 (List.mem_of_getElem? (i := 208) rfl), lw_t9 (List.mem_of_getElem? (i := 199) rfl), lw_t9 (List.mem_of_getElem? (i := 200) rfl)⟩
theorem lw_p59 : lw_okq (⟨"NineDemandsModel", "named", "(I)I"⟩, 33) := ⟨⟨by decide +kernel, by decide +kernel⟩, lw_t8 (List.mem_of_getElem? (i := 208) rfl), lw_t9 (List.mem_of_getElem? (i := 203) rfl), lw_t9 (List.mem_of_getElem? (i := 204) rfl)⟩
theorem lw_p60 : lw_okq (⟨"NineDemandsModel", "isLaw", "(I)Z"⟩, 33) := ⟨⟨by decide +kernel, by decide +kernel⟩, lw_t8 (List.mem_of_getElem? (i := 208) rfl), lw_t9 (List.mem_of_getElem? (i := 214) rfl), lw_t9 (List.mem_of_getElem? (i := 215) rfl)⟩
theorem lw_p61 : lw_okq (⟨"NineDemandsModel", "kindOf", "(I)I"⟩, 33) := ⟨⟨by decide +kernel, by decide +kernel⟩, lw_t8 (List.mem_of_getElem? (i := 208) rfl), lw_t9 (List.mem_of_getElem? (i := 222) rfl), lw_t9 (List.mem_of_getElem? (i := 223) rfl)⟩
theorem lw_p62 : lw_okq (⟨"NineDemandsModel", "casesOf", "(I)I"⟩, 33) := ⟨⟨by decide +kernel, by decide +kernel⟩, lw_t8 (List.mem_of_getElem? (i := 208) rfl), lw_t9 (List.mem_of_getElem? (i := 229) rfl), lw_t9 (List.mem_of_getElem? (i := 230) rfl)⟩
theorem lw_p63 : lw_okq (⟨"NineDemandsModel", "isCase", "(II)Z"⟩, 33) := ⟨⟨by decide +kernel, by decide +kernel⟩, lw_t8 (List.mem_of_getElem? (i := 208) rfl), lw_t9 (List.mem_of_getElem? (i := 237) rfl), lw_t9 (List.mem_of_getElem? (i := 238) rfl)⟩
def lw_privs_4 : List (MethodName × Nat) := [(⟨"NineDemandsModel", "both", "()V"⟩, 33), (⟨"NineDemandsModel", "compared", "()V"⟩, 33), (⟨"NineDemandsModel", "sum", "()V"⟩, 33), (⟨"NineDemandsModel", "product", "()V"⟩, 33), (⟨"NineDemandsModel", "one", "()V"⟩, 33), (⟨"NineDemandsModel", "here", "()I"⟩, 33), (⟨"NineDemandsModel", "codes", "(I)V"⟩, 33), (⟨"NineDemandsModel", "takes", "(I)Z"⟩, 33), (⟨"NineDemandsModel", "tableOf", "(II)I"⟩, 33), (⟨"NineDemandsModel", "isSo", "(III)Z"⟩, 33), (⟨"NineDemandsModel", "isText", "()Z"⟩, 33), (⟨"NineDemandsModel", "named", "(I)I"⟩, 33), (⟨"NineDemandsModel", "isLaw", "(I)Z"⟩, 33), (⟨"NineDemandsModel", "kindOf", "(I)I"⟩, 33), (⟨"NineDemandsModel", "casesOf", "(I)I"⟩, 33), (⟨"NineDemandsModel", "isCase", "(II)Z"⟩, 33)]
theorem lw_r4 : ∀ q ∈ lw_privs_4, lw_okq q := List.forall_mem_cons.mpr ⟨lw_p48, List.forall_mem_cons.mpr ⟨lw_p49, List.forall_mem_cons.mpr ⟨lw_p50, List.forall_mem_cons.mpr ⟨lw_p51, List.forall_mem_cons.mpr ⟨lw_p52, List.forall_mem_cons.mpr ⟨lw_p53, List.forall_mem_cons.mpr ⟨lw_p54, List.forall_mem_cons.mpr ⟨lw_p55, List.forall_mem_cons.mpr ⟨lw_p56, List.forall_mem_cons.mpr ⟨lw_p57, List.forall_mem_cons.mpr ⟨lw_p58, List.forall_mem_cons.mpr ⟨lw_p59, List.forall_mem_cons.mpr ⟨lw_p60, List.forall_mem_cons.mpr ⟨lw_p61, List.forall_mem_cons.mpr ⟨lw_p62, List.forall_mem_cons.mpr ⟨lw_p63, fun _ h => absurd h List.not_mem_nil⟩⟩⟩⟩⟩⟩⟩⟩⟩⟩⟩⟩⟩⟩⟩⟩
theorem lw_p64 : lw_okq (⟨"NineDemandsModel", "hallOf", "(II)I"⟩, 33) := ⟨⟨by decide +kernel, by decide +kernel⟩, lw_t8 (List.mem_of_getElem? (i := 208) rfl), lw_t10 (List.mem_of_getElem? (i := 1) rfl), lw_t10 (List.mem_of_getElem? (i := 2) rfl)⟩
theorem lw_p65 : lw_okq (⟨"NineDemandsModel", "hasOther", "(I)Z"⟩, 33) := ⟨⟨by decide +kernel, by decide +kernel⟩, lw_t8 (List.mem_of_getElem? (i := 208) rfl), lw_t10 (List.mem_of_getElem? (i := 5) rfl), lw_t10 (List.mem_of_getElem? (i := 6) rfl)⟩
theorem lw_p66 : lw_okq (⟨"NineDemandsModel", "otherOf", "(II)I"⟩, 33) := ⟨⟨by decide +kernel, by decide +kernel⟩, lw_t8 (List.mem_of_getElem? (i := 208) rfl), lw_t10 (List.mem_of_getElem? (i := 9) rfl), lw_t10 (List.mem_of_getElem? (i := 10) rfl)⟩
theorem lw_p67 : lw_okq (⟨"NineDemandsModel", "goes", "(IIII)Z"⟩, 33) := ⟨⟨by decide +kernel, by decide +kernel⟩, lw_t8 (List.mem_of_getElem? (i := 208) rfl), lw_t10 (List.mem_of_getElem? (i := 17) rfl), lw_t10 (List.mem_of_getElem? (i := 18) rfl)⟩
theorem lw_p68 : lw_okq (⟨"NineDemandsModel", "broken", "(I[II)I"⟩, 33) := ⟨⟨by decide +kernel, by decide +kernel⟩, lw_t8 (List.mem_of_getElem? (i := 208) rfl), lw_t10 (List.mem_of_getElem? (i := 28) rfl), lw_t10 (List.mem_of_getElem? (i := 29) rfl)⟩
theorem lw_p69 : lw_okq (⟨"NineDemandsModel", "isSet", "(I)Z"⟩, 33) := ⟨⟨by decide +kernel, by decide +kernel⟩, lw_t8 (List.mem_of_getElem? (i := 208) rfl), lw_t10 (List.mem_of_getElem? (i := 40) rfl), lw_t10 (List.mem_of_getElem? (i := 41) rfl)⟩
theorem lw_p70 : lw_okq (⟨"NineDemandsModel", "fitsSome", "(I)Z"⟩, 33) := ⟨⟨by decide +kernel, by decide +kernel⟩, lw_t8 (List.mem_of_getElem? (i := 208) rfl), lw_t10 (List.mem_of_getElem? (i := 44) rfl), lw_t10 (List.mem_of_getElem? (i := 45) rfl)⟩
theorem lw_p71 : lw_okq (⟨"NineDemandsModel", "gather", "(I)V"⟩, 33) := ⟨⟨by decide +kernel, by decide +kernel⟩, lw_t8 (List.mem_of_getElem? (i := 208) rfl), lw_t10 (List.mem_of_getElem? (i := 48) rfl), lw_t10 (List.mem_of_getElem? (i := 49) rfl)⟩
theorem lw_p72 : lw_okq (⟨"NineDemandsModel", "seek", "(II)Z"⟩, 33) := ⟨⟨by decide +kernel, by decide +kernel⟩, lw_t8 (List.mem_of_getElem? (i := 208) rfl), lw_t10 (List.mem_of_getElem? (i := 55) rfl), lw_t10 (List.mem_of_getElem? (i := 56) rfl)⟩
theorem lw_p73 : lw_okq (⟨"NineDemandsModel", "fitsAhead", "(III)Z"⟩, 33) := ⟨⟨by decide +kernel, by decide +kernel⟩, lw_t8 (List.mem_of_getElem? (i := 208) rfl), lw_t10 (List.mem_of_getElem? (i := 59) rfl), lw_t10 (List.mem_of_getElem? (i := 60) rfl)⟩
theorem lw_p74 : lw_okq (⟨"NineDemandsModel", "countFrom", "(I)J"⟩, 33) := ⟨⟨by decide +kernel, by decide +kernel⟩, lw_t8 (List.mem_of_getElem? (i := 208) rfl), lw_t10 (List.mem_of_getElem? (i := 71) rfl), lw_t10 (List.mem_of_getElem? (i := 72) rfl)⟩
theorem lw_p75 : lw_okq (⟨"NineDemandsModel", "waysBy", "(I)I"⟩, 33) := ⟨⟨by decide +kernel, by decide +kernel⟩, lw_t8 (List.mem_of_getElem? (i := 208) rfl), lw_t10 (List.mem_of_getElem? (i := 75) rfl), lw_t10 (List.mem_of_getElem? (i := 76) rfl)⟩
theorem lw_p76 : lw_okq (⟨"NineDemandsModel", "seekNear", "(II)Z"⟩, 33) := ⟨⟨by decide +kernel, by decide +kernel⟩, lw_t8 (List.mem_of_getElem? (i := 208) rfl), lw_t10 (List.mem_of_getElem? (i := 87) rfl), lw_t10 (List.mem_of_getElem? (i := 88) rfl)⟩
theorem lw_p77 : lw_okq (⟨"NineDemandsModel", "showing", "(I)V"⟩, 33) := ⟨⟨by decide +kernel, by decide +kernel⟩, lw_t8 (List.mem_of_getElem? (i := 208) rfl), lw_t10 (List.mem_of_getElem? (i := 99) rfl), lw_t10 (List.mem_of_getElem? (i := 100) rfl)⟩
theorem lw_p78 : lw_okq (⟨"NineDemandsModel", "begin", "()V"⟩, 33) := ⟨⟨by decide +kernel, by decide +kernel⟩, lw_t8 (List.mem_of_getElem? (i := 208) rfl), lw_t10 (List.mem_of_getElem? (i := 103) rfl), lw_t10 (List.mem_of_getElem? (i := 104) rfl)⟩
theorem lw_p79 : lw_okq (⟨"NineDemandsModel", "isEmpty", "()Z"⟩, 33) := ⟨⟨by decide +kernel, by decide +kernel⟩, lw_t8 (List.mem_of_getElem? (i := 208) rfl), lw_t10 (List.mem_of_getElem? (i := 107) rfl), lw_t10 (List.mem_of_getElem? (i := 108) rfl)⟩
def lw_privs_5 : List (MethodName × Nat) := [(⟨"NineDemandsModel", "hallOf", "(II)I"⟩, 33), (⟨"NineDemandsModel", "hasOther", "(I)Z"⟩, 33), (⟨"NineDemandsModel", "otherOf", "(II)I"⟩, 33), (⟨"NineDemandsModel", "goes", "(IIII)Z"⟩, 33), (⟨"NineDemandsModel", "broken", "(I[II)I"⟩, 33), (⟨"NineDemandsModel", "isSet", "(I)Z"⟩, 33), (⟨"NineDemandsModel", "fitsSome", "(I)Z"⟩, 33), (⟨"NineDemandsModel", "gather", "(I)V"⟩, 33), (⟨"NineDemandsModel", "seek", "(II)Z"⟩, 33), (⟨"NineDemandsModel", "fitsAhead", "(III)Z"⟩, 33), (⟨"NineDemandsModel", "countFrom", "(I)J"⟩, 33), (⟨"NineDemandsModel", "waysBy", "(I)I"⟩, 33), (⟨"NineDemandsModel", "seekNear", "(II)Z"⟩, 33), (⟨"NineDemandsModel", "showing", "(I)V"⟩, 33), (⟨"NineDemandsModel", "begin", "()V"⟩, 33), (⟨"NineDemandsModel", "isEmpty", "()Z"⟩, 33)]
theorem lw_r5 : ∀ q ∈ lw_privs_5, lw_okq q := List.forall_mem_cons.mpr ⟨lw_p64, List.forall_mem_cons.mpr ⟨lw_p65, List.forall_mem_cons.mpr ⟨lw_p66, List.forall_mem_cons.mpr ⟨lw_p67, List.forall_mem_cons.mpr ⟨lw_p68, List.forall_mem_cons.mpr ⟨lw_p69, List.forall_mem_cons.mpr ⟨lw_p70, List.forall_mem_cons.mpr ⟨lw_p71, List.forall_mem_cons.mpr ⟨lw_p72, List.forall_mem_cons.mpr ⟨lw_p73, List.forall_mem_cons.mpr ⟨lw_p74, List.forall_mem_cons.mpr ⟨lw_p75, List.forall_mem_cons.mpr ⟨lw_p76, List.forall_mem_cons.mpr ⟨lw_p77, List.forall_mem_cons.mpr ⟨lw_p78, List.forall_mem_cons.mpr ⟨lw_p79, fun _ h => absurd h List.not_mem_nil⟩⟩⟩⟩⟩⟩⟩⟩⟩⟩⟩⟩⟩⟩⟩⟩
theorem lw_p80 : lw_okq (⟨"NineDemandsModel", "strike", "(IIZ)V"⟩, 33) := ⟨⟨by decide +kernel, by decide +kernel⟩, lw_t8 (List.mem_of_getElem? (i := 208) rfl), lw_t10 (List.mem_of_getElem? (i := 111) rfl), lw_t10 (List.mem_of_getElem? (i := 112) rfl)⟩
theorem lw_p81 : lw_okq (⟨"NineDemandsModel", "goesOn", "(IIZI)Z"⟩, 33) := ⟨⟨by decide +kernel, by decide +kernel⟩, lw_t8 (List.mem_of_getElem? (i := 208) rfl), lw_t10 (List.mem_of_getElem? (i := 115) rfl), lw_t10 (List.mem_of_getElem? (i := 116) rfl)⟩
theorem lw_p82 : lw_okq (⟨"NineDemandsModel", "followsNow", "(II)Z"⟩, 33) := ⟨⟨by decide +kernel, by decide +kernel⟩, lw_t8 (List.mem_of_getElem? (i := 208) rfl), lw_t10 (List.mem_of_getElem? (i := 123) rfl), lw_t10 (List.mem_of_getElem? (i := 124) rfl)⟩
theorem lw_p83 : lw_okq (⟨"NineDemandsModel", "priceOf", "(I)I"⟩, 33) := ⟨⟨by decide +kernel, by decide +kernel⟩, lw_t8 (List.mem_of_getElem? (i := 208) rfl), lw_t10 (List.mem_of_getElem? (i := 143) rfl), lw_t10 (List.mem_of_getElem? (i := 144) rfl)⟩
theorem lw_p84 : lw_okq (⟨"NineDemandsModel", "isFollowing", "(II)Z"⟩, 33) := ⟨⟨by decide +kernel, by decide +kernel⟩, lw_t8 (List.mem_of_getElem? (i := 208) rfl), lw_t10 (List.mem_of_getElem? (i := 151) rfl), lw_t10 (List.mem_of_getElem? (i := 152) rfl)⟩
theorem lw_p85 : lw_okq (⟨"NineDemandsModel", "allFollow", "(II)Z"⟩, 33) := ⟨⟨by decide +kernel, by decide +kernel⟩, lw_t8 (List.mem_of_getElem? (i := 208) rfl), lw_t10 (List.mem_of_getElem? (i := 164) rfl), lw_t10 (List.mem_of_getElem? (i := 165) rfl)⟩
theorem lw_p86 : lw_okq (⟨"NineDemandsModel", "voiced", "(II)I"⟩, 33) := ⟨⟨by decide +kernel, by decide +kernel⟩, lw_t8 (List.mem_of_getElem? (i := 208) rfl), lw_t10 (List.mem_of_getElem? (i := 172) rfl), lw_t10 (List.mem_of_getElem? (i := 173) rfl)⟩
theorem lw_p87 : lw_okq (⟨"NineDemandsModel", "bodyFrom", "(III)I"⟩, 33) := ⟨⟨by decide +kernel, by decide +kernel⟩, lw_t8 (List.mem_of_getElem? (i := 208) rfl), lw_t10 (List.mem_of_getElem? (i := 176) rfl), lw_t10 (List.mem_of_getElem? (i := 177) rfl)⟩
theorem lw_p88 : lw_okq (⟨"NineDemandsModel", "body", "(III)I"⟩, 33) := ⟨⟨by decide +kernel, by decide +kernel⟩, lw_t8 (List.mem_of_getElem? (i := 208) rfl), lw_t10 (List.mem_of_getElem? (i := 183) rfl), lw_t10 (List.mem_of_getElem? (i := 184) rfl)⟩
theorem lw_p89 : lw_okq (⟨"NineDemandsModel", "began", "(I)V"⟩, 33) := ⟨⟨by decide +kernel, by decide +kernel⟩, lw_t8 (List.mem_of_getElem? (i := 208) rfl), lw_t10 (List.mem_of_getElem? (i := 187) rfl), lw_t10 (List.mem_of_getElem? (i := 188) rfl)⟩
def lw_privs_6 : List (MethodName × Nat) := [(⟨"NineDemandsModel", "strike", "(IIZ)V"⟩, 33), (⟨"NineDemandsModel", "goesOn", "(IIZI)Z"⟩, 33), (⟨"NineDemandsModel", "followsNow", "(II)Z"⟩, 33), (⟨"NineDemandsModel", "priceOf", "(I)I"⟩, 33), (⟨"NineDemandsModel", "isFollowing", "(II)Z"⟩, 33), (⟨"NineDemandsModel", "allFollow", "(II)Z"⟩, 33), (⟨"NineDemandsModel", "voiced", "(II)I"⟩, 33), (⟨"NineDemandsModel", "bodyFrom", "(III)I"⟩, 33), (⟨"NineDemandsModel", "body", "(III)I"⟩, 33), (⟨"NineDemandsModel", "began", "(I)V"⟩, 33)]
theorem lw_r6 : ∀ q ∈ lw_privs_6, lw_okq q := List.forall_mem_cons.mpr ⟨lw_p80, List.forall_mem_cons.mpr ⟨lw_p81, List.forall_mem_cons.mpr ⟨lw_p82, List.forall_mem_cons.mpr ⟨lw_p83, List.forall_mem_cons.mpr ⟨lw_p84, List.forall_mem_cons.mpr ⟨lw_p85, List.forall_mem_cons.mpr ⟨lw_p86, List.forall_mem_cons.mpr ⟨lw_p87, List.forall_mem_cons.mpr ⟨lw_p88, List.forall_mem_cons.mpr ⟨lw_p89, fun _ h => absurd h List.not_mem_nil⟩⟩⟩⟩⟩⟩⟩⟩⟩⟩
def lw_privs : List (MethodName × Nat) := lw_privs_1 ++ (lw_privs_2 ++ (lw_privs_3 ++ (lw_privs_4 ++ (lw_privs_5 ++ (lw_privs_6)))))
def lw_tbl : List Cond := k2_sels lw_privs ++ tables_1
theorem lw_privs_ok : ∀ q ∈ lw_privs, lw_okq q := by
  show ∀ q ∈ lw_privs_1 ++ (lw_privs_2 ++ (lw_privs_3 ++ (lw_privs_4 ++ (lw_privs_5 ++ (lw_privs_6))))), lw_okq q
  exact List.forall_mem_append.mpr ⟨lw_r1, List.forall_mem_append.mpr ⟨lw_r2, List.forall_mem_append.mpr ⟨lw_r3, List.forall_mem_append.mpr ⟨lw_r4, List.forall_mem_append.mpr ⟨lw_r5, lw_r6⟩⟩⟩⟩⟩
-- ===== ONE list of words for every method: the tables' words that hold all through a run =====
def lw_all : List Cond := lw_tbl.filter goodWord
/-- a word of the tables by its place: claim/WORDS.tsv -/
theorem lw_w {w : Cond} (i : Nat) (h : lw_tbl[i]? = some w) (g : goodWord w = true) : w ∈ lw_all := List.mem_filter.mpr ⟨List.mem_of_getElem? h, g⟩
theorem lw_all_tbl {w : Cond} (h : w ∈ lw_all) : w ∈ lw_tbl := (List.mem_filter.mp h).1
theorem lw_self : GoodIn lw_all lw_all := fun w h => ⟨h, good_of_word (List.mem_filter.mp h).2⟩
/-- a class's field words, by their places -/
theorem lw_in (ws : List Cond) (ps : List Nat) (hp : ws = ps.filterMap (fun i => lw_tbl[i]?)) (hg : ws.all goodWord = true) : ∀ w ∈ ws, w ∈ lw_all := by
  intro w h
  have h1 := List.all_eq_true.mp hg w h
  rw [hp] at h
  obtain ⟨i, -, hi⟩ := List.mem_filterMap.mp h
  exact lw_w i hi h1
/-- the words of a contract for the method y with code b, L locals, answer r -/
abbrev ws_ (y : MethodName) (b : ByteArray) (L : Nat) (r : Option FieldType) : List Cond := Cond.code y b L r :: lw_all
theorem lw_meth {y : MethodName} {b : ByteArray} {L : Nat} {r : Option FieldType} (h : Cond.code y b L r ∈ lw_all) : GoodIn lw_all (ws_ y b L r) := by
  intro w hw
  rcases List.mem_cons.mp hw with e | e
  · rw [e]
    exact lw_self _ h
  · exact lw_self _ e
theorem lw_app {a c : List Cond} (ha : ∀ w ∈ a, w ∈ lw_all) (hc : GoodIn lw_all c) : GoodIn lw_all (a ++ c) := by
  intro w hw
  rcases List.mem_append.mp hw with e | e
  · exact lw_self w (ha w e)
  · exact hc w e
/-- what a call through an object asks: cwV n hts (lw_V ..) -/
theorem lw_V {own : String} {idx : Nat} {C : String} {y : MethodName} {b : ByteArray} {L : Nat} {r : Option FieldType} (h1 : Cond.methodLink own idx y ∈ lw_all) (h2 : Cond.instanceMethod y ∈ lw_all) (h3 : Cond.selects C y y ∈ lw_all) (h4 : Cond.initialized C ∈ lw_all) (h5 : Cond.code y b L r ∈ lw_all) : GoodIn lw_all (wsV own idx C y (ws_ y b L r)) := by
  refine lw_app ?_ (lw_meth h5)
  intro w hw
  simp only [List.mem_cons, List.not_mem_nil, or_false] at hw
  rcases hw with e | e | e | e
  · rw [e]; exact h1
  · rw [e]; exact h2
  · rw [e]; exact h3
  · rw [e]; exact h4
/-- what a static call asks: va_cwS n hts (lw_S ..) -/
theorem lw_S {own : String} {idx : Nat} {y : MethodName} {b : ByteArray} {L : Nat} {r : Option FieldType} (h1 : Cond.methodLink own idx y ∈ lw_all) (h2 : Cond.static y ∈ lw_all) (h3 : Cond.initialized y.cls ∈ lw_all) (h4 : Cond.code y b L r ∈ lw_all) : GoodIn lw_all (va_wsS own idx y (ws_ y b L r)) := by
  refine lw_app ?_ (lw_meth h4)
  intro w hw
  simp only [List.mem_cons, List.not_mem_nil, or_false] at hw
  rcases hw with e | e | e
  · rw [e]; exact h1
  · rw [e]; exact h2
  · rw [e]; exact h3
/-- the words of a contract for a method WITH HANDLERS (hh: its table) -/
abbrev wsW_ (y : MethodName) (b : ByteArray) (L : Nat) (r : Option FieldType) (hh : List (Nat × Nat × Nat × Nat)) : List Cond := Cond.codeWith y b L r hh :: lw_all
theorem lw_methW {y : MethodName} {b : ByteArray} {L : Nat} {r : Option FieldType} {hh : List (Nat × Nat × Nat × Nat)} (h : Cond.codeWith y b L r hh ∈ lw_all) : GoodIn lw_all (wsW_ y b L r hh) := by
  intro w hw
  rcases List.mem_cons.mp hw with e | e
  · rw [e]
    exact lw_self _ h
  · exact lw_self _ e
/-- any list of words by their places (lw_in), good -/
theorem lw_good {ws : List Cond} (h : ∀ w ∈ ws, w ∈ lw_all) : GoodIn lw_all ws := fun w hw => lw_self w (h w hw)
/-- what a call of a method with handlers asks: vx_cwVW n hts (lw_VW ..), vx_cwSW n hts (lw_SW ..) -/
theorem lw_VW {own : String} {idx : Nat} {C : String} {y : MethodName} {b : ByteArray} {L : Nat} {r : Option FieldType} {hh : List (Nat × Nat × Nat × Nat)} (h1 : Cond.methodLink own idx y ∈ lw_all) (h2 : Cond.instanceMethod y ∈ lw_all) (h3 : Cond.selects C y y ∈ lw_all) (h4 : Cond.initialized C ∈ lw_all) (h5 : Cond.codeWith y b L r hh ∈ lw_all) : GoodIn lw_all (wsV own idx C y (wsW_ y b L r hh)) := by
  refine lw_app ?_ (lw_methW h5)
  intro w hw
  simp only [List.mem_cons, List.not_mem_nil, or_false] at hw
  rcases hw with e | e | e | e
  · rw [e]; exact h1
  · rw [e]; exact h2
  · rw [e]; exact h3
  · rw [e]; exact h4
theorem lw_SW {own : String} {idx : Nat} {y : MethodName} {b : ByteArray} {L : Nat} {r : Option FieldType} {hh : List (Nat × Nat × Nat × Nat)} (h1 : Cond.methodLink own idx y ∈ lw_all) (h2 : Cond.static y ∈ lw_all) (h3 : Cond.initialized y.cls ∈ lw_all) (h4 : Cond.codeWith y b L r hh ∈ lw_all) : GoodIn lw_all (va_wsS own idx y (wsW_ y b L r hh)) := by
  refine lw_app ?_ (lw_methW h4)
  intro w hw
  simp only [List.mem_cons, List.not_mem_nil, or_false] at hw
  rcases hw with e | e | e
  · rw [e]; exact h1
  · rw [e]; exact h2
  · rw [e]; exact h3
/-- a word by its place in its run of the tables -/
theorem lw_at {r : List Cond} (hr : ∀ w ∈ r, w ∈ lw_tbl) {w : Cond} (i : Nat) (h : r[i]? = some w) : w ∈ lw_tbl := hr w (List.mem_of_getElem? h)
theorem lw_g {w : Cond} (h : w ∈ lw_tbl) (g : goodWord w = true) : w ∈ lw_all := List.mem_filter.mpr ⟨h, g⟩
theorem lw_ms : ∀ w ∈ k2_sels lw_privs, w ∈ lw_tbl := fun w h => show w ∈ k2_sels lw_privs ++ tables_1 from List.mem_append_left _ h
theorem lw_m1 : ∀ w ∈ tables_1_1, w ∈ lw_tbl := fun w h => show w ∈ k2_sels lw_privs ++ tables_1 from List.mem_append_right (k2_sels lw_privs) (show w ∈ tables_1 from List.mem_append_left _ h)
theorem lw_m2 : ∀ w ∈ tables_1_2, w ∈ lw_tbl := fun w h => show w ∈ k2_sels lw_privs ++ tables_1 from List.mem_append_right (k2_sels lw_privs) (show w ∈ tables_1 from List.mem_append_right _ (List.mem_append_left _ h))
theorem lw_m3 : ∀ w ∈ tables_1_3, w ∈ lw_tbl := fun w h => show w ∈ k2_sels lw_privs ++ tables_1 from List.mem_append_right (k2_sels lw_privs) (show w ∈ tables_1 from List.mem_append_right _ (List.mem_append_right _ (List.mem_append_left _ h)))
theorem lw_m4 : ∀ w ∈ tables_1_4, w ∈ lw_tbl := fun w h => show w ∈ k2_sels lw_privs ++ tables_1 from List.mem_append_right (k2_sels lw_privs) (show w ∈ tables_1 from List.mem_append_right _ (List.mem_append_right _ (List.mem_append_right _ (List.mem_append_left _ h))))
theorem lw_m5 : ∀ w ∈ tables_1_5, w ∈ lw_tbl := fun w h => show w ∈ k2_sels lw_privs ++ tables_1 from List.mem_append_right (k2_sels lw_privs) (show w ∈ tables_1 from List.mem_append_right _ (List.mem_append_right _ (List.mem_append_right _ (List.mem_append_right _ (List.mem_append_left _ h)))))
theorem lw_m6 : ∀ w ∈ tables_1_6, w ∈ lw_tbl := fun w h => show w ∈ k2_sels lw_privs ++ tables_1 from List.mem_append_right (k2_sels lw_privs) (show w ∈ tables_1 from List.mem_append_right _ (List.mem_append_right _ (List.mem_append_right _ (List.mem_append_right _ (List.mem_append_right _ (List.mem_append_left _ h))))))
theorem lw_m7 : ∀ w ∈ tables_1_7, w ∈ lw_tbl := fun w h => show w ∈ k2_sels lw_privs ++ tables_1 from List.mem_append_right (k2_sels lw_privs) (show w ∈ tables_1 from List.mem_append_right _ (List.mem_append_right _ (List.mem_append_right _ (List.mem_append_right _ (List.mem_append_right _ (List.mem_append_right _ (List.mem_append_left _ h)))))))
theorem lw_m8 : ∀ w ∈ tables_1_8, w ∈ lw_tbl := fun w h => show w ∈ k2_sels lw_privs ++ tables_1 from List.mem_append_right (k2_sels lw_privs) (show w ∈ tables_1 from List.mem_append_right _ (List.mem_append_right _ (List.mem_append_right _ (List.mem_append_right _ (List.mem_append_right _ (List.mem_append_right _ (List.mem_append_right _ (List.mem_append_left _ h))))))))
theorem lw_m9 : ∀ w ∈ tables_1_9, w ∈ lw_tbl := fun w h => show w ∈ k2_sels lw_privs ++ tables_1 from List.mem_append_right (k2_sels lw_privs) (show w ∈ tables_1 from List.mem_append_right _ (List.mem_append_right _ (List.mem_append_right _ (List.mem_append_right _ (List.mem_append_right _ (List.mem_append_right _ (List.mem_append_right _ (List.mem_append_right _ (List.mem_append_left _ h)))))))))
theorem lw_m10 : ∀ w ∈ tables_1_10, w ∈ lw_tbl := fun w h => show w ∈ k2_sels lw_privs ++ tables_1 from List.mem_append_right (k2_sels lw_privs) (show w ∈ tables_1 from List.mem_append_right _ (List.mem_append_right _ (List.mem_append_right _ (List.mem_append_right _ (List.mem_append_right _ (List.mem_append_right _ (List.mem_append_right _ (List.mem_append_right _ (List.mem_append_right _ (List.mem_append_left _ h))))))))))
theorem lw_m11 : ∀ w ∈ tables_1_11, w ∈ lw_tbl := fun w h => show w ∈ k2_sels lw_privs ++ tables_1 from List.mem_append_right (k2_sels lw_privs) (show w ∈ tables_1 from List.mem_append_right _ (List.mem_append_right _ (List.mem_append_right _ (List.mem_append_right _ (List.mem_append_right _ (List.mem_append_right _ (List.mem_append_right _ (List.mem_append_right _ (List.mem_append_right _ (List.mem_append_right _ h))))))))))
theorem qs0 : (Cond.selects "java/lang/Throwable" ⟨"java/lang/Throwable", "fillInStackTrace", "(I)Ljava/lang/Throwable;"⟩ ⟨"java/lang/Throwable", "fillInStackTrace", "(I)Ljava/lang/Throwable;"⟩) ∈ lw_all := lw_g (lw_at lw_ms 0 rfl) rfl
theorem qs1 : (Cond.selects "NineDemands" ⟨"NineDemands", "need", "(ZI)V"⟩ ⟨"NineDemands", "need", "(ZI)V"⟩) ∈ lw_all := lw_g (lw_at lw_ms 1 rfl) rfl
theorem qs2 : (Cond.selects "NineDemands" ⟨"NineDemands", "finds", "(LNineDemands$Finding;)I"⟩ ⟨"NineDemands", "finds", "(LNineDemands$Finding;)I"⟩) ∈ lw_all := lw_g (lw_at lw_ms 2 rfl) rfl
theorem qs3 : (Cond.selects "NineDemands" ⟨"NineDemands", "sheetAt", "(I)LNineDemands$Sheet;"⟩ ⟨"NineDemands", "sheetAt", "(I)LNineDemands$Sheet;"⟩) ∈ lw_all := lw_g (lw_at lw_ms 3 rfl) rfl
theorem qs4 : (Cond.selects "NineDemands" ⟨"NineDemands", "read", "(LNineDemands$Demand;)LNineDemands$Demand;"⟩ ⟨"NineDemands", "read", "(LNineDemands$Demand;)LNineDemands$Demand;"⟩) ∈ lw_all := lw_g (lw_at lw_ms 4 rfl) rfl
theorem qs5 : (Cond.selects "NineDemands$Reader" ⟨"NineDemands$Reader", "either", "()LNineDemands$Term;"⟩ ⟨"NineDemands$Reader", "either", "()LNineDemands$Term;"⟩) ∈ lw_all := lw_g (lw_at lw_ms 5 rfl) rfl
theorem qs6 : (Cond.selects "NineDemands$Reader" ⟨"NineDemands$Reader", "both", "()LNineDemands$Term;"⟩ ⟨"NineDemands$Reader", "both", "()LNineDemands$Term;"⟩) ∈ lw_all := lw_g (lw_at lw_ms 6 rfl) rfl
theorem qs7 : (Cond.selects "NineDemands$Reader" ⟨"NineDemands$Reader", "relation", "()LNineDemands$Term;"⟩ ⟨"NineDemands$Reader", "relation", "()LNineDemands$Term;"⟩) ∈ lw_all := lw_g (lw_at lw_ms 7 rfl) rfl
theorem qs8 : (Cond.selects "NineDemands$Reader" ⟨"NineDemands$Reader", "sum", "()LNineDemands$Term;"⟩ ⟨"NineDemands$Reader", "sum", "()LNineDemands$Term;"⟩) ∈ lw_all := lw_g (lw_at lw_ms 8 rfl) rfl
theorem qs9 : (Cond.selects "NineDemands$Reader" ⟨"NineDemands$Reader", "product", "()LNineDemands$Term;"⟩ ⟨"NineDemands$Reader", "product", "()LNineDemands$Term;"⟩) ∈ lw_all := lw_g (lw_at lw_ms 9 rfl) rfl
theorem qs10 : (Cond.selects "NineDemands$Reader" ⟨"NineDemands$Reader", "single", "()LNineDemands$Term;"⟩ ⟨"NineDemands$Reader", "single", "()LNineDemands$Term;"⟩) ∈ lw_all := lw_g (lw_at lw_ms 10 rfl) rfl
theorem qs11 : (Cond.selects "NineDemands$Reader" ⟨"NineDemands$Reader", "isOne", "(Ljava/lang/String;)Z"⟩ ⟨"NineDemands$Reader", "isOne", "(Ljava/lang/String;)Z"⟩) ∈ lw_all := lw_g (lw_at lw_ms 11 rfl) rfl
theorem qs12 : (Cond.selects "NineDemands$Reader" ⟨"NineDemands$Reader", "look", "()I"⟩ ⟨"NineDemands$Reader", "look", "()I"⟩) ∈ lw_all := lw_g (lw_at lw_ms 12 rfl) rfl
theorem qs13 : (Cond.selects "NineDemands$Reader" ⟨"NineDemands$Reader", "opens", "()V"⟩ ⟨"NineDemands$Reader", "opens", "()V"⟩) ∈ lw_all := lw_g (lw_at lw_ms 13 rfl) rfl
theorem qs14 : (Cond.selects "NineDemands$Reader" ⟨"NineDemands$Reader", "fault", "(Z)V"⟩ ⟨"NineDemands$Reader", "fault", "(Z)V"⟩) ∈ lw_all := lw_g (lw_at lw_ms 14 rfl) rfl
theorem qs15 : (Cond.selects "NineDemands$Alike" ⟨"NineDemands$Alike", "pair", "(III)V"⟩ ⟨"NineDemands$Alike", "pair", "(III)V"⟩) ∈ lw_all := lw_g (lw_at lw_ms 15 rfl) rfl
theorem qs16 : (Cond.selects "java/util/ArrayList" ⟨"java/util/ArrayList", "add", "(Ljava/lang/Object;[Ljava/lang/Object;I)V"⟩ ⟨"java/util/ArrayList", "add", "(Ljava/lang/Object;[Ljava/lang/Object;I)V"⟩) ∈ lw_all := lw_g (lw_at lw_ms 16 rfl) rfl
theorem qs17 : (Cond.selects "java/util/ArrayList" ⟨"java/util/ArrayList", "grow", "()[Ljava/lang/Object;"⟩ ⟨"java/util/ArrayList", "grow", "()[Ljava/lang/Object;"⟩) ∈ lw_all := lw_g (lw_at lw_ms 17 rfl) rfl
theorem qs18 : (Cond.selects "java/util/ArrayList" ⟨"java/util/ArrayList", "grow", "(I)[Ljava/lang/Object;"⟩ ⟨"java/util/ArrayList", "grow", "(I)[Ljava/lang/Object;"⟩) ∈ lw_all := lw_g (lw_at lw_ms 18 rfl) rfl
theorem qs19 : (Cond.selects "NineDemands" ⟨"NineDemands", "isLaw", "(I)Z"⟩ ⟨"NineDemands", "isLaw", "(I)Z"⟩) ∈ lw_all := lw_g (lw_at lw_ms 19 rfl) rfl
theorem qs20 : (Cond.selects "NineDemands" ⟨"NineDemands", "casesOf", "(II)LNineDemands$Cases;"⟩ ⟨"NineDemands", "casesOf", "(II)LNineDemands$Cases;"⟩) ∈ lw_all := lw_g (lw_at lw_ms 20 rfl) rfl
theorem qs21 : (Cond.selects "NineDemands" ⟨"NineDemands", "isSet", "(I)Z"⟩ ⟨"NineDemands", "isSet", "(I)Z"⟩) ∈ lw_all := lw_g (lw_at lw_ms 21 rfl) rfl
theorem qs22 : (Cond.selects "NineDemands" ⟨"NineDemands", "isOut", "(I)Z"⟩ ⟨"NineDemands", "isOut", "(I)Z"⟩) ∈ lw_all := lw_g (lw_at lw_ms 22 rfl) rfl
theorem qs23 : (Cond.selects "NineDemands" ⟨"NineDemands", "weave", "(I)V"⟩ ⟨"NineDemands", "weave", "(I)V"⟩) ∈ lw_all := lw_g (lw_at lw_ms 23 rfl) rfl
theorem qs24 : (Cond.selects "NineDemands$Search" ⟨"NineDemands$Search", "finds", "(I)Z"⟩ ⟨"NineDemands$Search", "finds", "(I)Z"⟩) ∈ lw_all := lw_g (lw_at lw_ms 24 rfl) rfl
theorem qs25 : (Cond.selects "NineDemands$Search" ⟨"NineDemands$Search", "passes", "(I)V"⟩ ⟨"NineDemands$Search", "passes", "(I)V"⟩) ∈ lw_all := lw_g (lw_at lw_ms 25 rfl) rfl
theorem qs26 : (Cond.selects "NineDemands$Search" ⟨"NineDemands$Search", "isLeft", "(II)Z"⟩ ⟨"NineDemands$Search", "isLeft", "(II)Z"⟩) ∈ lw_all := lw_g (lw_at lw_ms 26 rfl) rfl
theorem qs27 : (Cond.selects "NineDemands$Search" ⟨"NineDemands$Search", "goesOn", "(II)Z"⟩ ⟨"NineDemands$Search", "goesOn", "(II)Z"⟩) ∈ lw_all := lw_g (lw_at lw_ms 27 rfl) rfl
theorem qs28 : (Cond.selects "NineDemands" ⟨"NineDemands", "boths", "()I"⟩ ⟨"NineDemands", "boths", "()I"⟩) ∈ lw_all := lw_g (lw_at lw_ms 28 rfl) rfl
theorem qs29 : (Cond.selects "NineDemands$Search" ⟨"NineDemands$Search", "counted", "(I)J"⟩ ⟨"NineDemands$Search", "counted", "(I)J"⟩) ∈ lw_all := lw_g (lw_at lw_ms 29 rfl) rfl
theorem qs30 : (Cond.selects "NineDemands$Search" ⟨"NineDemands$Search", "nears", "(II[I)V"⟩ ⟨"NineDemands$Search", "nears", "(II[I)V"⟩) ∈ lw_all := lw_g (lw_at lw_ms 30 rfl) rfl
theorem qs31 : (Cond.selects "NineDemands" ⟨"NineDemands", "fitsForm", "(II)Z"⟩ ⟨"NineDemands", "fitsForm", "(II)Z"⟩) ∈ lw_all := lw_g (lw_at lw_ms 31 rfl) rfl
theorem qs32 : (Cond.selects "NineDemands$Showing" ⟨"NineDemands$Showing", "strikes", "(LNineDemands$Demand;)V"⟩ ⟨"NineDemands$Showing", "strikes", "(LNineDemands$Demand;)V"⟩) ∈ lw_all := lw_g (lw_at lw_ms 32 rfl) rfl
theorem qs33 : (Cond.selects "NineDemands$Showing" ⟨"NineDemands$Showing", "strikesFirst", "(LNineDemands$Demand;I)V"⟩ ⟨"NineDemands$Showing", "strikesFirst", "(LNineDemands$Demand;I)V"⟩) ∈ lw_all := lw_g (lw_at lw_ms 33 rfl) rfl
theorem qs34 : (Cond.selects "NineDemands$Showing" ⟨"NineDemands$Showing", "goesFirst", "(LNineDemands$Demand;II)Z"⟩ ⟨"NineDemands$Showing", "goesFirst", "(LNineDemands$Demand;II)Z"⟩) ∈ lw_all := lw_g (lw_at lw_ms 34 rfl) rfl
theorem qs35 : (Cond.selects "NineDemands$Showing" ⟨"NineDemands$Showing", "strikesSecond", "(LNineDemands$Demand;I)V"⟩ ⟨"NineDemands$Showing", "strikesSecond", "(LNineDemands$Demand;I)V"⟩) ∈ lw_all := lw_g (lw_at lw_ms 35 rfl) rfl
theorem qs36 : (Cond.selects "NineDemands$Showing" ⟨"NineDemands$Showing", "goesSecond", "(LNineDemands$Demand;II)Z"⟩ ⟨"NineDemands$Showing", "goesSecond", "(LNineDemands$Demand;II)Z"⟩) ∈ lw_all := lw_g (lw_at lw_ms 36 rfl) rfl
theorem qs37 : (Cond.selects "NineDemands" ⟨"NineDemands", "isStep", "(II)Z"⟩ ⟨"NineDemands", "isStep", "(II)Z"⟩) ∈ lw_all := lw_g (lw_at lw_ms 37 rfl) rfl
theorem qs38 : (Cond.selects "NineDemands" ⟨"NineDemands", "smallOf", "(I)I"⟩ ⟨"NineDemands", "smallOf", "(I)I"⟩) ∈ lw_all := lw_g (lw_at lw_ms 38 rfl) rfl
theorem qs39 : (Cond.selects "NineDemands" ⟨"NineDemands", "fewOf", "()I"⟩ ⟨"NineDemands", "fewOf", "()I"⟩) ∈ lw_all := lw_g (lw_at lw_ms 39 rfl) rfl
theorem qs40 : (Cond.selects "NineDemands" ⟨"NineDemands", "isLess", "(II)Z"⟩ ⟨"NineDemands", "isLess", "(II)Z"⟩) ∈ lw_all := lw_g (lw_at lw_ms 40 rfl) rfl
theorem qs41 : (Cond.selects "NineDemands" ⟨"NineDemands", "holds", "(LNineDemands$Demand;)Z"⟩ ⟨"NineDemands", "holds", "(LNineDemands$Demand;)Z"⟩) ∈ lw_all := lw_g (lw_at lw_ms 41 rfl) rfl
theorem qs42 : (Cond.selects "NineDemands" ⟨"NineDemands", "canBe", "(LNineDemands$Cases;III)Z"⟩ ⟨"NineDemands", "canBe", "(LNineDemands$Cases;III)Z"⟩) ∈ lw_all := lw_g (lw_at lw_ms 42 rfl) rfl
theorem qs43 : (Cond.selects "NineDemands" ⟨"NineDemands", "isUnder", "(II)Z"⟩ ⟨"NineDemands", "isUnder", "(II)Z"⟩) ∈ lw_all := lw_g (lw_at lw_ms 43 rfl) rfl
theorem qs44 : (Cond.selects "NineDemandsModel" ⟨"NineDemandsModel", "addCases", "(II)V"⟩ ⟨"NineDemandsModel", "addCases", "(II)V"⟩) ∈ lw_all := lw_g (lw_at lw_ms 44 rfl) rfl
theorem qs45 : (Cond.selects "NineDemandsModel" ⟨"NineDemandsModel", "addCase", "(III)V"⟩ ⟨"NineDemandsModel", "addCase", "(III)V"⟩) ∈ lw_all := lw_g (lw_at lw_ms 45 rfl) rfl
theorem qs46 : (Cond.selects "NineDemandsModel" ⟨"NineDemandsModel", "finding", "(I)I"⟩ ⟨"NineDemandsModel", "finding", "(I)I"⟩) ∈ lw_all := lw_g (lw_at lw_ms 46 rfl) rfl
theorem qs47 : (Cond.selects "NineDemandsModel" ⟨"NineDemandsModel", "either", "()V"⟩ ⟨"NineDemandsModel", "either", "()V"⟩) ∈ lw_all := lw_g (lw_at lw_ms 47 rfl) rfl
theorem qs48 : (Cond.selects "NineDemandsModel" ⟨"NineDemandsModel", "both", "()V"⟩ ⟨"NineDemandsModel", "both", "()V"⟩) ∈ lw_all := lw_g (lw_at lw_ms 48 rfl) rfl
theorem qs49 : (Cond.selects "NineDemandsModel" ⟨"NineDemandsModel", "compared", "()V"⟩ ⟨"NineDemandsModel", "compared", "()V"⟩) ∈ lw_all := lw_g (lw_at lw_ms 49 rfl) rfl
theorem qs50 : (Cond.selects "NineDemandsModel" ⟨"NineDemandsModel", "sum", "()V"⟩ ⟨"NineDemandsModel", "sum", "()V"⟩) ∈ lw_all := lw_g (lw_at lw_ms 50 rfl) rfl
theorem qs51 : (Cond.selects "NineDemandsModel" ⟨"NineDemandsModel", "product", "()V"⟩ ⟨"NineDemandsModel", "product", "()V"⟩) ∈ lw_all := lw_g (lw_at lw_ms 51 rfl) rfl
theorem qs52 : (Cond.selects "NineDemandsModel" ⟨"NineDemandsModel", "one", "()V"⟩ ⟨"NineDemandsModel", "one", "()V"⟩) ∈ lw_all := lw_g (lw_at lw_ms 52 rfl) rfl
theorem qs53 : (Cond.selects "NineDemandsModel" ⟨"NineDemandsModel", "here", "()I"⟩ ⟨"NineDemandsModel", "here", "()I"⟩) ∈ lw_all := lw_g (lw_at lw_ms 53 rfl) rfl
theorem qs54 : (Cond.selects "NineDemandsModel" ⟨"NineDemandsModel", "codes", "(I)V"⟩ ⟨"NineDemandsModel", "codes", "(I)V"⟩) ∈ lw_all := lw_g (lw_at lw_ms 54 rfl) rfl
theorem qs55 : (Cond.selects "NineDemandsModel" ⟨"NineDemandsModel", "takes", "(I)Z"⟩ ⟨"NineDemandsModel", "takes", "(I)Z"⟩) ∈ lw_all := lw_g (lw_at lw_ms 55 rfl) rfl
theorem qs56 : (Cond.selects "NineDemandsModel" ⟨"NineDemandsModel", "tableOf", "(II)I"⟩ ⟨"NineDemandsModel", "tableOf", "(II)I"⟩) ∈ lw_all := lw_g (lw_at lw_ms 56 rfl) rfl
theorem qs57 : (Cond.selects "NineDemandsModel" ⟨"NineDemandsModel", "isSo", "(III)Z"⟩ ⟨"NineDemandsModel", "isSo", "(III)Z"⟩) ∈ lw_all := lw_g (lw_at lw_ms 57 rfl) rfl
theorem qs58 : (Cond.selects "NineDemandsModel" ⟨"NineDemandsModel", "isText", "()Z"⟩ ⟨"NineDemandsModel", "isText", "()Z"⟩) ∈ lw_all := lw_g (lw_at lw_ms 58 rfl) rfl
theorem qs59 : (Cond.selects "NineDemandsModel" ⟨"NineDemandsModel", "named", "(I)I"⟩ ⟨"NineDemandsModel", "named", "(I)I"⟩) ∈ lw_all := lw_g (lw_at lw_ms 59 rfl) rfl
theorem qs60 : (Cond.selects "NineDemandsModel" ⟨"NineDemandsModel", "isLaw", "(I)Z"⟩ ⟨"NineDemandsModel", "isLaw", "(I)Z"⟩) ∈ lw_all := lw_g (lw_at lw_ms 60 rfl) rfl
theorem qs61 : (Cond.selects "NineDemandsModel" ⟨"NineDemandsModel", "kindOf", "(I)I"⟩ ⟨"NineDemandsModel", "kindOf", "(I)I"⟩) ∈ lw_all := lw_g (lw_at lw_ms 61 rfl) rfl
theorem qs62 : (Cond.selects "NineDemandsModel" ⟨"NineDemandsModel", "casesOf", "(I)I"⟩ ⟨"NineDemandsModel", "casesOf", "(I)I"⟩) ∈ lw_all := lw_g (lw_at lw_ms 62 rfl) rfl
theorem qs63 : (Cond.selects "NineDemandsModel" ⟨"NineDemandsModel", "isCase", "(II)Z"⟩ ⟨"NineDemandsModel", "isCase", "(II)Z"⟩) ∈ lw_all := lw_g (lw_at lw_ms 63 rfl) rfl
theorem qs64 : (Cond.selects "NineDemandsModel" ⟨"NineDemandsModel", "hallOf", "(II)I"⟩ ⟨"NineDemandsModel", "hallOf", "(II)I"⟩) ∈ lw_all := lw_g (lw_at lw_ms 64 rfl) rfl
theorem qs65 : (Cond.selects "NineDemandsModel" ⟨"NineDemandsModel", "hasOther", "(I)Z"⟩ ⟨"NineDemandsModel", "hasOther", "(I)Z"⟩) ∈ lw_all := lw_g (lw_at lw_ms 65 rfl) rfl
theorem qs66 : (Cond.selects "NineDemandsModel" ⟨"NineDemandsModel", "otherOf", "(II)I"⟩ ⟨"NineDemandsModel", "otherOf", "(II)I"⟩) ∈ lw_all := lw_g (lw_at lw_ms 66 rfl) rfl
theorem qs67 : (Cond.selects "NineDemandsModel" ⟨"NineDemandsModel", "goes", "(IIII)Z"⟩ ⟨"NineDemandsModel", "goes", "(IIII)Z"⟩) ∈ lw_all := lw_g (lw_at lw_ms 67 rfl) rfl
theorem qs68 : (Cond.selects "NineDemandsModel" ⟨"NineDemandsModel", "broken", "(I[II)I"⟩ ⟨"NineDemandsModel", "broken", "(I[II)I"⟩) ∈ lw_all := lw_g (lw_at lw_ms 68 rfl) rfl
theorem qs69 : (Cond.selects "NineDemandsModel" ⟨"NineDemandsModel", "isSet", "(I)Z"⟩ ⟨"NineDemandsModel", "isSet", "(I)Z"⟩) ∈ lw_all := lw_g (lw_at lw_ms 69 rfl) rfl
theorem qs70 : (Cond.selects "NineDemandsModel" ⟨"NineDemandsModel", "fitsSome", "(I)Z"⟩ ⟨"NineDemandsModel", "fitsSome", "(I)Z"⟩) ∈ lw_all := lw_g (lw_at lw_ms 70 rfl) rfl
theorem qs71 : (Cond.selects "NineDemandsModel" ⟨"NineDemandsModel", "gather", "(I)V"⟩ ⟨"NineDemandsModel", "gather", "(I)V"⟩) ∈ lw_all := lw_g (lw_at lw_ms 71 rfl) rfl
theorem qs72 : (Cond.selects "NineDemandsModel" ⟨"NineDemandsModel", "seek", "(II)Z"⟩ ⟨"NineDemandsModel", "seek", "(II)Z"⟩) ∈ lw_all := lw_g (lw_at lw_ms 72 rfl) rfl
theorem qs73 : (Cond.selects "NineDemandsModel" ⟨"NineDemandsModel", "fitsAhead", "(III)Z"⟩ ⟨"NineDemandsModel", "fitsAhead", "(III)Z"⟩) ∈ lw_all := lw_g (lw_at lw_ms 73 rfl) rfl
theorem qs74 : (Cond.selects "NineDemandsModel" ⟨"NineDemandsModel", "countFrom", "(I)J"⟩ ⟨"NineDemandsModel", "countFrom", "(I)J"⟩) ∈ lw_all := lw_g (lw_at lw_ms 74 rfl) rfl
theorem qs75 : (Cond.selects "NineDemandsModel" ⟨"NineDemandsModel", "waysBy", "(I)I"⟩ ⟨"NineDemandsModel", "waysBy", "(I)I"⟩) ∈ lw_all := lw_g (lw_at lw_ms 75 rfl) rfl
theorem qs76 : (Cond.selects "NineDemandsModel" ⟨"NineDemandsModel", "seekNear", "(II)Z"⟩ ⟨"NineDemandsModel", "seekNear", "(II)Z"⟩) ∈ lw_all := lw_g (lw_at lw_ms 76 rfl) rfl
theorem qs77 : (Cond.selects "NineDemandsModel" ⟨"NineDemandsModel", "showing", "(I)V"⟩ ⟨"NineDemandsModel", "showing", "(I)V"⟩) ∈ lw_all := lw_g (lw_at lw_ms 77 rfl) rfl
theorem qs78 : (Cond.selects "NineDemandsModel" ⟨"NineDemandsModel", "begin", "()V"⟩ ⟨"NineDemandsModel", "begin", "()V"⟩) ∈ lw_all := lw_g (lw_at lw_ms 78 rfl) rfl
theorem qs79 : (Cond.selects "NineDemandsModel" ⟨"NineDemandsModel", "isEmpty", "()Z"⟩ ⟨"NineDemandsModel", "isEmpty", "()Z"⟩) ∈ lw_all := lw_g (lw_at lw_ms 79 rfl) rfl
theorem qs80 : (Cond.selects "NineDemandsModel" ⟨"NineDemandsModel", "strike", "(IIZ)V"⟩ ⟨"NineDemandsModel", "strike", "(IIZ)V"⟩) ∈ lw_all := lw_g (lw_at lw_ms 80 rfl) rfl
theorem qs81 : (Cond.selects "NineDemandsModel" ⟨"NineDemandsModel", "goesOn", "(IIZI)Z"⟩ ⟨"NineDemandsModel", "goesOn", "(IIZI)Z"⟩) ∈ lw_all := lw_g (lw_at lw_ms 81 rfl) rfl
theorem qs82 : (Cond.selects "NineDemandsModel" ⟨"NineDemandsModel", "followsNow", "(II)Z"⟩ ⟨"NineDemandsModel", "followsNow", "(II)Z"⟩) ∈ lw_all := lw_g (lw_at lw_ms 82 rfl) rfl
theorem qs83 : (Cond.selects "NineDemandsModel" ⟨"NineDemandsModel", "priceOf", "(I)I"⟩ ⟨"NineDemandsModel", "priceOf", "(I)I"⟩) ∈ lw_all := lw_g (lw_at lw_ms 83 rfl) rfl
theorem qs84 : (Cond.selects "NineDemandsModel" ⟨"NineDemandsModel", "isFollowing", "(II)Z"⟩ ⟨"NineDemandsModel", "isFollowing", "(II)Z"⟩) ∈ lw_all := lw_g (lw_at lw_ms 84 rfl) rfl
theorem qs85 : (Cond.selects "NineDemandsModel" ⟨"NineDemandsModel", "allFollow", "(II)Z"⟩ ⟨"NineDemandsModel", "allFollow", "(II)Z"⟩) ∈ lw_all := lw_g (lw_at lw_ms 85 rfl) rfl
theorem qs86 : (Cond.selects "NineDemandsModel" ⟨"NineDemandsModel", "voiced", "(II)I"⟩ ⟨"NineDemandsModel", "voiced", "(II)I"⟩) ∈ lw_all := lw_g (lw_at lw_ms 86 rfl) rfl
theorem qs87 : (Cond.selects "NineDemandsModel" ⟨"NineDemandsModel", "bodyFrom", "(III)I"⟩ ⟨"NineDemandsModel", "bodyFrom", "(III)I"⟩) ∈ lw_all := lw_g (lw_at lw_ms 87 rfl) rfl
theorem qs88 : (Cond.selects "NineDemandsModel" ⟨"NineDemandsModel", "body", "(III)I"⟩ ⟨"NineDemandsModel", "body", "(III)I"⟩) ∈ lw_all := lw_g (lw_at lw_ms 88 rfl) rfl
theorem qs89 : (Cond.selects "NineDemandsModel" ⟨"NineDemandsModel", "began", "(I)V"⟩ ⟨"NineDemandsModel", "began", "(I)V"⟩) ∈ lw_all := lw_g (lw_at lw_ms 89 rfl) rfl
