-- ===== PART A: goes FIRST, ahead of the names: the tables' words, and 'selects' of the private methods out of them =====
/-- a private method of a class that the tables say can be made, by its rows of tables_1 -/
def lw_okq (q : MethodName × Nat) : Prop := (q.1.cls ≠ "java/lang/invoke/MethodHandle" ∧ q.1.cls ≠ "java/lang/invoke/VarHandle") ∧ Cond.instantiable q.1.cls q.2 ∈ tables_1 ∧ Cond.privateMethod q.1 ∈ tables_1 ∧ Cond.instanceMethod q.1 ∈ tables_1
set_option maxRecDepth 100000
theorem lw_t1 {w : Cond} (h : w ∈ tables_1_1) : w ∈ tables_1 := List.mem_append_left _ h
theorem lw_t2 {w : Cond} (h : w ∈ tables_1_2) : w ∈ tables_1 := List.mem_append_right _ (List.mem_append_left _ h)
theorem lw_t3 {w : Cond} (h : w ∈ tables_1_3) : w ∈ tables_1 := List.mem_append_right _ (List.mem_append_right _ (List.mem_append_left _ h))
theorem lw_t4 {w : Cond} (h : w ∈ tables_1_4) : w ∈ tables_1 := List.mem_append_right _ (List.mem_append_right _ (List.mem_append_right _ (List.mem_append_left _ h)))
theorem lw_t5 {w : Cond} (h : w ∈ tables_1_5) : w ∈ tables_1 := List.mem_append_right _ (List.mem_append_right _ (List.mem_append_right _ (List.mem_append_right _ (List.mem_append_left _ h))))
theorem lw_t6 {w : Cond} (h : w ∈ tables_1_6) : w ∈ tables_1 := List.mem_append_right _ (List.mem_append_right _ (List.mem_append_right _ (List.mem_append_right _ (List.mem_append_right _ (List.mem_append_left _ h)))))
theorem lw_t7 {w : Cond} (h : w ∈ tables_1_7) : w ∈ tables_1 := List.mem_append_right _ (List.mem_append_right _ (List.mem_append_right _ (List.mem_append_right _ (List.mem_append_right _ (List.mem_append_right _ (List.mem_append_left _ h))))))
theorem lw_t8 {w : Cond} (h : w ∈ tables_1_8) : w ∈ tables_1 := List.mem_append_right _ (List.mem_append_right _ (List.mem_append_right _ (List.mem_append_right _ (List.mem_append_right _ (List.mem_append_right _ (List.mem_append_right _ (List.mem_append_left _ h)))))))
theorem lw_t9 {w : Cond} (h : w ∈ tables_1_9) : w ∈ tables_1 := List.mem_append_right _ (List.mem_append_right _ (List.mem_append_right _ (List.mem_append_right _ (List.mem_append_right _ (List.mem_append_right _ (List.mem_append_right _ (List.mem_append_right _ h)))))))
theorem lw_p0 : lw_okq (⟨"java/lang/NullPointerException", "getExtendedNPEMessage", "()Ljava/lang/String;"⟩, 8) := ⟨⟨by decide +kernel, by decide +kernel⟩, lw_t1 (List.mem_of_getElem? (i := 85) rfl), lw_t1 (List.mem_of_getElem? (i := 83) rfl), lw_t1 (List.mem_of_getElem? (i := 84) rfl)⟩
theorem lw_p1 : lw_okq (⟨"java/lang/Throwable", "fillInStackTrace", "(I)Ljava/lang/Throwable;"⟩, 6) := ⟨⟨by decide +kernel, by decide +kernel⟩, lw_t1 (List.mem_of_getElem? (i := 97) rfl), lw_t1 (List.mem_of_getElem? (i := 95) rfl), lw_t1 (List.mem_of_getElem? (i := 96) rfl)⟩
theorem lw_p2 : lw_okq (⟨"FrostRing$Slot", "put", "(IJ)V"⟩, 1) := ⟨⟨by decide +kernel, by decide +kernel⟩, lw_t1 (List.mem_of_getElem? (i := 198) rfl), lw_t1 (List.mem_of_getElem? (i := 196) rfl), lw_t1 (List.mem_of_getElem? (i := 197) rfl)⟩
theorem lw_p3 : lw_okq (⟨"FrostRing$Slot", "putWider", "(IJ)V"⟩, 1) := ⟨⟨by decide +kernel, by decide +kernel⟩, lw_t1 (List.mem_of_getElem? (i := 198) rfl), lw_t1 (List.mem_of_getElem? (i := 203) rfl), lw_t1 (List.mem_of_getElem? (i := 204) rfl)⟩
theorem lw_p4 : lw_okq (⟨"FrostRing$Slot", "width", "()I"⟩, 1) := ⟨⟨by decide +kernel, by decide +kernel⟩, lw_t1 (List.mem_of_getElem? (i := 198) rfl), lw_t1 (List.mem_of_getElem? (i := 232) rfl), lw_t1 (List.mem_of_getElem? (i := 233) rfl)⟩
theorem lw_p5 : lw_okq (⟨"java/util/ArrayList", "add", "(Ljava/lang/Object;[Ljava/lang/Object;I)V"⟩, 3) := ⟨⟨by decide +kernel, by decide +kernel⟩, lw_t2 (List.mem_of_getElem? (i := 17) rfl), lw_t2 (List.mem_of_getElem? (i := 234) rfl), lw_t2 (List.mem_of_getElem? (i := 235) rfl)⟩
theorem lw_p6 : lw_okq (⟨"java/util/ArrayList", "grow", "()[Ljava/lang/Object;"⟩, 3) := ⟨⟨by decide +kernel, by decide +kernel⟩, lw_t2 (List.mem_of_getElem? (i := 17) rfl), lw_t2 (List.mem_of_getElem? (i := 238) rfl), lw_t2 (List.mem_of_getElem? (i := 239) rfl)⟩
theorem lw_p7 : lw_okq (⟨"java/util/ArrayList", "grow", "(I)[Ljava/lang/Object;"⟩, 3) := ⟨⟨by decide +kernel, by decide +kernel⟩, lw_t2 (List.mem_of_getElem? (i := 17) rfl), lw_t3 (List.mem_of_getElem? (i := 2) rfl), lw_t3 (List.mem_of_getElem? (i := 3) rfl)⟩
theorem lw_p8 : lw_okq (⟨"FrostRing", "puts", "(I)V"⟩, 11) := ⟨⟨by decide +kernel, by decide +kernel⟩, lw_t1 (List.mem_of_getElem? (i := 239) rfl), lw_t3 (List.mem_of_getElem? (i := 210) rfl), lw_t3 (List.mem_of_getElem? (i := 211) rfl)⟩
theorem lw_p9 : lw_okq (⟨"FrostRing$Reader", "next", "()V"⟩, 11) := ⟨⟨by decide +kernel, by decide +kernel⟩, lw_t3 (List.mem_of_getElem? (i := 223) rfl), lw_t4 (List.mem_of_getElem? (i := 44) rfl), lw_t4 (List.mem_of_getElem? (i := 45) rfl)⟩
theorem lw_p10 : lw_okq (⟨"FrostRing$Reader", "isAt", "(II)Z"⟩, 11) := ⟨⟨by decide +kernel, by decide +kernel⟩, lw_t3 (List.mem_of_getElem? (i := 223) rfl), lw_t4 (List.mem_of_getElem? (i := 48) rfl), lw_t4 (List.mem_of_getElem? (i := 49) rfl)⟩
theorem lw_p11 : lw_okq (⟨"FrostRing$Reader", "oneOf", "([Ljava/lang/String;)I"⟩, 11) := ⟨⟨by decide +kernel, by decide +kernel⟩, lw_t3 (List.mem_of_getElem? (i := 223) rfl), lw_t4 (List.mem_of_getElem? (i := 54) rfl), lw_t4 (List.mem_of_getElem? (i := 55) rfl)⟩
theorem lw_p12 : lw_okq (⟨"FrostRing$Reader", "is", "(Ljava/lang/String;)Z"⟩, 11) := ⟨⟨by decide +kernel, by decide +kernel⟩, lw_t3 (List.mem_of_getElem? (i := 223) rfl), lw_t4 (List.mem_of_getElem? (i := 58) rfl), lw_t4 (List.mem_of_getElem? (i := 59) rfl)⟩
theorem lw_p13 : lw_okq (⟨"FrostRing$Reader", "fails", "(I)V"⟩, 11) := ⟨⟨by decide +kernel, by decide +kernel⟩, lw_t3 (List.mem_of_getElem? (i := 223) rfl), lw_t4 (List.mem_of_getElem? (i := 108) rfl), lw_t4 (List.mem_of_getElem? (i := 109) rfl)⟩
theorem lw_p14 : lw_okq (⟨"FrostRing$Reader", "isFull", "(LFrostRing$Told;I)Z"⟩, 11) := ⟨⟨by decide +kernel, by decide +kernel⟩, lw_t3 (List.mem_of_getElem? (i := 223) rfl), lw_t4 (List.mem_of_getElem? (i := 140) rfl), lw_t4 (List.mem_of_getElem? (i := 141) rfl)⟩
theorem lw_p15 : lw_okq (⟨"FrostRing$Reader", "line", "(LFrostRing$Told;I)V"⟩, 11) := ⟨⟨by decide +kernel, by decide +kernel⟩, lw_t3 (List.mem_of_getElem? (i := 223) rfl), lw_t4 (List.mem_of_getElem? (i := 150) rfl), lw_t4 (List.mem_of_getElem? (i := 151) rfl)⟩
def lw_privs_1 : List (MethodName × Nat) := [(⟨"java/lang/NullPointerException", "getExtendedNPEMessage", "()Ljava/lang/String;"⟩, 8), (⟨"java/lang/Throwable", "fillInStackTrace", "(I)Ljava/lang/Throwable;"⟩, 6), (⟨"FrostRing$Slot", "put", "(IJ)V"⟩, 1), (⟨"FrostRing$Slot", "putWider", "(IJ)V"⟩, 1), (⟨"FrostRing$Slot", "width", "()I"⟩, 1), (⟨"java/util/ArrayList", "add", "(Ljava/lang/Object;[Ljava/lang/Object;I)V"⟩, 3), (⟨"java/util/ArrayList", "grow", "()[Ljava/lang/Object;"⟩, 3), (⟨"java/util/ArrayList", "grow", "(I)[Ljava/lang/Object;"⟩, 3), (⟨"FrostRing", "puts", "(I)V"⟩, 11), (⟨"FrostRing$Reader", "next", "()V"⟩, 11), (⟨"FrostRing$Reader", "isAt", "(II)Z"⟩, 11), (⟨"FrostRing$Reader", "oneOf", "([Ljava/lang/String;)I"⟩, 11), (⟨"FrostRing$Reader", "is", "(Ljava/lang/String;)Z"⟩, 11), (⟨"FrostRing$Reader", "fails", "(I)V"⟩, 11), (⟨"FrostRing$Reader", "isFull", "(LFrostRing$Told;I)Z"⟩, 11), (⟨"FrostRing$Reader", "line", "(LFrostRing$Told;I)V"⟩, 11)]
theorem lw_r1 : ∀ q ∈ lw_privs_1, lw_okq q := List.forall_mem_cons.mpr ⟨lw_p0, List.forall_mem_cons.mpr ⟨lw_p1, List.forall_mem_cons.mpr ⟨lw_p2, List.forall_mem_cons.mpr ⟨lw_p3, List.forall_mem_cons.mpr ⟨lw_p4, List.forall_mem_cons.mpr ⟨lw_p5, List.forall_mem_cons.mpr ⟨lw_p6, List.forall_mem_cons.mpr ⟨lw_p7, List.forall_mem_cons.mpr ⟨lw_p8, List.forall_mem_cons.mpr ⟨lw_p9, List.forall_mem_cons.mpr ⟨lw_p10, List.forall_mem_cons.mpr ⟨lw_p11, List.forall_mem_cons.mpr ⟨lw_p12, List.forall_mem_cons.mpr ⟨lw_p13, List.forall_mem_cons.mpr ⟨lw_p14, List.forall_mem_cons.mpr ⟨lw_p15, fun _ h => absurd h List.not_mem_nil⟩⟩⟩⟩⟩⟩⟩⟩⟩⟩⟩⟩⟩⟩⟩⟩
theorem lw_p16 : lw_okq (⟨"FrostRing$Reader", "ground", "(LFrostRing$Told;)V"⟩, 11) := ⟨⟨by decide +kernel, by decide +kernel⟩, lw_t3 (List.mem_of_getElem? (i := 223) rfl), lw_t4 (List.mem_of_getElem? (i := 154) rfl), lw_t4 (List.mem_of_getElem? (i := 155) rfl)⟩
theorem lw_p17 : lw_okq (⟨"FrostRing$Reader", "number", "(II)I"⟩, 11) := ⟨⟨by decide +kernel, by decide +kernel⟩, lw_t3 (List.mem_of_getElem? (i := 223) rfl), lw_t4 (List.mem_of_getElem? (i := 158) rfl), lw_t4 (List.mem_of_getElem? (i := 159) rfl)⟩
theorem lw_p18 : lw_okq (⟨"FrostRing$Reader", "number", "(Ljava/lang/String;II)I"⟩, 11) := ⟨⟨by decide +kernel, by decide +kernel⟩, lw_t3 (List.mem_of_getElem? (i := 223) rfl), lw_t4 (List.mem_of_getElem? (i := 164) rfl), lw_t4 (List.mem_of_getElem? (i := 165) rfl)⟩
theorem lw_p19 : lw_okq (⟨"FrostRing$Reader", "word", "(Ljava/lang/String;)V"⟩, 11) := ⟨⟨by decide +kernel, by decide +kernel⟩, lw_t3 (List.mem_of_getElem? (i := 223) rfl), lw_t4 (List.mem_of_getElem? (i := 168) rfl), lw_t4 (List.mem_of_getElem? (i := 169) rfl)⟩
theorem lw_p20 : lw_okq (⟨"FrostRing$Reader", "takes", "(Ljava/lang/String;)Z"⟩, 11) := ⟨⟨by decide +kernel, by decide +kernel⟩, lw_t3 (List.mem_of_getElem? (i := 223) rfl), lw_t4 (List.mem_of_getElem? (i := 172) rfl), lw_t4 (List.mem_of_getElem? (i := 173) rfl)⟩
theorem lw_p21 : lw_okq (⟨"FrostRing$Reader", "below", "(Ljava/lang/String;I)I"⟩, 11) := ⟨⟨by decide +kernel, by decide +kernel⟩, lw_t3 (List.mem_of_getElem? (i := 223) rfl), lw_t4 (List.mem_of_getElem? (i := 179) rfl), lw_t4 (List.mem_of_getElem? (i := 180) rfl)⟩
theorem lw_p22 : lw_okq (⟨"FrostRing$Reader", "isSign", "(I)Z"⟩, 11) := ⟨⟨by decide +kernel, by decide +kernel⟩, lw_t3 (List.mem_of_getElem? (i := 223) rfl), lw_t4 (List.mem_of_getElem? (i := 183) rfl), lw_t4 (List.mem_of_getElem? (i := 184) rfl)⟩
theorem lw_p23 : lw_okq (⟨"FrostRing$Reader", "lay", "(LFrostRing$Told;)V"⟩, 11) := ⟨⟨by decide +kernel, by decide +kernel⟩, lw_t3 (List.mem_of_getElem? (i := 223) rfl), lw_t4 (List.mem_of_getElem? (i := 187) rfl), lw_t4 (List.mem_of_getElem? (i := 188) rfl)⟩
theorem lw_p24 : lw_okq (⟨"FrostRing$Reader", "stream", "(LFrostRing$Told;)V"⟩, 11) := ⟨⟨by decide +kernel, by decide +kernel⟩, lw_t3 (List.mem_of_getElem? (i := 223) rfl), lw_t4 (List.mem_of_getElem? (i := 192) rfl), lw_t4 (List.mem_of_getElem? (i := 193) rfl)⟩
theorem lw_p25 : lw_okq (⟨"FrostRing$Reader", "shaft", "(LFrostRing$Told;)V"⟩, 11) := ⟨⟨by decide +kernel, by decide +kernel⟩, lw_t3 (List.mem_of_getElem? (i := 223) rfl), lw_t4 (List.mem_of_getElem? (i := 197) rfl), lw_t4 (List.mem_of_getElem? (i := 198) rfl)⟩
theorem lw_p26 : lw_okq (⟨"FrostRing$Reader", "pipe", "(LFrostRing$Told;)V"⟩, 11) := ⟨⟨by decide +kernel, by decide +kernel⟩, lw_t3 (List.mem_of_getElem? (i := 223) rfl), lw_t4 (List.mem_of_getElem? (i := 201) rfl), lw_t4 (List.mem_of_getElem? (i := 202) rfl)⟩
theorem lw_p27 : lw_okq (⟨"FrostRing$Reader", "rule", "(LFrostRing$Told;)V"⟩, 11) := ⟨⟨by decide +kernel, by decide +kernel⟩, lw_t3 (List.mem_of_getElem? (i := 223) rfl), lw_t4 (List.mem_of_getElem? (i := 216) rfl), lw_t4 (List.mem_of_getElem? (i := 217) rfl)⟩
theorem lw_p28 : lw_okq (⟨"FrostRing$Reader", "measure", "(I)LFrostRing$Cond;"⟩, 11) := ⟨⟨by decide +kernel, by decide +kernel⟩, lw_t3 (List.mem_of_getElem? (i := 223) rfl), lw_t5 (List.mem_of_getElem? (i := 9) rfl), lw_t5 (List.mem_of_getElem? (i := 10) rfl)⟩
theorem lw_p29 : lw_okq (⟨"FrostRing$Field", "leads", "(I)V"⟩, 20) := ⟨⟨by decide +kernel, by decide +kernel⟩, lw_t2 (List.mem_of_getElem? (i := 7) rfl), lw_t5 (List.mem_of_getElem? (i := 45) rfl), lw_t5 (List.mem_of_getElem? (i := 46) rfl)⟩
theorem lw_p30 : lw_okq (⟨"FrostRing$Field", "leadOf", "(I)I"⟩, 20) := ⟨⟨by decide +kernel, by decide +kernel⟩, lw_t2 (List.mem_of_getElem? (i := 7) rfl), lw_t5 (List.mem_of_getElem? (i := 52) rfl), lw_t5 (List.mem_of_getElem? (i := 53) rfl)⟩
theorem lw_p31 : lw_okq (⟨"FrostRing$Field", "streams", "(I)V"⟩, 20) := ⟨⟨by decide +kernel, by decide +kernel⟩, lw_t2 (List.mem_of_getElem? (i := 7) rfl), lw_t5 (List.mem_of_getElem? (i := 65) rfl), lw_t5 (List.mem_of_getElem? (i := 66) rfl)⟩
def lw_privs_2 : List (MethodName × Nat) := [(⟨"FrostRing$Reader", "ground", "(LFrostRing$Told;)V"⟩, 11), (⟨"FrostRing$Reader", "number", "(II)I"⟩, 11), (⟨"FrostRing$Reader", "number", "(Ljava/lang/String;II)I"⟩, 11), (⟨"FrostRing$Reader", "word", "(Ljava/lang/String;)V"⟩, 11), (⟨"FrostRing$Reader", "takes", "(Ljava/lang/String;)Z"⟩, 11), (⟨"FrostRing$Reader", "below", "(Ljava/lang/String;I)I"⟩, 11), (⟨"FrostRing$Reader", "isSign", "(I)Z"⟩, 11), (⟨"FrostRing$Reader", "lay", "(LFrostRing$Told;)V"⟩, 11), (⟨"FrostRing$Reader", "stream", "(LFrostRing$Told;)V"⟩, 11), (⟨"FrostRing$Reader", "shaft", "(LFrostRing$Told;)V"⟩, 11), (⟨"FrostRing$Reader", "pipe", "(LFrostRing$Told;)V"⟩, 11), (⟨"FrostRing$Reader", "rule", "(LFrostRing$Told;)V"⟩, 11), (⟨"FrostRing$Reader", "measure", "(I)LFrostRing$Cond;"⟩, 11), (⟨"FrostRing$Field", "leads", "(I)V"⟩, 20), (⟨"FrostRing$Field", "leadOf", "(I)I"⟩, 20), (⟨"FrostRing$Field", "streams", "(I)V"⟩, 20)]
theorem lw_r2 : ∀ q ∈ lw_privs_2, lw_okq q := List.forall_mem_cons.mpr ⟨lw_p16, List.forall_mem_cons.mpr ⟨lw_p17, List.forall_mem_cons.mpr ⟨lw_p18, List.forall_mem_cons.mpr ⟨lw_p19, List.forall_mem_cons.mpr ⟨lw_p20, List.forall_mem_cons.mpr ⟨lw_p21, List.forall_mem_cons.mpr ⟨lw_p22, List.forall_mem_cons.mpr ⟨lw_p23, List.forall_mem_cons.mpr ⟨lw_p24, List.forall_mem_cons.mpr ⟨lw_p25, List.forall_mem_cons.mpr ⟨lw_p26, List.forall_mem_cons.mpr ⟨lw_p27, List.forall_mem_cons.mpr ⟨lw_p28, List.forall_mem_cons.mpr ⟨lw_p29, List.forall_mem_cons.mpr ⟨lw_p30, List.forall_mem_cons.mpr ⟨lw_p31, fun _ h => absurd h List.not_mem_nil⟩⟩⟩⟩⟩⟩⟩⟩⟩⟩⟩⟩⟩⟩⟩⟩
theorem lw_p32 : lw_okq (⟨"FrostRing$Field", "cools", "()V"⟩, 20) := ⟨⟨by decide +kernel, by decide +kernel⟩, lw_t2 (List.mem_of_getElem? (i := 7) rfl), lw_t5 (List.mem_of_getElem? (i := 69) rfl), lw_t5 (List.mem_of_getElem? (i := 70) rfl)⟩
theorem lw_p33 : lw_okq (⟨"FrostRing$Field", "wants", "(LFrostRing$Pipe;)I"⟩, 20) := ⟨⟨by decide +kernel, by decide +kernel⟩, lw_t2 (List.mem_of_getElem? (i := 7) rfl), lw_t5 (List.mem_of_getElem? (i := 73) rfl), lw_t5 (List.mem_of_getElem? (i := 74) rfl)⟩
theorem lw_p34 : lw_okq (⟨"FrostRing$Field", "takes", "(II)V"⟩, 20) := ⟨⟨by decide +kernel, by decide +kernel⟩, lw_t2 (List.mem_of_getElem? (i := 7) rfl), lw_t5 (List.mem_of_getElem? (i := 78) rfl), lw_t5 (List.mem_of_getElem? (i := 79) rfl)⟩
theorem lw_p35 : lw_okq (⟨"FrostRing$Field", "isOpenDug", "()Z"⟩, 20) := ⟨⟨by decide +kernel, by decide +kernel⟩, lw_t2 (List.mem_of_getElem? (i := 7) rfl), lw_t5 (List.mem_of_getElem? (i := 89) rfl), lw_t5 (List.mem_of_getElem? (i := 90) rfl)⟩
theorem lw_p36 : lw_okq (⟨"FrostRing$Field", "isBesideShaft", "(I)Z"⟩, 20) := ⟨⟨by decide +kernel, by decide +kernel⟩, lw_t2 (List.mem_of_getElem? (i := 7) rfl), lw_t5 (List.mem_of_getElem? (i := 107) rfl), lw_t5 (List.mem_of_getElem? (i := 108) rfl)⟩
theorem lw_p37 : lw_okq (⟨"FrostRing", "pipeAt", "(I)I"⟩, 11) := ⟨⟨by decide +kernel, by decide +kernel⟩, lw_t1 (List.mem_of_getElem? (i := 239) rfl), lw_t5 (List.mem_of_getElem? (i := 124) rfl), lw_t5 (List.mem_of_getElem? (i := 125) rfl)⟩
theorem lw_p38 : lw_okq (⟨"FrostRing", "isPipe", "(I)Z"⟩, 11) := ⟨⟨by decide +kernel, by decide +kernel⟩, lw_t1 (List.mem_of_getElem? (i := 239) rfl), lw_t5 (List.mem_of_getElem? (i := 146) rfl), lw_t5 (List.mem_of_getElem? (i := 147) rfl)⟩
theorem lw_p39 : lw_okq (⟨"FrostRing", "hasShaft", "()Z"⟩, 11) := ⟨⟨by decide +kernel, by decide +kernel⟩, lw_t1 (List.mem_of_getElem? (i := 239) rfl), lw_t5 (List.mem_of_getElem? (i := 163) rfl), lw_t5 (List.mem_of_getElem? (i := 164) rfl)⟩
theorem lw_p40 : lw_okq (⟨"FrostRing$Cut", "finds", "()Z"⟩, 9) := ⟨⟨by decide +kernel, by decide +kernel⟩, lw_t5 (List.mem_of_getElem? (i := 178) rfl), lw_t5 (List.mem_of_getElem? (i := 189) rfl), lw_t5 (List.mem_of_getElem? (i := 190) rfl)⟩
theorem lw_p41 : lw_okq (⟨"FrostRing$Cut", "come", "(II)V"⟩, 9) := ⟨⟨by decide +kernel, by decide +kernel⟩, lw_t5 (List.mem_of_getElem? (i := 178) rfl), lw_t5 (List.mem_of_getElem? (i := 193) rfl), lw_t5 (List.mem_of_getElem? (i := 194) rfl)⟩
theorem lw_p42 : lw_okq (⟨"FrostRing$Cut", "goesIn", "(I)V"⟩, 9) := ⟨⟨by decide +kernel, by decide +kernel⟩, lw_t5 (List.mem_of_getElem? (i := 178) rfl), lw_t5 (List.mem_of_getElem? (i := 197) rfl), lw_t5 (List.mem_of_getElem? (i := 198) rfl)⟩
theorem lw_p43 : lw_okq (⟨"FrostRing$Cut", "goesOut", "(I)V"⟩, 9) := ⟨⟨by decide +kernel, by decide +kernel⟩, lw_t5 (List.mem_of_getElem? (i := 178) rfl), lw_t5 (List.mem_of_getElem? (i := 205) rfl), lw_t5 (List.mem_of_getElem? (i := 206) rfl)⟩
theorem lw_p44 : lw_okq (⟨"FrostRing$Cut", "sends", "()V"⟩, 9) := ⟨⟨by decide +kernel, by decide +kernel⟩, lw_t5 (List.mem_of_getElem? (i := 178) rfl), lw_t5 (List.mem_of_getElem? (i := 210) rfl), lw_t5 (List.mem_of_getElem? (i := 211) rfl)⟩
theorem lw_p45 : lw_okq (⟨"FrostRing$Cut", "turns", "(II)V"⟩, 9) := ⟨⟨by decide +kernel, by decide +kernel⟩, lw_t5 (List.mem_of_getElem? (i := 178) rfl), lw_t5 (List.mem_of_getElem? (i := 214) rfl), lw_t5 (List.mem_of_getElem? (i := 215) rfl)⟩
theorem lw_p46 : lw_okq (⟨"FrostRing$Field", "costOf", "(I)I"⟩, 20) := ⟨⟨by decide +kernel, by decide +kernel⟩, lw_t2 (List.mem_of_getElem? (i := 7) rfl), lw_t6 (List.mem_of_getElem? (i := 23) rfl), lw_t6 (List.mem_of_getElem? (i := 24) rfl)⟩
theorem lw_p47 : lw_okq (⟨"FrostRing", "mayDig", "()Z"⟩, 11) := ⟨⟨by decide +kernel, by decide +kernel⟩, lw_t1 (List.mem_of_getElem? (i := 239) rfl), lw_t6 (List.mem_of_getElem? (i := 31) rfl), lw_t6 (List.mem_of_getElem? (i := 32) rfl)⟩
def lw_privs_3 : List (MethodName × Nat) := [(⟨"FrostRing$Field", "cools", "()V"⟩, 20), (⟨"FrostRing$Field", "wants", "(LFrostRing$Pipe;)I"⟩, 20), (⟨"FrostRing$Field", "takes", "(II)V"⟩, 20), (⟨"FrostRing$Field", "isOpenDug", "()Z"⟩, 20), (⟨"FrostRing$Field", "isBesideShaft", "(I)Z"⟩, 20), (⟨"FrostRing", "pipeAt", "(I)I"⟩, 11), (⟨"FrostRing", "isPipe", "(I)Z"⟩, 11), (⟨"FrostRing", "hasShaft", "()Z"⟩, 11), (⟨"FrostRing$Cut", "finds", "()Z"⟩, 9), (⟨"FrostRing$Cut", "come", "(II)V"⟩, 9), (⟨"FrostRing$Cut", "goesIn", "(I)V"⟩, 9), (⟨"FrostRing$Cut", "goesOut", "(I)V"⟩, 9), (⟨"FrostRing$Cut", "sends", "()V"⟩, 9), (⟨"FrostRing$Cut", "turns", "(II)V"⟩, 9), (⟨"FrostRing$Field", "costOf", "(I)I"⟩, 20), (⟨"FrostRing", "mayDig", "()Z"⟩, 11)]
theorem lw_r3 : ∀ q ∈ lw_privs_3, lw_okq q := List.forall_mem_cons.mpr ⟨lw_p32, List.forall_mem_cons.mpr ⟨lw_p33, List.forall_mem_cons.mpr ⟨lw_p34, List.forall_mem_cons.mpr ⟨lw_p35, List.forall_mem_cons.mpr ⟨lw_p36, List.forall_mem_cons.mpr ⟨lw_p37, List.forall_mem_cons.mpr ⟨lw_p38, List.forall_mem_cons.mpr ⟨lw_p39, List.forall_mem_cons.mpr ⟨lw_p40, List.forall_mem_cons.mpr ⟨lw_p41, List.forall_mem_cons.mpr ⟨lw_p42, List.forall_mem_cons.mpr ⟨lw_p43, List.forall_mem_cons.mpr ⟨lw_p44, List.forall_mem_cons.mpr ⟨lw_p45, List.forall_mem_cons.mpr ⟨lw_p46, List.forall_mem_cons.mpr ⟨lw_p47, fun _ h => absurd h List.not_mem_nil⟩⟩⟩⟩⟩⟩⟩⟩⟩⟩⟩⟩⟩⟩⟩⟩
theorem lw_p48 : lw_okq (⟨"FrostRing", "measured", "(I)I"⟩, 11) := ⟨⟨by decide +kernel, by decide +kernel⟩, lw_t1 (List.mem_of_getElem? (i := 239) rfl), lw_t6 (List.mem_of_getElem? (i := 55) rfl), lw_t6 (List.mem_of_getElem? (i := 56) rfl)⟩
theorem lw_p49 : lw_okq (⟨"FrostRing", "greatestLift", "()I"⟩, 11) := ⟨⟨by decide +kernel, by decide +kernel⟩, lw_t1 (List.mem_of_getElem? (i := 239) rfl), lw_t6 (List.mem_of_getElem? (i := 59) rfl), lw_t6 (List.mem_of_getElem? (i := 60) rfl)⟩
theorem lw_p50 : lw_okq (⟨"FrostRing", "mayHave", "(LFrostRing$Slot;)Z"⟩, 11) := ⟨⟨by decide +kernel, by decide +kernel⟩, lw_t1 (List.mem_of_getElem? (i := 239) rfl), lw_t6 (List.mem_of_getElem? (i := 113) rfl), lw_t6 (List.mem_of_getElem? (i := 114) rfl)⟩
theorem lw_p51 : lw_okq (⟨"FrostRing", "shutsBy", "(LFrostRing$Slot;II)Z"⟩, 11) := ⟨⟨by decide +kernel, by decide +kernel⟩, lw_t1 (List.mem_of_getElem? (i := 239) rfl), lw_t6 (List.mem_of_getElem? (i := 131) rfl), lw_t6 (List.mem_of_getElem? (i := 132) rfl)⟩
theorem lw_p52 : lw_okq (⟨"FrostRingModel", "begins", "()V"⟩, 40) := ⟨⟨by decide +kernel, by decide +kernel⟩, lw_t6 (List.mem_of_getElem? (i := 176) rfl), lw_t6 (List.mem_of_getElem? (i := 189) rfl), lw_t6 (List.mem_of_getElem? (i := 190) rfl)⟩
theorem lw_p53 : lw_okq (⟨"FrostRingModel", "heatNow", "()I"⟩, 40) := ⟨⟨by decide +kernel, by decide +kernel⟩, lw_t6 (List.mem_of_getElem? (i := 176) rfl), lw_t6 (List.mem_of_getElem? (i := 193) rfl), lw_t6 (List.mem_of_getElem? (i := 194) rfl)⟩
theorem lw_p54 : lw_okq (⟨"FrostRingModel", "step", "()V"⟩, 40) := ⟨⟨by decide +kernel, by decide +kernel⟩, lw_t6 (List.mem_of_getElem? (i := 176) rfl), lw_t7 (List.mem_of_getElem? (i := 101) rfl), lw_t7 (List.mem_of_getElem? (i := 102) rfl)⟩
theorem lw_p55 : lw_okq (⟨"FrostRingModel", "see", "(I)I"⟩, 40) := ⟨⟨by decide +kernel, by decide +kernel⟩, lw_t6 (List.mem_of_getElem? (i := 176) rfl), lw_t7 (List.mem_of_getElem? (i := 105) rfl), lw_t7 (List.mem_of_getElem? (i := 106) rfl)⟩
theorem lw_p56 : lw_okq (⟨"FrostRingModel", "good", "()Z"⟩, 40) := ⟨⟨by decide +kernel, by decide +kernel⟩, lw_t6 (List.mem_of_getElem? (i := 176) rfl), lw_t7 (List.mem_of_getElem? (i := 115) rfl), lw_t7 (List.mem_of_getElem? (i := 116) rfl)⟩
theorem lw_p57 : lw_okq (⟨"FrostRingModel", "readLine", "()V"⟩, 40) := ⟨⟨by decide +kernel, by decide +kernel⟩, lw_t6 (List.mem_of_getElem? (i := 176) rfl), lw_t7 (List.mem_of_getElem? (i := 119) rfl), lw_t7 (List.mem_of_getElem? (i := 120) rfl)⟩
theorem lw_p58 : lw_okq (⟨"FrostRingModel", "is", "(Ljava/lang/String;)Z"⟩, 40) := ⟨⟨by decide +kernel, by decide +kernel⟩, lw_t6 (List.mem_of_getElem? (i := 176) rfl), lw_t7 (List.mem_of_getElem? (i := 124) rfl), lw_t7 (List.mem_of_getElem? (i := 125) rfl)⟩
theorem lw_p59 : lw_okq (⟨"FrostRingModel", "wrong", "(I)V"⟩, 40) := ⟨⟨by decide +kernel, by decide +kernel⟩, lw_t6 (List.mem_of_getElem? (i := 176) rfl), lw_t7 (List.mem_of_getElem? (i := 138) rfl), lw_t7 (List.mem_of_getElem? (i := 139) rfl)⟩
theorem lw_p60 : lw_okq (⟨"FrostRingModel", "takes", "(Ljava/lang/String;)Z"⟩, 40) := ⟨⟨by decide +kernel, by decide +kernel⟩, lw_t6 (List.mem_of_getElem? (i := 176) rfl), lw_t7 (List.mem_of_getElem? (i := 142) rfl), lw_t7 (List.mem_of_getElem? (i := 143) rfl)⟩
theorem lw_p61 : lw_okq (⟨"FrostRingModel", "readGround", "()V"⟩, 40) := ⟨⟨by decide +kernel, by decide +kernel⟩, lw_t6 (List.mem_of_getElem? (i := 176) rfl), lw_t7 (List.mem_of_getElem? (i := 146) rfl), lw_t7 (List.mem_of_getElem? (i := 147) rfl)⟩
theorem lw_p62 : lw_okq (⟨"FrostRingModel", "number", "(II)I"⟩, 40) := ⟨⟨by decide +kernel, by decide +kernel⟩, lw_t6 (List.mem_of_getElem? (i := 176) rfl), lw_t7 (List.mem_of_getElem? (i := 151) rfl), lw_t7 (List.mem_of_getElem? (i := 152) rfl)⟩
theorem lw_p63 : lw_okq (⟨"FrostRingModel", "told", "(Ljava/lang/String;II)I"⟩, 40) := ⟨⟨by decide +kernel, by decide +kernel⟩, lw_t6 (List.mem_of_getElem? (i := 176) rfl), lw_t7 (List.mem_of_getElem? (i := 156) rfl), lw_t7 (List.mem_of_getElem? (i := 157) rfl)⟩
def lw_privs_4 : List (MethodName × Nat) := [(⟨"FrostRing", "measured", "(I)I"⟩, 11), (⟨"FrostRing", "greatestLift", "()I"⟩, 11), (⟨"FrostRing", "mayHave", "(LFrostRing$Slot;)Z"⟩, 11), (⟨"FrostRing", "shutsBy", "(LFrostRing$Slot;II)Z"⟩, 11), (⟨"FrostRingModel", "begins", "()V"⟩, 40), (⟨"FrostRingModel", "heatNow", "()I"⟩, 40), (⟨"FrostRingModel", "step", "()V"⟩, 40), (⟨"FrostRingModel", "see", "(I)I"⟩, 40), (⟨"FrostRingModel", "good", "()Z"⟩, 40), (⟨"FrostRingModel", "readLine", "()V"⟩, 40), (⟨"FrostRingModel", "is", "(Ljava/lang/String;)Z"⟩, 40), (⟨"FrostRingModel", "wrong", "(I)V"⟩, 40), (⟨"FrostRingModel", "takes", "(Ljava/lang/String;)Z"⟩, 40), (⟨"FrostRingModel", "readGround", "()V"⟩, 40), (⟨"FrostRingModel", "number", "(II)I"⟩, 40), (⟨"FrostRingModel", "told", "(Ljava/lang/String;II)I"⟩, 40)]
theorem lw_r4 : ∀ q ∈ lw_privs_4, lw_okq q := List.forall_mem_cons.mpr ⟨lw_p48, List.forall_mem_cons.mpr ⟨lw_p49, List.forall_mem_cons.mpr ⟨lw_p50, List.forall_mem_cons.mpr ⟨lw_p51, List.forall_mem_cons.mpr ⟨lw_p52, List.forall_mem_cons.mpr ⟨lw_p53, List.forall_mem_cons.mpr ⟨lw_p54, List.forall_mem_cons.mpr ⟨lw_p55, List.forall_mem_cons.mpr ⟨lw_p56, List.forall_mem_cons.mpr ⟨lw_p57, List.forall_mem_cons.mpr ⟨lw_p58, List.forall_mem_cons.mpr ⟨lw_p59, List.forall_mem_cons.mpr ⟨lw_p60, List.forall_mem_cons.mpr ⟨lw_p61, List.forall_mem_cons.mpr ⟨lw_p62, List.forall_mem_cons.mpr ⟨lw_p63, fun _ h => absurd h List.not_mem_nil⟩⟩⟩⟩⟩⟩⟩⟩⟩⟩⟩⟩⟩⟩⟩⟩
theorem lw_p64 : lw_okq (⟨"FrostRingModel", "needs", "(Ljava/lang/String;)V"⟩, 40) := ⟨⟨by decide +kernel, by decide +kernel⟩, lw_t6 (List.mem_of_getElem? (i := 176) rfl), lw_t7 (List.mem_of_getElem? (i := 160) rfl), lw_t7 (List.mem_of_getElem? (i := 161) rfl)⟩
theorem lw_p65 : lw_okq (⟨"FrostRingModel", "below", "(Ljava/lang/String;I)I"⟩, 40) := ⟨⟨by decide +kernel, by decide +kernel⟩, lw_t6 (List.mem_of_getElem? (i := 176) rfl), lw_t7 (List.mem_of_getElem? (i := 167) rfl), lw_t7 (List.mem_of_getElem? (i := 168) rfl)⟩
theorem lw_p66 : lw_okq (⟨"FrostRingModel", "isSign", "(I)Z"⟩, 40) := ⟨⟨by decide +kernel, by decide +kernel⟩, lw_t6 (List.mem_of_getElem? (i := 176) rfl), lw_t7 (List.mem_of_getElem? (i := 171) rfl), lw_t7 (List.mem_of_getElem? (i := 172) rfl)⟩
theorem lw_p67 : lw_okq (⟨"FrostRingModel", "readLay", "()V"⟩, 40) := ⟨⟨by decide +kernel, by decide +kernel⟩, lw_t6 (List.mem_of_getElem? (i := 176) rfl), lw_t7 (List.mem_of_getElem? (i := 175) rfl), lw_t7 (List.mem_of_getElem? (i := 176) rfl)⟩
theorem lw_p68 : lw_okq (⟨"FrostRingModel", "readBox", "(II)V"⟩, 40) := ⟨⟨by decide +kernel, by decide +kernel⟩, lw_t6 (List.mem_of_getElem? (i := 176) rfl), lw_t7 (List.mem_of_getElem? (i := 179) rfl), lw_t7 (List.mem_of_getElem? (i := 180) rfl)⟩
theorem lw_p69 : lw_okq (⟨"FrostRingModel", "readStream", "()V"⟩, 40) := ⟨⟨by decide +kernel, by decide +kernel⟩, lw_t6 (List.mem_of_getElem? (i := 176) rfl), lw_t7 (List.mem_of_getElem? (i := 184) rfl), lw_t7 (List.mem_of_getElem? (i := 185) rfl)⟩
theorem lw_p70 : lw_okq (⟨"FrostRingModel", "readPipe", "()V"⟩, 40) := ⟨⟨by decide +kernel, by decide +kernel⟩, lw_t6 (List.mem_of_getElem? (i := 176) rfl), lw_t7 (List.mem_of_getElem? (i := 190) rfl), lw_t7 (List.mem_of_getElem? (i := 191) rfl)⟩
theorem lw_p71 : lw_okq (⟨"FrostRingModel", "readRule", "()V"⟩, 40) := ⟨⟨by decide +kernel, by decide +kernel⟩, lw_t6 (List.mem_of_getElem? (i := 176) rfl), lw_t7 (List.mem_of_getElem? (i := 195) rfl), lw_t7 (List.mem_of_getElem? (i := 196) rfl)⟩
theorem lw_p72 : lw_okq (⟨"FrostRingModel", "readCond", "(I)V"⟩, 40) := ⟨⟨by decide +kernel, by decide +kernel⟩, lw_t6 (List.mem_of_getElem? (i := 176) rfl), lw_t7 (List.mem_of_getElem? (i := 200) rfl), lw_t7 (List.mem_of_getElem? (i := 201) rfl)⟩
theorem lw_p73 : lw_okq (⟨"FrostRingModel", "wordHere", "()I"⟩, 40) := ⟨⟨by decide +kernel, by decide +kernel⟩, lw_t6 (List.mem_of_getElem? (i := 176) rfl), lw_t7 (List.mem_of_getElem? (i := 204) rfl), lw_t7 (List.mem_of_getElem? (i := 205) rfl)⟩
theorem lw_p74 : lw_okq (⟨"FrostRingModel", "ticks", "()V"⟩, 40) := ⟨⟨by decide +kernel, by decide +kernel⟩, lw_t6 (List.mem_of_getElem? (i := 176) rfl), lw_t7 (List.mem_of_getElem? (i := 224) rfl), lw_t7 (List.mem_of_getElem? (i := 225) rfl)⟩
theorem lw_p75 : lw_okq (⟨"FrostRingModel", "isDug", "(I)Z"⟩, 40) := ⟨⟨by decide +kernel, by decide +kernel⟩, lw_t6 (List.mem_of_getElem? (i := 176) rfl), lw_t7 (List.mem_of_getElem? (i := 228) rfl), lw_t7 (List.mem_of_getElem? (i := 229) rfl)⟩
theorem lw_p76 : lw_okq (⟨"FrostRingModel", "comesBeside", "(I)V"⟩, 40) := ⟨⟨by decide +kernel, by decide +kernel⟩, lw_t6 (List.mem_of_getElem? (i := 176) rfl), lw_t7 (List.mem_of_getElem? (i := 232) rfl), lw_t7 (List.mem_of_getElem? (i := 233) rfl)⟩
theorem lw_p77 : lw_okq (⟨"FrostRingModel", "leadOf", "(I)I"⟩, 40) := ⟨⟨by decide +kernel, by decide +kernel⟩, lw_t6 (List.mem_of_getElem? (i := 176) rfl), lw_t8 (List.mem_of_getElem? (i := 2) rfl), lw_t8 (List.mem_of_getElem? (i := 3) rfl)⟩
theorem lw_p78 : lw_okq (⟨"FrostRingModel", "isFrozen", "(I)Z"⟩, 40) := ⟨⟨by decide +kernel, by decide +kernel⟩, lw_t6 (List.mem_of_getElem? (i := 176) rfl), lw_t8 (List.mem_of_getElem? (i := 6) rfl), lw_t8 (List.mem_of_getElem? (i := 7) rfl)⟩
theorem lw_p79 : lw_okq (⟨"FrostRingModel", "groundOf", "(II)I"⟩, 40) := ⟨⟨by decide +kernel, by decide +kernel⟩, lw_t6 (List.mem_of_getElem? (i := 176) rfl), lw_t8 (List.mem_of_getElem? (i := 10) rfl), lw_t8 (List.mem_of_getElem? (i := 11) rfl)⟩
def lw_privs_5 : List (MethodName × Nat) := [(⟨"FrostRingModel", "needs", "(Ljava/lang/String;)V"⟩, 40), (⟨"FrostRingModel", "below", "(Ljava/lang/String;I)I"⟩, 40), (⟨"FrostRingModel", "isSign", "(I)Z"⟩, 40), (⟨"FrostRingModel", "readLay", "()V"⟩, 40), (⟨"FrostRingModel", "readBox", "(II)V"⟩, 40), (⟨"FrostRingModel", "readStream", "()V"⟩, 40), (⟨"FrostRingModel", "readPipe", "()V"⟩, 40), (⟨"FrostRingModel", "readRule", "()V"⟩, 40), (⟨"FrostRingModel", "readCond", "(I)V"⟩, 40), (⟨"FrostRingModel", "wordHere", "()I"⟩, 40), (⟨"FrostRingModel", "ticks", "()V"⟩, 40), (⟨"FrostRingModel", "isDug", "(I)Z"⟩, 40), (⟨"FrostRingModel", "comesBeside", "(I)V"⟩, 40), (⟨"FrostRingModel", "leadOf", "(I)I"⟩, 40), (⟨"FrostRingModel", "isFrozen", "(I)Z"⟩, 40), (⟨"FrostRingModel", "groundOf", "(II)I"⟩, 40)]
theorem lw_r5 : ∀ q ∈ lw_privs_5, lw_okq q := List.forall_mem_cons.mpr ⟨lw_p64, List.forall_mem_cons.mpr ⟨lw_p65, List.forall_mem_cons.mpr ⟨lw_p66, List.forall_mem_cons.mpr ⟨lw_p67, List.forall_mem_cons.mpr ⟨lw_p68, List.forall_mem_cons.mpr ⟨lw_p69, List.forall_mem_cons.mpr ⟨lw_p70, List.forall_mem_cons.mpr ⟨lw_p71, List.forall_mem_cons.mpr ⟨lw_p72, List.forall_mem_cons.mpr ⟨lw_p73, List.forall_mem_cons.mpr ⟨lw_p74, List.forall_mem_cons.mpr ⟨lw_p75, List.forall_mem_cons.mpr ⟨lw_p76, List.forall_mem_cons.mpr ⟨lw_p77, List.forall_mem_cons.mpr ⟨lw_p78, List.forall_mem_cons.mpr ⟨lw_p79, fun _ h => absurd h List.not_mem_nil⟩⟩⟩⟩⟩⟩⟩⟩⟩⟩⟩⟩⟩⟩⟩⟩
theorem lw_p80 : lw_okq (⟨"FrostRingModel", "streams", "(I)V"⟩, 40) := ⟨⟨by decide +kernel, by decide +kernel⟩, lw_t6 (List.mem_of_getElem? (i := 176) rfl), lw_t8 (List.mem_of_getElem? (i := 14) rfl), lw_t8 (List.mem_of_getElem? (i := 15) rfl)⟩
theorem lw_p81 : lw_okq (⟨"FrostRingModel", "pipes", "()V"⟩, 40) := ⟨⟨by decide +kernel, by decide +kernel⟩, lw_t6 (List.mem_of_getElem? (i := 176) rfl), lw_t8 (List.mem_of_getElem? (i := 18) rfl), lw_t8 (List.mem_of_getElem? (i := 19) rfl)⟩
theorem lw_p82 : lw_okq (⟨"FrostRingModel", "does", "(I)V"⟩, 40) := ⟨⟨by decide +kernel, by decide +kernel⟩, lw_t6 (List.mem_of_getElem? (i := 176) rfl), lw_t8 (List.mem_of_getElem? (i := 22) rfl), lw_t8 (List.mem_of_getElem? (i := 23) rfl)⟩
theorem lw_p83 : lw_okq (⟨"FrostRingModel", "liftOf", "(I)I"⟩, 40) := ⟨⟨by decide +kernel, by decide +kernel⟩, lw_t6 (List.mem_of_getElem? (i := 176) rfl), lw_t8 (List.mem_of_getElem? (i := 27) rfl), lw_t8 (List.mem_of_getElem? (i := 28) rfl)⟩
theorem lw_p84 : lw_okq (⟨"FrostRingModel", "anyDug", "()Z"⟩, 40) := ⟨⟨by decide +kernel, by decide +kernel⟩, lw_t6 (List.mem_of_getElem? (i := 176) rfl), lw_t8 (List.mem_of_getElem? (i := 32) rfl), lw_t8 (List.mem_of_getElem? (i := 33) rfl)⟩
theorem lw_p85 : lw_okq (⟨"FrostRingModel", "isShut", "()Z"⟩, 40) := ⟨⟨by decide +kernel, by decide +kernel⟩, lw_t6 (List.mem_of_getElem? (i := 176) rfl), lw_t8 (List.mem_of_getElem? (i := 36) rfl), lw_t8 (List.mem_of_getElem? (i := 37) rfl)⟩
theorem lw_p86 : lw_okq (⟨"FrostRingModel", "leastOut", "(II)I"⟩, 40) := ⟨⟨by decide +kernel, by decide +kernel⟩, lw_t6 (List.mem_of_getElem? (i := 176) rfl), lw_t8 (List.mem_of_getElem? (i := 40) rfl), lw_t8 (List.mem_of_getElem? (i := 41) rfl)⟩
theorem lw_p87 : lw_okq (⟨"FrostRingModel", "isShaft", "(I)Z"⟩, 40) := ⟨⟨by decide +kernel, by decide +kernel⟩, lw_t6 (List.mem_of_getElem? (i := 176) rfl), lw_t8 (List.mem_of_getElem? (i := 44) rfl), lw_t8 (List.mem_of_getElem? (i := 45) rfl)⟩
theorem lw_p88 : lw_okq (⟨"FrostRingModel", "isBesideShaft", "(I)Z"⟩, 40) := ⟨⟨by decide +kernel, by decide +kernel⟩, lw_t6 (List.mem_of_getElem? (i := 176) rfl), lw_t8 (List.mem_of_getElem? (i := 48) rfl), lw_t8 (List.mem_of_getElem? (i := 49) rfl)⟩
theorem lw_p89 : lw_okq (⟨"FrostRingModel", "pipeAt", "(I)I"⟩, 40) := ⟨⟨by decide +kernel, by decide +kernel⟩, lw_t6 (List.mem_of_getElem? (i := 176) rfl), lw_t8 (List.mem_of_getElem? (i := 60) rfl), lw_t8 (List.mem_of_getElem? (i := 61) rfl)⟩
theorem lw_p90 : lw_okq (⟨"FrostRingModel", "isPipe", "(I)Z"⟩, 40) := ⟨⟨by decide +kernel, by decide +kernel⟩, lw_t6 (List.mem_of_getElem? (i := 176) rfl), lw_t8 (List.mem_of_getElem? (i := 73) rfl), lw_t8 (List.mem_of_getElem? (i := 74) rfl)⟩
theorem lw_p91 : lw_okq (⟨"FrostRingModel", "hasShaft", "()Z"⟩, 40) := ⟨⟨by decide +kernel, by decide +kernel⟩, lw_t6 (List.mem_of_getElem? (i := 176) rfl), lw_t8 (List.mem_of_getElem? (i := 90) rfl), lw_t8 (List.mem_of_getElem? (i := 91) rfl)⟩
theorem lw_p92 : lw_okq (⟨"FrostRingModel", "findGaps", "()I"⟩, 40) := ⟨⟨by decide +kernel, by decide +kernel⟩, lw_t6 (List.mem_of_getElem? (i := 176) rfl), lw_t8 (List.mem_of_getElem? (i := 106) rfl), lw_t8 (List.mem_of_getElem? (i := 107) rfl)⟩
theorem lw_p93 : lw_okq (⟨"FrostRingModel", "search", "()I"⟩, 40) := ⟨⟨by decide +kernel, by decide +kernel⟩, lw_t6 (List.mem_of_getElem? (i := 176) rfl), lw_t8 (List.mem_of_getElem? (i := 110) rfl), lw_t8 (List.mem_of_getElem? (i := 111) rfl)⟩
theorem lw_p94 : lw_okq (⟨"FrostRingModel", "isOpen", "(I)Z"⟩, 40) := ⟨⟨by decide +kernel, by decide +kernel⟩, lw_t6 (List.mem_of_getElem? (i := 176) rfl), lw_t8 (List.mem_of_getElem? (i := 114) rfl), lw_t8 (List.mem_of_getElem? (i := 115) rfl)⟩
theorem lw_p95 : lw_okq (⟨"FrostRingModel", "reach", "(II)V"⟩, 40) := ⟨⟨by decide +kernel, by decide +kernel⟩, lw_t6 (List.mem_of_getElem? (i := 176) rfl), lw_t8 (List.mem_of_getElem? (i := 118) rfl), lw_t8 (List.mem_of_getElem? (i := 119) rfl)⟩
def lw_privs_6 : List (MethodName × Nat) := [(⟨"FrostRingModel", "streams", "(I)V"⟩, 40), (⟨"FrostRingModel", "pipes", "()V"⟩, 40), (⟨"FrostRingModel", "does", "(I)V"⟩, 40), (⟨"FrostRingModel", "liftOf", "(I)I"⟩, 40), (⟨"FrostRingModel", "anyDug", "()Z"⟩, 40), (⟨"FrostRingModel", "isShut", "()Z"⟩, 40), (⟨"FrostRingModel", "leastOut", "(II)I"⟩, 40), (⟨"FrostRingModel", "isShaft", "(I)Z"⟩, 40), (⟨"FrostRingModel", "isBesideShaft", "(I)Z"⟩, 40), (⟨"FrostRingModel", "pipeAt", "(I)I"⟩, 40), (⟨"FrostRingModel", "isPipe", "(I)Z"⟩, 40), (⟨"FrostRingModel", "hasShaft", "()Z"⟩, 40), (⟨"FrostRingModel", "findGaps", "()I"⟩, 40), (⟨"FrostRingModel", "search", "()I"⟩, 40), (⟨"FrostRingModel", "isOpen", "(I)Z"⟩, 40), (⟨"FrostRingModel", "reach", "(II)V"⟩, 40)]
theorem lw_r6 : ∀ q ∈ lw_privs_6, lw_okq q := List.forall_mem_cons.mpr ⟨lw_p80, List.forall_mem_cons.mpr ⟨lw_p81, List.forall_mem_cons.mpr ⟨lw_p82, List.forall_mem_cons.mpr ⟨lw_p83, List.forall_mem_cons.mpr ⟨lw_p84, List.forall_mem_cons.mpr ⟨lw_p85, List.forall_mem_cons.mpr ⟨lw_p86, List.forall_mem_cons.mpr ⟨lw_p87, List.forall_mem_cons.mpr ⟨lw_p88, List.forall_mem_cons.mpr ⟨lw_p89, List.forall_mem_cons.mpr ⟨lw_p90, List.forall_mem_cons.mpr ⟨lw_p91, List.forall_mem_cons.mpr ⟨lw_p92, List.forall_mem_cons.mpr ⟨lw_p93, List.forall_mem_cons.mpr ⟨lw_p94, List.forall_mem_cons.mpr ⟨lw_p95, fun _ h => absurd h List.not_mem_nil⟩⟩⟩⟩⟩⟩⟩⟩⟩⟩⟩⟩⟩⟩⟩⟩
theorem lw_p96 : lw_okq (⟨"FrostRingModel", "goes", "(I)V"⟩, 40) := ⟨⟨by decide +kernel, by decide +kernel⟩, lw_t6 (List.mem_of_getElem? (i := 176) rfl), lw_t8 (List.mem_of_getElem? (i := 122) rfl), lw_t8 (List.mem_of_getElem? (i := 123) rfl)⟩
theorem lw_p97 : lw_okq (⟨"FrostRingModel", "condHolds", "(I)Z"⟩, 40) := ⟨⟨by decide +kernel, by decide +kernel⟩, lw_t6 (List.mem_of_getElem? (i := 176) rfl), lw_t8 (List.mem_of_getElem? (i := 137) rfl), lw_t8 (List.mem_of_getElem? (i := 138) rfl)⟩
theorem lw_p98 : lw_okq (⟨"FrostRingModel", "wordOf", "(I)I"⟩, 40) := ⟨⟨by decide +kernel, by decide +kernel⟩, lw_t6 (List.mem_of_getElem? (i := 176) rfl), lw_t8 (List.mem_of_getElem? (i := 141) rfl), lw_t8 (List.mem_of_getElem? (i := 142) rfl)⟩
theorem lw_p99 : lw_okq (⟨"FrostRingModel", "mayDig", "()Z"⟩, 40) := ⟨⟨by decide +kernel, by decide +kernel⟩, lw_t6 (List.mem_of_getElem? (i := 176) rfl), lw_t8 (List.mem_of_getElem? (i := 149) rfl), lw_t8 (List.mem_of_getElem? (i := 150) rfl)⟩
theorem lw_p100 : lw_okq (⟨"FrostRingModel", "saves", "()V"⟩, 40) := ⟨⟨by decide +kernel, by decide +kernel⟩, lw_t6 (List.mem_of_getElem? (i := 176) rfl), lw_t8 (List.mem_of_getElem? (i := 174) rfl), lw_t8 (List.mem_of_getElem? (i := 175) rfl)⟩
theorem lw_p101 : lw_okq (⟨"FrostRingModel", "putsBack", "()V"⟩, 40) := ⟨⟨by decide +kernel, by decide +kernel⟩, lw_t6 (List.mem_of_getElem? (i := 176) rfl), lw_t8 (List.mem_of_getElem? (i := 178) rfl), lw_t8 (List.mem_of_getElem? (i := 179) rfl)⟩
theorem lw_p102 : lw_okq (⟨"FrostRingModel", "mayTell", "(I)Z"⟩, 40) := ⟨⟨by decide +kernel, by decide +kernel⟩, lw_t6 (List.mem_of_getElem? (i := 176) rfl), lw_t8 (List.mem_of_getElem? (i := 194) rfl), lw_t8 (List.mem_of_getElem? (i := 195) rfl)⟩
theorem lw_p103 : lw_okq (⟨"FrostRingModel", "shutsBy", "(III)Z"⟩, 40) := ⟨⟨by decide +kernel, by decide +kernel⟩, lw_t6 (List.mem_of_getElem? (i := 176) rfl), lw_t8 (List.mem_of_getElem? (i := 205) rfl), lw_t8 (List.mem_of_getElem? (i := 206) rfl)⟩
def lw_privs_7 : List (MethodName × Nat) := [(⟨"FrostRingModel", "goes", "(I)V"⟩, 40), (⟨"FrostRingModel", "condHolds", "(I)Z"⟩, 40), (⟨"FrostRingModel", "wordOf", "(I)I"⟩, 40), (⟨"FrostRingModel", "mayDig", "()Z"⟩, 40), (⟨"FrostRingModel", "saves", "()V"⟩, 40), (⟨"FrostRingModel", "putsBack", "()V"⟩, 40), (⟨"FrostRingModel", "mayTell", "(I)Z"⟩, 40), (⟨"FrostRingModel", "shutsBy", "(III)Z"⟩, 40)]
theorem lw_r7 : ∀ q ∈ lw_privs_7, lw_okq q := List.forall_mem_cons.mpr ⟨lw_p96, List.forall_mem_cons.mpr ⟨lw_p97, List.forall_mem_cons.mpr ⟨lw_p98, List.forall_mem_cons.mpr ⟨lw_p99, List.forall_mem_cons.mpr ⟨lw_p100, List.forall_mem_cons.mpr ⟨lw_p101, List.forall_mem_cons.mpr ⟨lw_p102, List.forall_mem_cons.mpr ⟨lw_p103, fun _ h => absurd h List.not_mem_nil⟩⟩⟩⟩⟩⟩⟩⟩
def lw_privs : List (MethodName × Nat) := lw_privs_1 ++ (lw_privs_2 ++ (lw_privs_3 ++ (lw_privs_4 ++ (lw_privs_5 ++ (lw_privs_6 ++ (lw_privs_7))))))
def lw_tbl : List Cond := k2_sels lw_privs ++ tables_1
theorem lw_privs_ok : ∀ q ∈ lw_privs, lw_okq q := by
  show ∀ q ∈ lw_privs_1 ++ (lw_privs_2 ++ (lw_privs_3 ++ (lw_privs_4 ++ (lw_privs_5 ++ (lw_privs_6 ++ (lw_privs_7)))))), lw_okq q
  exact List.forall_mem_append.mpr ⟨lw_r1, List.forall_mem_append.mpr ⟨lw_r2, List.forall_mem_append.mpr ⟨lw_r3, List.forall_mem_append.mpr ⟨lw_r4, List.forall_mem_append.mpr ⟨lw_r5, List.forall_mem_append.mpr ⟨lw_r6, lw_r7⟩⟩⟩⟩⟩⟩
-- ===== ONE list of words for every method: the tables' words that hold all through a run =====
def lw_all : List Cond := lw_tbl.filter goodWord
/-- a word of the tables by its place: claim/WORDS.tsv -/
theorem lw_w {w : Cond} (i : Nat) (h : lw_tbl[i]? = some w) (g : goodWord w = true) : w ∈ lw_all := List.mem_filter.mpr ⟨List.mem_of_getElem? h, g⟩
theorem lw_all_tbl {w : Cond} (h : w ∈ lw_all) : w ∈ lw_tbl := (List.mem_filter.mp h).1
theorem lw_self : GoodIn lw_all lw_all := fun w h => ⟨h, good_of_word (List.mem_filter.mp h).2⟩
/-- a class's field words, by their places -/
theorem lw_in (ws : List Cond) (ps : List Nat) (hp : ws = ps.filterMap (fun i => lw_tbl[i]?)) (hg : ws.all goodWord = true) : ∀ w ∈ ws, w ∈ lw_all := by
  intro w h
  have h1 := List.all_eq_true.mp hg w h
  rw [hp] at h
  obtain ⟨i, -, hi⟩ := List.mem_filterMap.mp h
  exact lw_w i hi h1
/-- the words of a contract for the method y with code b, L locals, answer r -/
abbrev ws_ (y : MethodName) (b : ByteArray) (L : Nat) (r : Option FieldType) : List Cond := Cond.code y b L r :: lw_all
theorem lw_meth {y : MethodName} {b : ByteArray} {L : Nat} {r : Option FieldType} (h : Cond.code y b L r ∈ lw_all) : GoodIn lw_all (ws_ y b L r) := by
  intro w hw
  rcases List.mem_cons.mp hw with e | e
  · rw [e]
    exact lw_self _ h
  · exact lw_self _ e
theorem lw_app {a c : List Cond} (ha : ∀ w ∈ a, w ∈ lw_all) (hc : GoodIn lw_all c) : GoodIn lw_all (a ++ c) := by
  intro w hw
  rcases List.mem_append.mp hw with e | e
  · exact lw_self w (ha w e)
  · exact hc w e
/-- what a call through an object asks: cwV n hts (lw_V ..) -/
theorem lw_V {own : String} {idx : Nat} {C : String} {y : MethodName} {b : ByteArray} {L : Nat} {r : Option FieldType} (h1 : Cond.methodLink own idx y ∈ lw_all) (h2 : Cond.instanceMethod y ∈ lw_all) (h3 : Cond.selects C y y ∈ lw_all) (h4 : Cond.initialized C ∈ lw_all) (h5 : Cond.code y b L r ∈ lw_all) : GoodIn lw_all (wsV own idx C y (ws_ y b L r)) := by
  refine lw_app ?_ (lw_meth h5)
  intro w hw
  simp only [List.mem_cons, List.not_mem_nil, or_false] at hw
  rcases hw with e | e | e | e
  · rw [e]; exact h1
  · rw [e]; exact h2
  · rw [e]; exact h3
  · rw [e]; exact h4
/-- what a static call asks: va_cwS n hts (lw_S ..) -/
theorem lw_S {own : String} {idx : Nat} {y : MethodName} {b : ByteArray} {L : Nat} {r : Option FieldType} (h1 : Cond.methodLink own idx y ∈ lw_all) (h2 : Cond.static y ∈ lw_all) (h3 : Cond.initialized y.cls ∈ lw_all) (h4 : Cond.code y b L r ∈ lw_all) : GoodIn lw_all (va_wsS own idx y (ws_ y b L r)) := by
  refine lw_app ?_ (lw_meth h4)
  intro w hw
  simp only [List.mem_cons, List.not_mem_nil, or_false] at hw
  rcases hw with e | e | e
  · rw [e]; exact h1
  · rw [e]; exact h2
  · rw [e]; exact h3
/-- the words of a contract for a method WITH HANDLERS (hh: its table) -/
abbrev wsW_ (y : MethodName) (b : ByteArray) (L : Nat) (r : Option FieldType) (hh : List (Nat × Nat × Nat × Nat)) : List Cond := Cond.codeWith y b L r hh :: lw_all
theorem lw_methW {y : MethodName} {b : ByteArray} {L : Nat} {r : Option FieldType} {hh : List (Nat × Nat × Nat × Nat)} (h : Cond.codeWith y b L r hh ∈ lw_all) : GoodIn lw_all (wsW_ y b L r hh) := by
  intro w hw
  rcases List.mem_cons.mp hw with e | e
  · rw [e]
    exact lw_self _ h
  · exact lw_self _ e
/-- any list of words by their places (lw_in), good -/
theorem lw_good {ws : List Cond} (h : ∀ w ∈ ws, w ∈ lw_all) : GoodIn lw_all ws := fun w hw => lw_self w (h w hw)
/-- what a call of a method with handlers asks: vx_cwVW n hts (lw_VW ..), vx_cwSW n hts (lw_SW ..) -/
theorem lw_VW {own : String} {idx : Nat} {C : String} {y : MethodName} {b : ByteArray} {L : Nat} {r : Option FieldType} {hh : List (Nat × Nat × Nat × Nat)} (h1 : Cond.methodLink own idx y ∈ lw_all) (h2 : Cond.instanceMethod y ∈ lw_all) (h3 : Cond.selects C y y ∈ lw_all) (h4 : Cond.initialized C ∈ lw_all) (h5 : Cond.codeWith y b L r hh ∈ lw_all) : GoodIn lw_all (wsV own idx C y (wsW_ y b L r hh)) := by
  refine lw_app ?_ (lw_methW h5)
  intro w hw
  simp only [List.mem_cons, List.not_mem_nil, or_false] at hw
  rcases hw with e | e | e | e
  · rw [e]; exact h1
  · rw [e]; exact h2
  · rw [e]; exact h3
  · rw [e]; exact h4
theorem lw_SW {own : String} {idx : Nat} {y : MethodName} {b : ByteArray} {L : Nat} {r : Option FieldType} {hh : List (Nat × Nat × Nat × Nat)} (h1 : Cond.methodLink own idx y ∈ lw_all) (h2 : Cond.static y ∈ lw_all) (h3 : Cond.initialized y.cls ∈ lw_all) (h4 : Cond.codeWith y b L r hh ∈ lw_all) : GoodIn lw_all (va_wsS own idx y (wsW_ y b L r hh)) := by
  refine lw_app ?_ (lw_methW h4)
  intro w hw
  simp only [List.mem_cons, List.not_mem_nil, or_false] at hw
  rcases hw with e | e | e
  · rw [e]; exact h1
  · rw [e]; exact h2
  · rw [e]; exact h3
/-- a word by its place in its run of the tables -/
theorem lw_at {r : List Cond} (hr : ∀ w ∈ r, w ∈ lw_tbl) {w : Cond} (i : Nat) (h : r[i]? = some w) : w ∈ lw_tbl := hr w (List.mem_of_getElem? h)
theorem lw_g {w : Cond} (h : w ∈ lw_tbl) (g : goodWord w = true) : w ∈ lw_all := List.mem_filter.mpr ⟨h, g⟩
theorem lw_ms : ∀ w ∈ k2_sels lw_privs, w ∈ lw_tbl := fun w h => show w ∈ k2_sels lw_privs ++ tables_1 from List.mem_append_left _ h
theorem lw_m1 : ∀ w ∈ tables_1_1, w ∈ lw_tbl := fun w h => show w ∈ k2_sels lw_privs ++ tables_1 from List.mem_append_right (k2_sels lw_privs) (show w ∈ tables_1 from List.mem_append_left _ h)
theorem lw_m2 : ∀ w ∈ tables_1_2, w ∈ lw_tbl := fun w h => show w ∈ k2_sels lw_privs ++ tables_1 from List.mem_append_right (k2_sels lw_privs) (show w ∈ tables_1 from List.mem_append_right _ (List.mem_append_left _ h))
theorem lw_m3 : ∀ w ∈ tables_1_3, w ∈ lw_tbl := fun w h => show w ∈ k2_sels lw_privs ++ tables_1 from List.mem_append_right (k2_sels lw_privs) (show w ∈ tables_1 from List.mem_append_right _ (List.mem_append_right _ (List.mem_append_left _ h)))
theorem lw_m4 : ∀ w ∈ tables_1_4, w ∈ lw_tbl := fun w h => show w ∈ k2_sels lw_privs ++ tables_1 from List.mem_append_right (k2_sels lw_privs) (show w ∈ tables_1 from List.mem_append_right _ (List.mem_append_right _ (List.mem_append_right _ (List.mem_append_left _ h))))
theorem lw_m5 : ∀ w ∈ tables_1_5, w ∈ lw_tbl := fun w h => show w ∈ k2_sels lw_privs ++ tables_1 from List.mem_append_right (k2_sels lw_privs) (show w ∈ tables_1 from List.mem_append_right _ (List.mem_append_right _ (List.mem_append_right _ (List.mem_append_right _ (List.mem_append_left _ h)))))
theorem lw_m6 : ∀ w ∈ tables_1_6, w ∈ lw_tbl := fun w h => show w ∈ k2_sels lw_privs ++ tables_1 from List.mem_append_right (k2_sels lw_privs) (show w ∈ tables_1 from List.mem_append_right _ (List.mem_append_right _ (List.mem_append_right _ (List.mem_append_right _ (List.mem_append_right _ (List.mem_append_left _ h))))))
theorem lw_m7 : ∀ w ∈ tables_1_7, w ∈ lw_tbl := fun w h => show w ∈ k2_sels lw_privs ++ tables_1 from List.mem_append_right (k2_sels lw_privs) (show w ∈ tables_1 from List.mem_append_right _ (List.mem_append_right _ (List.mem_append_right _ (List.mem_append_right _ (List.mem_append_right _ (List.mem_append_right _ (List.mem_append_left _ h)))))))
theorem lw_m8 : ∀ w ∈ tables_1_8, w ∈ lw_tbl := fun w h => show w ∈ k2_sels lw_privs ++ tables_1 from List.mem_append_right (k2_sels lw_privs) (show w ∈ tables_1 from List.mem_append_right _ (List.mem_append_right _ (List.mem_append_right _ (List.mem_append_right _ (List.mem_append_right _ (List.mem_append_right _ (List.mem_append_right _ (List.mem_append_left _ h))))))))
theorem lw_m9 : ∀ w ∈ tables_1_9, w ∈ lw_tbl := fun w h => show w ∈ k2_sels lw_privs ++ tables_1 from List.mem_append_right (k2_sels lw_privs) (show w ∈ tables_1 from List.mem_append_right _ (List.mem_append_right _ (List.mem_append_right _ (List.mem_append_right _ (List.mem_append_right _ (List.mem_append_right _ (List.mem_append_right _ (List.mem_append_right _ h))))))))
theorem qs0 : (Cond.selects "java/lang/NullPointerException" ⟨"java/lang/NullPointerException", "getExtendedNPEMessage", "()Ljava/lang/String;"⟩ ⟨"java/lang/NullPointerException", "getExtendedNPEMessage", "()Ljava/lang/String;"⟩) ∈ lw_all := lw_g (lw_at lw_ms 0 rfl) rfl
theorem qs1 : (Cond.selects "java/lang/Throwable" ⟨"java/lang/Throwable", "fillInStackTrace", "(I)Ljava/lang/Throwable;"⟩ ⟨"java/lang/Throwable", "fillInStackTrace", "(I)Ljava/lang/Throwable;"⟩) ∈ lw_all := lw_g (lw_at lw_ms 1 rfl) rfl
theorem qs2 : (Cond.selects "FrostRing$Slot" ⟨"FrostRing$Slot", "put", "(IJ)V"⟩ ⟨"FrostRing$Slot", "put", "(IJ)V"⟩) ∈ lw_all := lw_g (lw_at lw_ms 2 rfl) rfl
theorem qs3 : (Cond.selects "FrostRing$Slot" ⟨"FrostRing$Slot", "putWider", "(IJ)V"⟩ ⟨"FrostRing$Slot", "putWider", "(IJ)V"⟩) ∈ lw_all := lw_g (lw_at lw_ms 3 rfl) rfl
theorem qs4 : (Cond.selects "FrostRing$Slot" ⟨"FrostRing$Slot", "width", "()I"⟩ ⟨"FrostRing$Slot", "width", "()I"⟩) ∈ lw_all := lw_g (lw_at lw_ms 4 rfl) rfl
theorem qs5 : (Cond.selects "java/util/ArrayList" ⟨"java/util/ArrayList", "add", "(Ljava/lang/Object;[Ljava/lang/Object;I)V"⟩ ⟨"java/util/ArrayList", "add", "(Ljava/lang/Object;[Ljava/lang/Object;I)V"⟩) ∈ lw_all := lw_g (lw_at lw_ms 5 rfl) rfl
theorem qs6 : (Cond.selects "java/util/ArrayList" ⟨"java/util/ArrayList", "grow", "()[Ljava/lang/Object;"⟩ ⟨"java/util/ArrayList", "grow", "()[Ljava/lang/Object;"⟩) ∈ lw_all := lw_g (lw_at lw_ms 6 rfl) rfl
theorem qs7 : (Cond.selects "java/util/ArrayList" ⟨"java/util/ArrayList", "grow", "(I)[Ljava/lang/Object;"⟩ ⟨"java/util/ArrayList", "grow", "(I)[Ljava/lang/Object;"⟩) ∈ lw_all := lw_g (lw_at lw_ms 7 rfl) rfl
theorem qs8 : (Cond.selects "FrostRing" ⟨"FrostRing", "puts", "(I)V"⟩ ⟨"FrostRing", "puts", "(I)V"⟩) ∈ lw_all := lw_g (lw_at lw_ms 8 rfl) rfl
theorem qs9 : (Cond.selects "FrostRing$Reader" ⟨"FrostRing$Reader", "next", "()V"⟩ ⟨"FrostRing$Reader", "next", "()V"⟩) ∈ lw_all := lw_g (lw_at lw_ms 9 rfl) rfl
theorem qs10 : (Cond.selects "FrostRing$Reader" ⟨"FrostRing$Reader", "isAt", "(II)Z"⟩ ⟨"FrostRing$Reader", "isAt", "(II)Z"⟩) ∈ lw_all := lw_g (lw_at lw_ms 10 rfl) rfl
theorem qs11 : (Cond.selects "FrostRing$Reader" ⟨"FrostRing$Reader", "oneOf", "([Ljava/lang/String;)I"⟩ ⟨"FrostRing$Reader", "oneOf", "([Ljava/lang/String;)I"⟩) ∈ lw_all := lw_g (lw_at lw_ms 11 rfl) rfl
theorem qs12 : (Cond.selects "FrostRing$Reader" ⟨"FrostRing$Reader", "is", "(Ljava/lang/String;)Z"⟩ ⟨"FrostRing$Reader", "is", "(Ljava/lang/String;)Z"⟩) ∈ lw_all := lw_g (lw_at lw_ms 12 rfl) rfl
theorem qs13 : (Cond.selects "FrostRing$Reader" ⟨"FrostRing$Reader", "fails", "(I)V"⟩ ⟨"FrostRing$Reader", "fails", "(I)V"⟩) ∈ lw_all := lw_g (lw_at lw_ms 13 rfl) rfl
theorem qs14 : (Cond.selects "FrostRing$Reader" ⟨"FrostRing$Reader", "isFull", "(LFrostRing$Told;I)Z"⟩ ⟨"FrostRing$Reader", "isFull", "(LFrostRing$Told;I)Z"⟩) ∈ lw_all := lw_g (lw_at lw_ms 14 rfl) rfl
theorem qs15 : (Cond.selects "FrostRing$Reader" ⟨"FrostRing$Reader", "line", "(LFrostRing$Told;I)V"⟩ ⟨"FrostRing$Reader", "line", "(LFrostRing$Told;I)V"⟩) ∈ lw_all := lw_g (lw_at lw_ms 15 rfl) rfl
theorem qs16 : (Cond.selects "FrostRing$Reader" ⟨"FrostRing$Reader", "ground", "(LFrostRing$Told;)V"⟩ ⟨"FrostRing$Reader", "ground", "(LFrostRing$Told;)V"⟩) ∈ lw_all := lw_g (lw_at lw_ms 16 rfl) rfl
theorem qs17 : (Cond.selects "FrostRing$Reader" ⟨"FrostRing$Reader", "number", "(II)I"⟩ ⟨"FrostRing$Reader", "number", "(II)I"⟩) ∈ lw_all := lw_g (lw_at lw_ms 17 rfl) rfl
theorem qs18 : (Cond.selects "FrostRing$Reader" ⟨"FrostRing$Reader", "number", "(Ljava/lang/String;II)I"⟩ ⟨"FrostRing$Reader", "number", "(Ljava/lang/String;II)I"⟩) ∈ lw_all := lw_g (lw_at lw_ms 18 rfl) rfl
theorem qs19 : (Cond.selects "FrostRing$Reader" ⟨"FrostRing$Reader", "word", "(Ljava/lang/String;)V"⟩ ⟨"FrostRing$Reader", "word", "(Ljava/lang/String;)V"⟩) ∈ lw_all := lw_g (lw_at lw_ms 19 rfl) rfl
theorem qs20 : (Cond.selects "FrostRing$Reader" ⟨"FrostRing$Reader", "takes", "(Ljava/lang/String;)Z"⟩ ⟨"FrostRing$Reader", "takes", "(Ljava/lang/String;)Z"⟩) ∈ lw_all := lw_g (lw_at lw_ms 20 rfl) rfl
theorem qs21 : (Cond.selects "FrostRing$Reader" ⟨"FrostRing$Reader", "below", "(Ljava/lang/String;I)I"⟩ ⟨"FrostRing$Reader", "below", "(Ljava/lang/String;I)I"⟩) ∈ lw_all := lw_g (lw_at lw_ms 21 rfl) rfl
theorem qs22 : (Cond.selects "FrostRing$Reader" ⟨"FrostRing$Reader", "isSign", "(I)Z"⟩ ⟨"FrostRing$Reader", "isSign", "(I)Z"⟩) ∈ lw_all := lw_g (lw_at lw_ms 22 rfl) rfl
theorem qs23 : (Cond.selects "FrostRing$Reader" ⟨"FrostRing$Reader", "lay", "(LFrostRing$Told;)V"⟩ ⟨"FrostRing$Reader", "lay", "(LFrostRing$Told;)V"⟩) ∈ lw_all := lw_g (lw_at lw_ms 23 rfl) rfl
theorem qs24 : (Cond.selects "FrostRing$Reader" ⟨"FrostRing$Reader", "stream", "(LFrostRing$Told;)V"⟩ ⟨"FrostRing$Reader", "stream", "(LFrostRing$Told;)V"⟩) ∈ lw_all := lw_g (lw_at lw_ms 24 rfl) rfl
theorem qs25 : (Cond.selects "FrostRing$Reader" ⟨"FrostRing$Reader", "shaft", "(LFrostRing$Told;)V"⟩ ⟨"FrostRing$Reader", "shaft", "(LFrostRing$Told;)V"⟩) ∈ lw_all := lw_g (lw_at lw_ms 25 rfl) rfl
theorem qs26 : (Cond.selects "FrostRing$Reader" ⟨"FrostRing$Reader", "pipe", "(LFrostRing$Told;)V"⟩ ⟨"FrostRing$Reader", "pipe", "(LFrostRing$Told;)V"⟩) ∈ lw_all := lw_g (lw_at lw_ms 26 rfl) rfl
theorem qs27 : (Cond.selects "FrostRing$Reader" ⟨"FrostRing$Reader", "rule", "(LFrostRing$Told;)V"⟩ ⟨"FrostRing$Reader", "rule", "(LFrostRing$Told;)V"⟩) ∈ lw_all := lw_g (lw_at lw_ms 27 rfl) rfl
theorem qs28 : (Cond.selects "FrostRing$Reader" ⟨"FrostRing$Reader", "measure", "(I)LFrostRing$Cond;"⟩ ⟨"FrostRing$Reader", "measure", "(I)LFrostRing$Cond;"⟩) ∈ lw_all := lw_g (lw_at lw_ms 28 rfl) rfl
theorem qs29 : (Cond.selects "FrostRing$Field" ⟨"FrostRing$Field", "leads", "(I)V"⟩ ⟨"FrostRing$Field", "leads", "(I)V"⟩) ∈ lw_all := lw_g (lw_at lw_ms 29 rfl) rfl
theorem qs30 : (Cond.selects "FrostRing$Field" ⟨"FrostRing$Field", "leadOf", "(I)I"⟩ ⟨"FrostRing$Field", "leadOf", "(I)I"⟩) ∈ lw_all := lw_g (lw_at lw_ms 30 rfl) rfl
theorem qs31 : (Cond.selects "FrostRing$Field" ⟨"FrostRing$Field", "streams", "(I)V"⟩ ⟨"FrostRing$Field", "streams", "(I)V"⟩) ∈ lw_all := lw_g (lw_at lw_ms 31 rfl) rfl
theorem qs32 : (Cond.selects "FrostRing$Field" ⟨"FrostRing$Field", "cools", "()V"⟩ ⟨"FrostRing$Field", "cools", "()V"⟩) ∈ lw_all := lw_g (lw_at lw_ms 32 rfl) rfl
theorem qs33 : (Cond.selects "FrostRing$Field" ⟨"FrostRing$Field", "wants", "(LFrostRing$Pipe;)I"⟩ ⟨"FrostRing$Field", "wants", "(LFrostRing$Pipe;)I"⟩) ∈ lw_all := lw_g (lw_at lw_ms 33 rfl) rfl
theorem qs34 : (Cond.selects "FrostRing$Field" ⟨"FrostRing$Field", "takes", "(II)V"⟩ ⟨"FrostRing$Field", "takes", "(II)V"⟩) ∈ lw_all := lw_g (lw_at lw_ms 34 rfl) rfl
theorem qs35 : (Cond.selects "FrostRing$Field" ⟨"FrostRing$Field", "isOpenDug", "()Z"⟩ ⟨"FrostRing$Field", "isOpenDug", "()Z"⟩) ∈ lw_all := lw_g (lw_at lw_ms 35 rfl) rfl
theorem qs36 : (Cond.selects "FrostRing$Field" ⟨"FrostRing$Field", "isBesideShaft", "(I)Z"⟩ ⟨"FrostRing$Field", "isBesideShaft", "(I)Z"⟩) ∈ lw_all := lw_g (lw_at lw_ms 36 rfl) rfl
theorem qs37 : (Cond.selects "FrostRing" ⟨"FrostRing", "pipeAt", "(I)I"⟩ ⟨"FrostRing", "pipeAt", "(I)I"⟩) ∈ lw_all := lw_g (lw_at lw_ms 37 rfl) rfl
theorem qs38 : (Cond.selects "FrostRing" ⟨"FrostRing", "isPipe", "(I)Z"⟩ ⟨"FrostRing", "isPipe", "(I)Z"⟩) ∈ lw_all := lw_g (lw_at lw_ms 38 rfl) rfl
theorem qs39 : (Cond.selects "FrostRing" ⟨"FrostRing", "hasShaft", "()Z"⟩ ⟨"FrostRing", "hasShaft", "()Z"⟩) ∈ lw_all := lw_g (lw_at lw_ms 39 rfl) rfl
theorem qs40 : (Cond.selects "FrostRing$Cut" ⟨"FrostRing$Cut", "finds", "()Z"⟩ ⟨"FrostRing$Cut", "finds", "()Z"⟩) ∈ lw_all := lw_g (lw_at lw_ms 40 rfl) rfl
theorem qs41 : (Cond.selects "FrostRing$Cut" ⟨"FrostRing$Cut", "come", "(II)V"⟩ ⟨"FrostRing$Cut", "come", "(II)V"⟩) ∈ lw_all := lw_g (lw_at lw_ms 41 rfl) rfl
theorem qs42 : (Cond.selects "FrostRing$Cut" ⟨"FrostRing$Cut", "goesIn", "(I)V"⟩ ⟨"FrostRing$Cut", "goesIn", "(I)V"⟩) ∈ lw_all := lw_g (lw_at lw_ms 42 rfl) rfl
theorem qs43 : (Cond.selects "FrostRing$Cut" ⟨"FrostRing$Cut", "goesOut", "(I)V"⟩ ⟨"FrostRing$Cut", "goesOut", "(I)V"⟩) ∈ lw_all := lw_g (lw_at lw_ms 43 rfl) rfl
theorem qs44 : (Cond.selects "FrostRing$Cut" ⟨"FrostRing$Cut", "sends", "()V"⟩ ⟨"FrostRing$Cut", "sends", "()V"⟩) ∈ lw_all := lw_g (lw_at lw_ms 44 rfl) rfl
theorem qs45 : (Cond.selects "FrostRing$Cut" ⟨"FrostRing$Cut", "turns", "(II)V"⟩ ⟨"FrostRing$Cut", "turns", "(II)V"⟩) ∈ lw_all := lw_g (lw_at lw_ms 45 rfl) rfl
theorem qs46 : (Cond.selects "FrostRing$Field" ⟨"FrostRing$Field", "costOf", "(I)I"⟩ ⟨"FrostRing$Field", "costOf", "(I)I"⟩) ∈ lw_all := lw_g (lw_at lw_ms 46 rfl) rfl
theorem qs47 : (Cond.selects "FrostRing" ⟨"FrostRing", "mayDig", "()Z"⟩ ⟨"FrostRing", "mayDig", "()Z"⟩) ∈ lw_all := lw_g (lw_at lw_ms 47 rfl) rfl
theorem qs48 : (Cond.selects "FrostRing" ⟨"FrostRing", "measured", "(I)I"⟩ ⟨"FrostRing", "measured", "(I)I"⟩) ∈ lw_all := lw_g (lw_at lw_ms 48 rfl) rfl
theorem qs49 : (Cond.selects "FrostRing" ⟨"FrostRing", "greatestLift", "()I"⟩ ⟨"FrostRing", "greatestLift", "()I"⟩) ∈ lw_all := lw_g (lw_at lw_ms 49 rfl) rfl
theorem qs50 : (Cond.selects "FrostRing" ⟨"FrostRing", "mayHave", "(LFrostRing$Slot;)Z"⟩ ⟨"FrostRing", "mayHave", "(LFrostRing$Slot;)Z"⟩) ∈ lw_all := lw_g (lw_at lw_ms 50 rfl) rfl
theorem qs51 : (Cond.selects "FrostRing" ⟨"FrostRing", "shutsBy", "(LFrostRing$Slot;II)Z"⟩ ⟨"FrostRing", "shutsBy", "(LFrostRing$Slot;II)Z"⟩) ∈ lw_all := lw_g (lw_at lw_ms 51 rfl) rfl
theorem qs52 : (Cond.selects "FrostRingModel" ⟨"FrostRingModel", "begins", "()V"⟩ ⟨"FrostRingModel", "begins", "()V"⟩) ∈ lw_all := lw_g (lw_at lw_ms 52 rfl) rfl
theorem qs53 : (Cond.selects "FrostRingModel" ⟨"FrostRingModel", "heatNow", "()I"⟩ ⟨"FrostRingModel", "heatNow", "()I"⟩) ∈ lw_all := lw_g (lw_at lw_ms 53 rfl) rfl
theorem qs54 : (Cond.selects "FrostRingModel" ⟨"FrostRingModel", "step", "()V"⟩ ⟨"FrostRingModel", "step", "()V"⟩) ∈ lw_all := lw_g (lw_at lw_ms 54 rfl) rfl
theorem qs55 : (Cond.selects "FrostRingModel" ⟨"FrostRingModel", "see", "(I)I"⟩ ⟨"FrostRingModel", "see", "(I)I"⟩) ∈ lw_all := lw_g (lw_at lw_ms 55 rfl) rfl
theorem qs56 : (Cond.selects "FrostRingModel" ⟨"FrostRingModel", "good", "()Z"⟩ ⟨"FrostRingModel", "good", "()Z"⟩) ∈ lw_all := lw_g (lw_at lw_ms 56 rfl) rfl
theorem qs57 : (Cond.selects "FrostRingModel" ⟨"FrostRingModel", "readLine", "()V"⟩ ⟨"FrostRingModel", "readLine", "()V"⟩) ∈ lw_all := lw_g (lw_at lw_ms 57 rfl) rfl
theorem qs58 : (Cond.selects "FrostRingModel" ⟨"FrostRingModel", "is", "(Ljava/lang/String;)Z"⟩ ⟨"FrostRingModel", "is", "(Ljava/lang/String;)Z"⟩) ∈ lw_all := lw_g (lw_at lw_ms 58 rfl) rfl
theorem qs59 : (Cond.selects "FrostRingModel" ⟨"FrostRingModel", "wrong", "(I)V"⟩ ⟨"FrostRingModel", "wrong", "(I)V"⟩) ∈ lw_all := lw_g (lw_at lw_ms 59 rfl) rfl
theorem qs60 : (Cond.selects "FrostRingModel" ⟨"FrostRingModel", "takes", "(Ljava/lang/String;)Z"⟩ ⟨"FrostRingModel", "takes", "(Ljava/lang/String;)Z"⟩) ∈ lw_all := lw_g (lw_at lw_ms 60 rfl) rfl
theorem qs61 : (Cond.selects "FrostRingModel" ⟨"FrostRingModel", "readGround", "()V"⟩ ⟨"FrostRingModel", "readGround", "()V"⟩) ∈ lw_all := lw_g (lw_at lw_ms 61 rfl) rfl
theorem qs62 : (Cond.selects "FrostRingModel" ⟨"FrostRingModel", "number", "(II)I"⟩ ⟨"FrostRingModel", "number", "(II)I"⟩) ∈ lw_all := lw_g (lw_at lw_ms 62 rfl) rfl
theorem qs63 : (Cond.selects "FrostRingModel" ⟨"FrostRingModel", "told", "(Ljava/lang/String;II)I"⟩ ⟨"FrostRingModel", "told", "(Ljava/lang/String;II)I"⟩) ∈ lw_all := lw_g (lw_at lw_ms 63 rfl) rfl
theorem qs64 : (Cond.selects "FrostRingModel" ⟨"FrostRingModel", "needs", "(Ljava/lang/String;)V"⟩ ⟨"FrostRingModel", "needs", "(Ljava/lang/String;)V"⟩) ∈ lw_all := lw_g (lw_at lw_ms 64 rfl) rfl
theorem qs65 : (Cond.selects "FrostRingModel" ⟨"FrostRingModel", "below", "(Ljava/lang/String;I)I"⟩ ⟨"FrostRingModel", "below", "(Ljava/lang/String;I)I"⟩) ∈ lw_all := lw_g (lw_at lw_ms 65 rfl) rfl
theorem qs66 : (Cond.selects "FrostRingModel" ⟨"FrostRingModel", "isSign", "(I)Z"⟩ ⟨"FrostRingModel", "isSign", "(I)Z"⟩) ∈ lw_all := lw_g (lw_at lw_ms 66 rfl) rfl
theorem qs67 : (Cond.selects "FrostRingModel" ⟨"FrostRingModel", "readLay", "()V"⟩ ⟨"FrostRingModel", "readLay", "()V"⟩) ∈ lw_all := lw_g (lw_at lw_ms 67 rfl) rfl
theorem qs68 : (Cond.selects "FrostRingModel" ⟨"FrostRingModel", "readBox", "(II)V"⟩ ⟨"FrostRingModel", "readBox", "(II)V"⟩) ∈ lw_all := lw_g (lw_at lw_ms 68 rfl) rfl
theorem qs69 : (Cond.selects "FrostRingModel" ⟨"FrostRingModel", "readStream", "()V"⟩ ⟨"FrostRingModel", "readStream", "()V"⟩) ∈ lw_all := lw_g (lw_at lw_ms 69 rfl) rfl
theorem qs70 : (Cond.selects "FrostRingModel" ⟨"FrostRingModel", "readPipe", "()V"⟩ ⟨"FrostRingModel", "readPipe", "()V"⟩) ∈ lw_all := lw_g (lw_at lw_ms 70 rfl) rfl
theorem qs71 : (Cond.selects "FrostRingModel" ⟨"FrostRingModel", "readRule", "()V"⟩ ⟨"FrostRingModel", "readRule", "()V"⟩) ∈ lw_all := lw_g (lw_at lw_ms 71 rfl) rfl
theorem qs72 : (Cond.selects "FrostRingModel" ⟨"FrostRingModel", "readCond", "(I)V"⟩ ⟨"FrostRingModel", "readCond", "(I)V"⟩) ∈ lw_all := lw_g (lw_at lw_ms 72 rfl) rfl
theorem qs73 : (Cond.selects "FrostRingModel" ⟨"FrostRingModel", "wordHere", "()I"⟩ ⟨"FrostRingModel", "wordHere", "()I"⟩) ∈ lw_all := lw_g (lw_at lw_ms 73 rfl) rfl
theorem qs74 : (Cond.selects "FrostRingModel" ⟨"FrostRingModel", "ticks", "()V"⟩ ⟨"FrostRingModel", "ticks", "()V"⟩) ∈ lw_all := lw_g (lw_at lw_ms 74 rfl) rfl
theorem qs75 : (Cond.selects "FrostRingModel" ⟨"FrostRingModel", "isDug", "(I)Z"⟩ ⟨"FrostRingModel", "isDug", "(I)Z"⟩) ∈ lw_all := lw_g (lw_at lw_ms 75 rfl) rfl
theorem qs76 : (Cond.selects "FrostRingModel" ⟨"FrostRingModel", "comesBeside", "(I)V"⟩ ⟨"FrostRingModel", "comesBeside", "(I)V"⟩) ∈ lw_all := lw_g (lw_at lw_ms 76 rfl) rfl
theorem qs77 : (Cond.selects "FrostRingModel" ⟨"FrostRingModel", "leadOf", "(I)I"⟩ ⟨"FrostRingModel", "leadOf", "(I)I"⟩) ∈ lw_all := lw_g (lw_at lw_ms 77 rfl) rfl
theorem qs78 : (Cond.selects "FrostRingModel" ⟨"FrostRingModel", "isFrozen", "(I)Z"⟩ ⟨"FrostRingModel", "isFrozen", "(I)Z"⟩) ∈ lw_all := lw_g (lw_at lw_ms 78 rfl) rfl
theorem qs79 : (Cond.selects "FrostRingModel" ⟨"FrostRingModel", "groundOf", "(II)I"⟩ ⟨"FrostRingModel", "groundOf", "(II)I"⟩) ∈ lw_all := lw_g (lw_at lw_ms 79 rfl) rfl
theorem qs80 : (Cond.selects "FrostRingModel" ⟨"FrostRingModel", "streams", "(I)V"⟩ ⟨"FrostRingModel", "streams", "(I)V"⟩) ∈ lw_all := lw_g (lw_at lw_ms 80 rfl) rfl
theorem qs81 : (Cond.selects "FrostRingModel" ⟨"FrostRingModel", "pipes", "()V"⟩ ⟨"FrostRingModel", "pipes", "()V"⟩) ∈ lw_all := lw_g (lw_at lw_ms 81 rfl) rfl
theorem qs82 : (Cond.selects "FrostRingModel" ⟨"FrostRingModel", "does", "(I)V"⟩ ⟨"FrostRingModel", "does", "(I)V"⟩) ∈ lw_all := lw_g (lw_at lw_ms 82 rfl) rfl
theorem qs83 : (Cond.selects "FrostRingModel" ⟨"FrostRingModel", "liftOf", "(I)I"⟩ ⟨"FrostRingModel", "liftOf", "(I)I"⟩) ∈ lw_all := lw_g (lw_at lw_ms 83 rfl) rfl
theorem qs84 : (Cond.selects "FrostRingModel" ⟨"FrostRingModel", "anyDug", "()Z"⟩ ⟨"FrostRingModel", "anyDug", "()Z"⟩) ∈ lw_all := lw_g (lw_at lw_ms 84 rfl) rfl
theorem qs85 : (Cond.selects "FrostRingModel" ⟨"FrostRingModel", "isShut", "()Z"⟩ ⟨"FrostRingModel", "isShut", "()Z"⟩) ∈ lw_all := lw_g (lw_at lw_ms 85 rfl) rfl
theorem qs86 : (Cond.selects "FrostRingModel" ⟨"FrostRingModel", "leastOut", "(II)I"⟩ ⟨"FrostRingModel", "leastOut", "(II)I"⟩) ∈ lw_all := lw_g (lw_at lw_ms 86 rfl) rfl
theorem qs87 : (Cond.selects "FrostRingModel" ⟨"FrostRingModel", "isShaft", "(I)Z"⟩ ⟨"FrostRingModel", "isShaft", "(I)Z"⟩) ∈ lw_all := lw_g (lw_at lw_ms 87 rfl) rfl
theorem qs88 : (Cond.selects "FrostRingModel" ⟨"FrostRingModel", "isBesideShaft", "(I)Z"⟩ ⟨"FrostRingModel", "isBesideShaft", "(I)Z"⟩) ∈ lw_all := lw_g (lw_at lw_ms 88 rfl) rfl
theorem qs89 : (Cond.selects "FrostRingModel" ⟨"FrostRingModel", "pipeAt", "(I)I"⟩ ⟨"FrostRingModel", "pipeAt", "(I)I"⟩) ∈ lw_all := lw_g (lw_at lw_ms 89 rfl) rfl
theorem qs90 : (Cond.selects "FrostRingModel" ⟨"FrostRingModel", "isPipe", "(I)Z"⟩ ⟨"FrostRingModel", "isPipe", "(I)Z"⟩) ∈ lw_all := lw_g (lw_at lw_ms 90 rfl) rfl
theorem qs91 : (Cond.selects "FrostRingModel" ⟨"FrostRingModel", "hasShaft", "()Z"⟩ ⟨"FrostRingModel", "hasShaft", "()Z"⟩) ∈ lw_all := lw_g (lw_at lw_ms 91 rfl) rfl
theorem qs92 : (Cond.selects "FrostRingModel" ⟨"FrostRingModel", "findGaps", "()I"⟩ ⟨"FrostRingModel", "findGaps", "()I"⟩) ∈ lw_all := lw_g (lw_at lw_ms 92 rfl) rfl
theorem qs93 : (Cond.selects "FrostRingModel" ⟨"FrostRingModel", "search", "()I"⟩ ⟨"FrostRingModel", "search", "()I"⟩) ∈ lw_all := lw_g (lw_at lw_ms 93 rfl) rfl
theorem qs94 : (Cond.selects "FrostRingModel" ⟨"FrostRingModel", "isOpen", "(I)Z"⟩ ⟨"FrostRingModel", "isOpen", "(I)Z"⟩) ∈ lw_all := lw_g (lw_at lw_ms 94 rfl) rfl
theorem qs95 : (Cond.selects "FrostRingModel" ⟨"FrostRingModel", "reach", "(II)V"⟩ ⟨"FrostRingModel", "reach", "(II)V"⟩) ∈ lw_all := lw_g (lw_at lw_ms 95 rfl) rfl
theorem qs96 : (Cond.selects "FrostRingModel" ⟨"FrostRingModel", "goes", "(I)V"⟩ ⟨"FrostRingModel", "goes", "(I)V"⟩) ∈ lw_all := lw_g (lw_at lw_ms 96 rfl) rfl
theorem qs97 : (Cond.selects "FrostRingModel" ⟨"FrostRingModel", "condHolds", "(I)Z"⟩ ⟨"FrostRingModel", "condHolds", "(I)Z"⟩) ∈ lw_all := lw_g (lw_at lw_ms 97 rfl) rfl
theorem qs98 : (Cond.selects "FrostRingModel" ⟨"FrostRingModel", "wordOf", "(I)I"⟩ ⟨"FrostRingModel", "wordOf", "(I)I"⟩) ∈ lw_all := lw_g (lw_at lw_ms 98 rfl) rfl
theorem qs99 : (Cond.selects "FrostRingModel" ⟨"FrostRingModel", "mayDig", "()Z"⟩ ⟨"FrostRingModel", "mayDig", "()Z"⟩) ∈ lw_all := lw_g (lw_at lw_ms 99 rfl) rfl
theorem qs100 : (Cond.selects "FrostRingModel" ⟨"FrostRingModel", "saves", "()V"⟩ ⟨"FrostRingModel", "saves", "()V"⟩) ∈ lw_all := lw_g (lw_at lw_ms 100 rfl) rfl
theorem qs101 : (Cond.selects "FrostRingModel" ⟨"FrostRingModel", "putsBack", "()V"⟩ ⟨"FrostRingModel", "putsBack", "()V"⟩) ∈ lw_all := lw_g (lw_at lw_ms 101 rfl) rfl
theorem qs102 : (Cond.selects "FrostRingModel" ⟨"FrostRingModel", "mayTell", "(I)Z"⟩ ⟨"FrostRingModel", "mayTell", "(I)Z"⟩) ∈ lw_all := lw_g (lw_at lw_ms 102 rfl) rfl
theorem qs103 : (Cond.selects "FrostRingModel" ⟨"FrostRingModel", "shutsBy", "(III)Z"⟩ ⟨"FrostRingModel", "shutsBy", "(III)Z"⟩) ∈ lw_all := lw_g (lw_at lw_ms 103 rfl) rfl
