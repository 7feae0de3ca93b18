-- ===== PART A: goes FIRST, ahead of the names: the tables' words, and 'selects' of the private methods out of them =====
/-- a private method of a class that the tables say can be made, by its rows of tables_1 -/
def lw_okq (q : MethodName × Nat) : Prop := (q.1.cls ≠ "java/lang/invoke/MethodHandle" ∧ q.1.cls ≠ "java/lang/invoke/VarHandle") ∧ Cond.instantiable q.1.cls q.2 ∈ tables_1 ∧ Cond.privateMethod q.1 ∈ tables_1 ∧ Cond.instanceMethod q.1 ∈ tables_1
set_option maxRecDepth 100000
theorem lw_t1 {w : Cond} (h : w ∈ tables_1_1) : w ∈ tables_1 := List.mem_append_left _ h
theorem lw_t2 {w : Cond} (h : w ∈ tables_1_2) : w ∈ tables_1 := List.mem_append_right _ (List.mem_append_left _ h)
theorem lw_t3 {w : Cond} (h : w ∈ tables_1_3) : w ∈ tables_1 := List.mem_append_right _ (List.mem_append_right _ (List.mem_append_left _ h))
theorem lw_t4 {w : Cond} (h : w ∈ tables_1_4) : w ∈ tables_1 := List.mem_append_right _ (List.mem_append_right _ (List.mem_append_right _ (List.mem_append_left _ h)))
theorem lw_t5 {w : Cond} (h : w ∈ tables_1_5) : w ∈ tables_1 := List.mem_append_right _ (List.mem_append_right _ (List.mem_append_right _ (List.mem_append_right _ (List.mem_append_left _ h))))
theorem lw_t6 {w : Cond} (h : w ∈ tables_1_6) : w ∈ tables_1 := List.mem_append_right _ (List.mem_append_right _ (List.mem_append_right _ (List.mem_append_right _ (List.mem_append_right _ (List.mem_append_left _ h)))))
theorem lw_t7 {w : Cond} (h : w ∈ tables_1_7) : w ∈ tables_1 := List.mem_append_right _ (List.mem_append_right _ (List.mem_append_right _ (List.mem_append_right _ (List.mem_append_right _ (List.mem_append_right _ h)))))
theorem lw_p0 : lw_okq (⟨"java/util/ArrayList", "add", "(Ljava/lang/Object;[Ljava/lang/Object;I)V"⟩, 3) := ⟨⟨by decide +kernel, by decide +kernel⟩, lw_t1 (List.mem_of_getElem? (i := 64) rfl), lw_t2 (List.mem_of_getElem? (i := 176) rfl), lw_t2 (List.mem_of_getElem? (i := 177) rfl)⟩
theorem lw_p1 : lw_okq (⟨"java/util/ArrayList", "grow", "()[Ljava/lang/Object;"⟩, 3) := ⟨⟨by decide +kernel, by decide +kernel⟩, lw_t1 (List.mem_of_getElem? (i := 64) rfl), lw_t2 (List.mem_of_getElem? (i := 180) rfl), lw_t2 (List.mem_of_getElem? (i := 181) rfl)⟩
theorem lw_p2 : lw_okq (⟨"java/util/ArrayList", "grow", "(I)[Ljava/lang/Object;"⟩, 3) := ⟨⟨by decide +kernel, by decide +kernel⟩, lw_t1 (List.mem_of_getElem? (i := 64) rfl), lw_t2 (List.mem_of_getElem? (i := 184) rfl), lw_t2 (List.mem_of_getElem? (i := 185) rfl)⟩
theorem lw_p3 : lw_okq (⟨"WriteOnceDisc", "hindrance", "(ILjava/lang/String;ZZ)I"⟩, 11) := ⟨⟨by decide +kernel, by decide +kernel⟩, lw_t1 (List.mem_of_getElem? (i := 30) rfl), lw_t3 (List.mem_of_getElem? (i := 144) rfl), lw_t3 (List.mem_of_getElem? (i := 145) rfl)⟩
theorem lw_p4 : lw_okq (⟨"WriteOnceDisc", "isDirectory", "(I)Z"⟩, 11) := ⟨⟨by decide +kernel, by decide +kernel⟩, lw_t1 (List.mem_of_getElem? (i := 30) rfl), lw_t3 (List.mem_of_getElem? (i := 148) rfl), lw_t3 (List.mem_of_getElem? (i := 149) rfl)⟩
theorem lw_p5 : lw_okq (⟨"java/util/ArrayList", "fastRemove", "([Ljava/lang/Object;I)V"⟩, 3) := ⟨⟨by decide +kernel, by decide +kernel⟩, lw_t1 (List.mem_of_getElem? (i := 64) rfl), lw_t3 (List.mem_of_getElem? (i := 218) rfl), lw_t3 (List.mem_of_getElem? (i := 219) rfl)⟩
theorem lw_p6 : lw_okq (⟨"WriteOnceDisc$Burner", "extent", "(LWriteOnceDisc$Node;)I"⟩, 6) := ⟨⟨by decide +kernel, by decide +kernel⟩, lw_t1 (List.mem_of_getElem? (i := 58) rfl), lw_t4 (List.mem_of_getElem? (i := 10) rfl), lw_t4 (List.mem_of_getElem? (i := 11) rfl)⟩
theorem lw_p7 : lw_okq (⟨"WriteOnceDisc$Burner", "contentOf", "(LWriteOnceDisc$Node;I)[B"⟩, 6) := ⟨⟨by decide +kernel, by decide +kernel⟩, lw_t1 (List.mem_of_getElem? (i := 58) rfl), lw_t4 (List.mem_of_getElem? (i := 22) rfl), lw_t4 (List.mem_of_getElem? (i := 23) rfl)⟩
theorem lw_p8 : lw_okq (⟨"WriteOnceDisc$Burner", "blank", "()LWriteOnceDisc$Page;"⟩, 6) := ⟨⟨by decide +kernel, by decide +kernel⟩, lw_t1 (List.mem_of_getElem? (i := 58) rfl), lw_t4 (List.mem_of_getElem? (i := 26) rfl), lw_t4 (List.mem_of_getElem? (i := 27) rfl)⟩
theorem lw_p9 : lw_okq (⟨"WriteOnceDisc$Burner", "writes", "(I[BI)Z"⟩, 6) := ⟨⟨by decide +kernel, by decide +kernel⟩, lw_t1 (List.mem_of_getElem? (i := 58) rfl), lw_t4 (List.mem_of_getElem? (i := 34) rfl), lw_t4 (List.mem_of_getElem? (i := 35) rfl)⟩
theorem lw_p10 : lw_okq (⟨"WriteOnceDisc$Burner", "layOut", "(I)I"⟩, 6) := ⟨⟨by decide +kernel, by decide +kernel⟩, lw_t1 (List.mem_of_getElem? (i := 58) rfl), lw_t4 (List.mem_of_getElem? (i := 42) rfl), lw_t4 (List.mem_of_getElem? (i := 43) rfl)⟩
theorem lw_p11 : lw_okq (⟨"WriteOnceDisc$Burner", "burns", "(II)Z"⟩, 6) := ⟨⟨by decide +kernel, by decide +kernel⟩, lw_t1 (List.mem_of_getElem? (i := 58) rfl), lw_t4 (List.mem_of_getElem? (i := 85) rfl), lw_t4 (List.mem_of_getElem? (i := 86) rfl)⟩
theorem lw_p12 : lw_okq (⟨"WriteOnceDisc$Burner", "descriptor", "(I)LWriteOnceDisc$Page;"⟩, 6) := ⟨⟨by decide +kernel, by decide +kernel⟩, lw_t1 (List.mem_of_getElem? (i := 58) rfl), lw_t4 (List.mem_of_getElem? (i := 89) rfl), lw_t4 (List.mem_of_getElem? (i := 90) rfl)⟩
theorem lw_p13 : lw_okq (⟨"WriteOnceDisc$Burner", "head", "(I)LWriteOnceDisc$Page;"⟩, 6) := ⟨⟨by decide +kernel, by decide +kernel⟩, lw_t1 (List.mem_of_getElem? (i := 58) rfl), lw_t4 (List.mem_of_getElem? (i := 93) rfl), lw_t4 (List.mem_of_getElem? (i := 94) rfl)⟩
theorem lw_p14 : lw_okq (⟨"WriteOnceDisc$Burner", "tableSize", "()I"⟩, 6) := ⟨⟨by decide +kernel, by decide +kernel⟩, lw_t1 (List.mem_of_getElem? (i := 58) rfl), lw_t4 (List.mem_of_getElem? (i := 117) rfl), lw_t4 (List.mem_of_getElem? (i := 118) rfl)⟩
theorem lw_p15 : lw_okq (⟨"WriteOnceDisc$Burner", "record", "(LWriteOnceDisc$Page;ILWriteOnceDisc$Node;Ljava/lang/String;)V"⟩, 6) := ⟨⟨by decide +kernel, by decide +kernel⟩, lw_t1 (List.mem_of_getElem? (i := 58) rfl), lw_t4 (List.mem_of_getElem? (i := 131) rfl), lw_t4 (List.mem_of_getElem? (i := 132) rfl)⟩
def lw_privs_1 : List (MethodName × Nat) := [(⟨"java/util/ArrayList", "add", "(Ljava/lang/Object;[Ljava/lang/Object;I)V"⟩, 3), (⟨"java/util/ArrayList", "grow", "()[Ljava/lang/Object;"⟩, 3), (⟨"java/util/ArrayList", "grow", "(I)[Ljava/lang/Object;"⟩, 3), (⟨"WriteOnceDisc", "hindrance", "(ILjava/lang/String;ZZ)I"⟩, 11), (⟨"WriteOnceDisc", "isDirectory", "(I)Z"⟩, 11), (⟨"java/util/ArrayList", "fastRemove", "([Ljava/lang/Object;I)V"⟩, 3), (⟨"WriteOnceDisc$Burner", "extent", "(LWriteOnceDisc$Node;)I"⟩, 6), (⟨"WriteOnceDisc$Burner", "contentOf", "(LWriteOnceDisc$Node;I)[B"⟩, 6), (⟨"WriteOnceDisc$Burner", "blank", "()LWriteOnceDisc$Page;"⟩, 6), (⟨"WriteOnceDisc$Burner", "writes", "(I[BI)Z"⟩, 6), (⟨"WriteOnceDisc$Burner", "layOut", "(I)I"⟩, 6), (⟨"WriteOnceDisc$Burner", "burns", "(II)Z"⟩, 6), (⟨"WriteOnceDisc$Burner", "descriptor", "(I)LWriteOnceDisc$Page;"⟩, 6), (⟨"WriteOnceDisc$Burner", "head", "(I)LWriteOnceDisc$Page;"⟩, 6), (⟨"WriteOnceDisc$Burner", "tableSize", "()I"⟩, 6), (⟨"WriteOnceDisc$Burner", "record", "(LWriteOnceDisc$Page;ILWriteOnceDisc$Node;Ljava/lang/String;)V"⟩, 6)]
theorem lw_r1 : ∀ q ∈ lw_privs_1, lw_okq q := List.forall_mem_cons.mpr ⟨lw_p0, List.forall_mem_cons.mpr ⟨lw_p1, List.forall_mem_cons.mpr ⟨lw_p2, List.forall_mem_cons.mpr ⟨lw_p3, List.forall_mem_cons.mpr ⟨lw_p4, List.forall_mem_cons.mpr ⟨lw_p5, List.forall_mem_cons.mpr ⟨lw_p6, List.forall_mem_cons.mpr ⟨lw_p7, List.forall_mem_cons.mpr ⟨lw_p8, List.forall_mem_cons.mpr ⟨lw_p9, List.forall_mem_cons.mpr ⟨lw_p10, List.forall_mem_cons.mpr ⟨lw_p11, List.forall_mem_cons.mpr ⟨lw_p12, List.forall_mem_cons.mpr ⟨lw_p13, List.forall_mem_cons.mpr ⟨lw_p14, List.forall_mem_cons.mpr ⟨lw_p15, fun _ h => absurd h List.not_mem_nil⟩⟩⟩⟩⟩⟩⟩⟩⟩⟩⟩⟩⟩⟩⟩⟩
theorem lw_p16 : lw_okq (⟨"WriteOnceDisc$Burner", "paths", "(Z)LWriteOnceDisc$Page;"⟩, 6) := ⟨⟨by decide +kernel, by decide +kernel⟩, lw_t1 (List.mem_of_getElem? (i := 58) rfl), lw_t4 (List.mem_of_getElem? (i := 135) rfl), lw_t4 (List.mem_of_getElem? (i := 136) rfl)⟩
theorem lw_p17 : lw_okq (⟨"WriteOnceDisc$Burner", "directory", "(LWriteOnceDisc$Node;)LWriteOnceDisc$Page;"⟩, 6) := ⟨⟨by decide +kernel, by decide +kernel⟩, lw_t1 (List.mem_of_getElem? (i := 58) rfl), lw_t4 (List.mem_of_getElem? (i := 139) rfl), lw_t4 (List.mem_of_getElem? (i := 140) rfl)⟩
theorem lw_p18 : lw_okq (⟨"WriteOnceDisc$Burner", "mark", "(II)LWriteOnceDisc$Page;"⟩, 6) := ⟨⟨by decide +kernel, by decide +kernel⟩, lw_t1 (List.mem_of_getElem? (i := 58) rfl), lw_t4 (List.mem_of_getElem? (i := 143) rfl), lw_t4 (List.mem_of_getElem? (i := 144) rfl)⟩
theorem lw_p19 : lw_okq (⟨"WriteOnceDisc", "marks", "()[I"⟩, 11) := ⟨⟨by decide +kernel, by decide +kernel⟩, lw_t1 (List.mem_of_getElem? (i := 30) rfl), lw_t4 (List.mem_of_getElem? (i := 152) rfl), lw_t4 (List.mem_of_getElem? (i := 153) rfl)⟩
theorem lw_p20 : lw_okq (⟨"WriteOnceDisc", "base", "(I)I"⟩, 11) := ⟨⟨by decide +kernel, by decide +kernel⟩, lw_t1 (List.mem_of_getElem? (i := 30) rfl), lw_t4 (List.mem_of_getElem? (i := 179) rfl), lw_t4 (List.mem_of_getElem? (i := 180) rfl)⟩
theorem lw_p21 : lw_okq (⟨"WriteOnceDisc$Reader", "bad", "(J)Z"⟩, 11) := ⟨⟨by decide +kernel, by decide +kernel⟩, lw_t3 (List.mem_of_getElem? (i := 17) rfl), lw_t4 (List.mem_of_getElem? (i := 193) rfl), lw_t4 (List.mem_of_getElem? (i := 194) rfl)⟩
theorem lw_p22 : lw_okq (⟨"WriteOnceDisc$Reader", "isHead", "(JI)Z"⟩, 11) := ⟨⟨by decide +kernel, by decide +kernel⟩, lw_t3 (List.mem_of_getElem? (i := 17) rfl), lw_t4 (List.mem_of_getElem? (i := 197) rfl), lw_t4 (List.mem_of_getElem? (i := 198) rfl)⟩
theorem lw_p23 : lw_okq (⟨"WriteOnceDisc$Reader", "sound", "(JI)Z"⟩, 11) := ⟨⟨by decide +kernel, by decide +kernel⟩, lw_t3 (List.mem_of_getElem? (i := 17) rfl), lw_t4 (List.mem_of_getElem? (i := 218) rfl), lw_t4 (List.mem_of_getElem? (i := 219) rfl)⟩
theorem lw_p24 : lw_okq (⟨"WriteOnceDisc$Reader", "read", "(J)V"⟩, 11) := ⟨⟨by decide +kernel, by decide +kernel⟩, lw_t3 (List.mem_of_getElem? (i := 17) rfl), lw_t4 (List.mem_of_getElem? (i := 227) rfl), lw_t4 (List.mem_of_getElem? (i := 228) rfl)⟩
theorem lw_p25 : lw_okq (⟨"WriteOnceDisc$Reader", "isIdentifier", "(I)Z"⟩, 11) := ⟨⟨by decide +kernel, by decide +kernel⟩, lw_t3 (List.mem_of_getElem? (i := 17) rfl), lw_t4 (List.mem_of_getElem? (i := 232) rfl), lw_t4 (List.mem_of_getElem? (i := 233) rfl)⟩
theorem lw_p26 : lw_okq (⟨"WriteOnceDisc$Reader", "letter", "(I)I"⟩, 11) := ⟨⟨by decide +kernel, by decide +kernel⟩, lw_t3 (List.mem_of_getElem? (i := 17) rfl), lw_t4 (List.mem_of_getElem? (i := 236) rfl), lw_t4 (List.mem_of_getElem? (i := 237) rfl)⟩
theorem lw_p27 : lw_okq (⟨"WriteOnceDisc$Reader", "isPlain", "(I)Z"⟩, 11) := ⟨⟨by decide +kernel, by decide +kernel⟩, lw_t3 (List.mem_of_getElem? (i := 17) rfl), lw_t5 (List.mem_of_getElem? (i := 0) rfl), lw_t5 (List.mem_of_getElem? (i := 1) rfl)⟩
theorem lw_p28 : lw_okq (⟨"WriteOnceDisc$Reader", "found", "(JI)LWriteOnceDisc$Found;"⟩, 11) := ⟨⟨by decide +kernel, by decide +kernel⟩, lw_t3 (List.mem_of_getElem? (i := 17) rfl), lw_t5 (List.mem_of_getElem? (i := 7) rfl), lw_t5 (List.mem_of_getElem? (i := 8) rfl)⟩
theorem lw_p29 : lw_okq (⟨"WriteOnceDisc$Reader", "isDirectory", "(J)Z"⟩, 11) := ⟨⟨by decide +kernel, by decide +kernel⟩, lw_t3 (List.mem_of_getElem? (i := 17) rfl), lw_t5 (List.mem_of_getElem? (i := 41) rfl), lw_t5 (List.mem_of_getElem? (i := 42) rfl)⟩
theorem lw_p30 : lw_okq (⟨"WriteOnceDisc$Reader", "directory", "(I)Z"⟩, 11) := ⟨⟨by decide +kernel, by decide +kernel⟩, lw_t3 (List.mem_of_getElem? (i := 17) rfl), lw_t5 (List.mem_of_getElem? (i := 48) rfl), lw_t5 (List.mem_of_getElem? (i := 49) rfl)⟩
theorem lw_p31 : lw_okq (⟨"WriteOnceDisc$Reader", "same", "(JLWriteOnceDisc$Found;)Z"⟩, 11) := ⟨⟨by decide +kernel, by decide +kernel⟩, lw_t3 (List.mem_of_getElem? (i := 17) rfl), lw_t5 (List.mem_of_getElem? (i := 52) rfl), lw_t5 (List.mem_of_getElem? (i := 53) rfl)⟩
def lw_privs_2 : List (MethodName × Nat) := [(⟨"WriteOnceDisc$Burner", "paths", "(Z)LWriteOnceDisc$Page;"⟩, 6), (⟨"WriteOnceDisc$Burner", "directory", "(LWriteOnceDisc$Node;)LWriteOnceDisc$Page;"⟩, 6), (⟨"WriteOnceDisc$Burner", "mark", "(II)LWriteOnceDisc$Page;"⟩, 6), (⟨"WriteOnceDisc", "marks", "()[I"⟩, 11), (⟨"WriteOnceDisc", "base", "(I)I"⟩, 11), (⟨"WriteOnceDisc$Reader", "bad", "(J)Z"⟩, 11), (⟨"WriteOnceDisc$Reader", "isHead", "(JI)Z"⟩, 11), (⟨"WriteOnceDisc$Reader", "sound", "(JI)Z"⟩, 11), (⟨"WriteOnceDisc$Reader", "read", "(J)V"⟩, 11), (⟨"WriteOnceDisc$Reader", "isIdentifier", "(I)Z"⟩, 11), (⟨"WriteOnceDisc$Reader", "letter", "(I)I"⟩, 11), (⟨"WriteOnceDisc$Reader", "isPlain", "(I)Z"⟩, 11), (⟨"WriteOnceDisc$Reader", "found", "(JI)LWriteOnceDisc$Found;"⟩, 11), (⟨"WriteOnceDisc$Reader", "isDirectory", "(J)Z"⟩, 11), (⟨"WriteOnceDisc$Reader", "directory", "(I)Z"⟩, 11), (⟨"WriteOnceDisc$Reader", "same", "(JLWriteOnceDisc$Found;)Z"⟩, 11)]
theorem lw_r2 : ∀ q ∈ lw_privs_2, lw_okq q := List.forall_mem_cons.mpr ⟨lw_p16, List.forall_mem_cons.mpr ⟨lw_p17, List.forall_mem_cons.mpr ⟨lw_p18, List.forall_mem_cons.mpr ⟨lw_p19, List.forall_mem_cons.mpr ⟨lw_p20, List.forall_mem_cons.mpr ⟨lw_p21, List.forall_mem_cons.mpr ⟨lw_p22, List.forall_mem_cons.mpr ⟨lw_p23, List.forall_mem_cons.mpr ⟨lw_p24, List.forall_mem_cons.mpr ⟨lw_p25, List.forall_mem_cons.mpr ⟨lw_p26, List.forall_mem_cons.mpr ⟨lw_p27, List.forall_mem_cons.mpr ⟨lw_p28, List.forall_mem_cons.mpr ⟨lw_p29, List.forall_mem_cons.mpr ⟨lw_p30, List.forall_mem_cons.mpr ⟨lw_p31, fun _ h => absurd h List.not_mem_nil⟩⟩⟩⟩⟩⟩⟩⟩⟩⟩⟩⟩⟩⟩⟩⟩
theorem lw_p32 : lw_okq (⟨"WriteOnceDisc$Reader", "rises", "()Z"⟩, 11) := ⟨⟨by decide +kernel, by decide +kernel⟩, lw_t3 (List.mem_of_getElem? (i := 17) rfl), lw_t5 (List.mem_of_getElem? (i := 56) rfl), lw_t5 (List.mem_of_getElem? (i := 57) rfl)⟩
theorem lw_p33 : lw_okq (⟨"WriteOnceDisc$Reader", "node", "(JI)Z"⟩, 11) := ⟨⟨by decide +kernel, by decide +kernel⟩, lw_t3 (List.mem_of_getElem? (i := 17) rfl), lw_t5 (List.mem_of_getElem? (i := 60) rfl), lw_t5 (List.mem_of_getElem? (i := 61) rfl)⟩
theorem lw_p34 : lw_okq (⟨"WriteOnceDisc$Reader", "word", "(I)J"⟩, 11) := ⟨⟨by decide +kernel, by decide +kernel⟩, lw_t3 (List.mem_of_getElem? (i := 17) rfl), lw_t5 (List.mem_of_getElem? (i := 64) rfl), lw_t5 (List.mem_of_getElem? (i := 65) rfl)⟩
theorem lw_p35 : lw_okq (⟨"WriteOnceDisc$Reader", "overlaps", "(LWriteOnceDisc$Found;)Z"⟩, 11) := ⟨⟨by decide +kernel, by decide +kernel⟩, lw_t3 (List.mem_of_getElem? (i := 17) rfl), lw_t5 (List.mem_of_getElem? (i := 68) rfl), lw_t5 (List.mem_of_getElem? (i := 69) rfl)⟩
theorem lw_p36 : lw_okq (⟨"WriteOnceDisc$Reader", "paths", "(JZ)Z"⟩, 11) := ⟨⟨by decide +kernel, by decide +kernel⟩, lw_t3 (List.mem_of_getElem? (i := 17) rfl), lw_t5 (List.mem_of_getElem? (i := 77) rfl), lw_t5 (List.mem_of_getElem? (i := 78) rfl)⟩
theorem lw_p37 : lw_okq (⟨"WriteOnceDisc$Reader", "isNumber", "(JIIZ)Z"⟩, 11) := ⟨⟨by decide +kernel, by decide +kernel⟩, lw_t3 (List.mem_of_getElem? (i := 17) rfl), lw_t5 (List.mem_of_getElem? (i := 84) rfl), lw_t5 (List.mem_of_getElem? (i := 85) rfl)⟩
theorem lw_p38 : lw_okq (⟨"WriteOnceDisc", "take", "(LWriteOnceDisc$Reader;)V"⟩, 11) := ⟨⟨by decide +kernel, by decide +kernel⟩, lw_t1 (List.mem_of_getElem? (i := 30) rfl), lw_t5 (List.mem_of_getElem? (i := 90) rfl), lw_t5 (List.mem_of_getElem? (i := 91) rfl)⟩
theorem lw_p39 : lw_okq (⟨"WriteOnceDisc", "isIn", "(I)Z"⟩, 11) := ⟨⟨by decide +kernel, by decide +kernel⟩, lw_t1 (List.mem_of_getElem? (i := 30) rfl), lw_t5 (List.mem_of_getElem? (i := 111) rfl), lw_t5 (List.mem_of_getElem? (i := 112) rfl)⟩
theorem lw_p40 : lw_okq (⟨"java/lang/Throwable", "fillInStackTrace", "(I)Ljava/lang/Throwable;"⟩, 6) := ⟨⟨by decide +kernel, by decide +kernel⟩, lw_t5 (List.mem_of_getElem? (i := 183) rfl), lw_t5 (List.mem_of_getElem? (i := 181) rfl), lw_t5 (List.mem_of_getElem? (i := 182) rfl)⟩
theorem lw_p41 : lw_okq (⟨"WriteOnceDisc", "openNode", "(I)LWriteOnceDisc$Found;"⟩, 11) := ⟨⟨by decide +kernel, by decide +kernel⟩, lw_t1 (List.mem_of_getElem? (i := 30) rfl), lw_t5 (List.mem_of_getElem? (i := 215) rfl), lw_t5 (List.mem_of_getElem? (i := 216) rfl)⟩
theorem lw_p42 : lw_okq (⟨"WriteOnceDiscModel", "rootAlone", "()V"⟩, 41) := ⟨⟨by decide +kernel, by decide +kernel⟩, lw_t6 (List.mem_of_getElem? (i := 0) rfl), lw_t6 (List.mem_of_getElem? (i := 8) rfl), lw_t6 (List.mem_of_getElem? (i := 9) rfl)⟩
theorem lw_p43 : lw_okq (⟨"WriteOnceDiscModel", "add", "(IJZIIZ)I"⟩, 41) := ⟨⟨by decide +kernel, by decide +kernel⟩, lw_t6 (List.mem_of_getElem? (i := 0) rfl), lw_t6 (List.mem_of_getElem? (i := 155) rfl), lw_t6 (List.mem_of_getElem? (i := 156) rfl)⟩
theorem lw_p44 : lw_okq (⟨"WriteOnceDiscModel", "isNode", "(I)Z"⟩, 41) := ⟨⟨by decide +kernel, by decide +kernel⟩, lw_t6 (List.mem_of_getElem? (i := 0) rfl), lw_t6 (List.mem_of_getElem? (i := 166) rfl), lw_t6 (List.mem_of_getElem? (i := 167) rfl)⟩
theorem lw_p45 : lw_okq (⟨"WriteOnceDiscModel", "depthOf", "(I)I"⟩, 41) := ⟨⟨by decide +kernel, by decide +kernel⟩, lw_t6 (List.mem_of_getElem? (i := 0) rfl), lw_t6 (List.mem_of_getElem? (i := 170) rfl), lw_t6 (List.mem_of_getElem? (i := 171) rfl)⟩
theorem lw_p46 : lw_okq (⟨"WriteOnceDiscModel", "namedIn", "(IJ)I"⟩, 41) := ⟨⟨by decide +kernel, by decide +kernel⟩, lw_t6 (List.mem_of_getElem? (i := 0) rfl), lw_t6 (List.mem_of_getElem? (i := 174) rfl), lw_t6 (List.mem_of_getElem? (i := 175) rfl)⟩
theorem lw_p47 : lw_okq (⟨"WriteOnceDiscModel", "alive", "()I"⟩, 41) := ⟨⟨by decide +kernel, by decide +kernel⟩, lw_t6 (List.mem_of_getElem? (i := 0) rfl), lw_t6 (List.mem_of_getElem? (i := 178) rfl), lw_t6 (List.mem_of_getElem? (i := 179) rfl)⟩
def lw_privs_3 : List (MethodName × Nat) := [(⟨"WriteOnceDisc$Reader", "rises", "()Z"⟩, 11), (⟨"WriteOnceDisc$Reader", "node", "(JI)Z"⟩, 11), (⟨"WriteOnceDisc$Reader", "word", "(I)J"⟩, 11), (⟨"WriteOnceDisc$Reader", "overlaps", "(LWriteOnceDisc$Found;)Z"⟩, 11), (⟨"WriteOnceDisc$Reader", "paths", "(JZ)Z"⟩, 11), (⟨"WriteOnceDisc$Reader", "isNumber", "(JIIZ)Z"⟩, 11), (⟨"WriteOnceDisc", "take", "(LWriteOnceDisc$Reader;)V"⟩, 11), (⟨"WriteOnceDisc", "isIn", "(I)Z"⟩, 11), (⟨"java/lang/Throwable", "fillInStackTrace", "(I)Ljava/lang/Throwable;"⟩, 6), (⟨"WriteOnceDisc", "openNode", "(I)LWriteOnceDisc$Found;"⟩, 11), (⟨"WriteOnceDiscModel", "rootAlone", "()V"⟩, 41), (⟨"WriteOnceDiscModel", "add", "(IJZIIZ)I"⟩, 41), (⟨"WriteOnceDiscModel", "isNode", "(I)Z"⟩, 41), (⟨"WriteOnceDiscModel", "depthOf", "(I)I"⟩, 41), (⟨"WriteOnceDiscModel", "namedIn", "(IJ)I"⟩, 41), (⟨"WriteOnceDiscModel", "alive", "()I"⟩, 41)]
theorem lw_r3 : ∀ q ∈ lw_privs_3, lw_okq q := List.forall_mem_cons.mpr ⟨lw_p32, List.forall_mem_cons.mpr ⟨lw_p33, List.forall_mem_cons.mpr ⟨lw_p34, List.forall_mem_cons.mpr ⟨lw_p35, List.forall_mem_cons.mpr ⟨lw_p36, List.forall_mem_cons.mpr ⟨lw_p37, List.forall_mem_cons.mpr ⟨lw_p38, List.forall_mem_cons.mpr ⟨lw_p39, List.forall_mem_cons.mpr ⟨lw_p40, List.forall_mem_cons.mpr ⟨lw_p41, List.forall_mem_cons.mpr ⟨lw_p42, List.forall_mem_cons.mpr ⟨lw_p43, List.forall_mem_cons.mpr ⟨lw_p44, List.forall_mem_cons.mpr ⟨lw_p45, List.forall_mem_cons.mpr ⟨lw_p46, List.forall_mem_cons.mpr ⟨lw_p47, fun _ h => absurd h List.not_mem_nil⟩⟩⟩⟩⟩⟩⟩⟩⟩⟩⟩⟩⟩⟩⟩⟩
theorem lw_p48 : lw_okq (⟨"WriteOnceDiscModel", "liesIn", "(II)Z"⟩, 41) := ⟨⟨by decide +kernel, by decide +kernel⟩, lw_t6 (List.mem_of_getElem? (i := 0) rfl), lw_t6 (List.mem_of_getElem? (i := 201) rfl), lw_t6 (List.mem_of_getElem? (i := 202) rfl)⟩
theorem lw_p49 : lw_okq (⟨"WriteOnceDiscModel", "lay", "(IIZ)I"⟩, 41) := ⟨⟨by decide +kernel, by decide +kernel⟩, lw_t6 (List.mem_of_getElem? (i := 0) rfl), lw_t6 (List.mem_of_getElem? (i := 213) rfl), lw_t6 (List.mem_of_getElem? (i := 214) rfl)⟩
theorem lw_p50 : lw_okq (⟨"WriteOnceDiscModel", "frontOf", "(I)I"⟩, 41) := ⟨⟨by decide +kernel, by decide +kernel⟩, lw_t6 (List.mem_of_getElem? (i := 0) rfl), lw_t6 (List.mem_of_getElem? (i := 217) rfl), lw_t6 (List.mem_of_getElem? (i := 218) rfl)⟩
theorem lw_p51 : lw_okq (⟨"WriteOnceDiscModel", "fill", "(IIZ)V"⟩, 41) := ⟨⟨by decide +kernel, by decide +kernel⟩, lw_t6 (List.mem_of_getElem? (i := 0) rfl), lw_t6 (List.mem_of_getElem? (i := 221) rfl), lw_t6 (List.mem_of_getElem? (i := 222) rfl)⟩
theorem lw_p52 : lw_okq (⟨"WriteOnceDiscModel", "get", "(I)I"⟩, 41) := ⟨⟨by decide +kernel, by decide +kernel⟩, lw_t6 (List.mem_of_getElem? (i := 0) rfl), lw_t6 (List.mem_of_getElem? (i := 225) rfl), lw_t6 (List.mem_of_getElem? (i := 226) rfl)⟩
theorem lw_p53 : lw_okq (⟨"WriteOnceDiscModel", "burn", "(II)I"⟩, 41) := ⟨⟨by decide +kernel, by decide +kernel⟩, lw_t6 (List.mem_of_getElem? (i := 0) rfl), lw_t6 (List.mem_of_getElem? (i := 229) rfl), lw_t6 (List.mem_of_getElem? (i := 230) rfl)⟩
theorem lw_p54 : lw_okq (⟨"WriteOnceDiscModel", "session", "(II)I"⟩, 41) := ⟨⟨by decide +kernel, by decide +kernel⟩, lw_t6 (List.mem_of_getElem? (i := 0) rfl), lw_t6 (List.mem_of_getElem? (i := 233) rfl), lw_t6 (List.mem_of_getElem? (i := 234) rfl)⟩
theorem lw_p55 : lw_okq (⟨"WriteOnceDiscModel", "measure", "(I)I"⟩, 41) := ⟨⟨by decide +kernel, by decide +kernel⟩, lw_t6 (List.mem_of_getElem? (i := 0) rfl), lw_t6 (List.mem_of_getElem? (i := 237) rfl), lw_t6 (List.mem_of_getElem? (i := 238) rfl)⟩
theorem lw_p56 : lw_okq (⟨"WriteOnceDiscModel", "tables", "()V"⟩, 41) := ⟨⟨by decide +kernel, by decide +kernel⟩, lw_t6 (List.mem_of_getElem? (i := 0) rfl), lw_t7 (List.mem_of_getElem? (i := 1) rfl), lw_t7 (List.mem_of_getElem? (i := 2) rfl)⟩
theorem lw_p57 : lw_okq (⟨"WriteOnceDiscModel", "next", "(II)I"⟩, 41) := ⟨⟨by decide +kernel, by decide +kernel⟩, lw_t6 (List.mem_of_getElem? (i := 0) rfl), lw_t7 (List.mem_of_getElem? (i := 5) rfl), lw_t7 (List.mem_of_getElem? (i := 6) rfl)⟩
theorem lw_p58 : lw_okq (⟨"WriteOnceDiscModel", "along", "(IIZ)I"⟩, 41) := ⟨⟨by decide +kernel, by decide +kernel⟩, lw_t6 (List.mem_of_getElem? (i := 0) rfl), lw_t7 (List.mem_of_getElem? (i := 21) rfl), lw_t7 (List.mem_of_getElem? (i := 22) rfl)⟩
theorem lw_p59 : lw_okq (⟨"WriteOnceDiscModel", "recordId", "(II)I"⟩, 41) := ⟨⟨by decide +kernel, by decide +kernel⟩, lw_t6 (List.mem_of_getElem? (i := 0) rfl), lw_t7 (List.mem_of_getElem? (i := 25) rfl), lw_t7 (List.mem_of_getElem? (i := 26) rfl)⟩
theorem lw_p60 : lw_okq (⟨"WriteOnceDiscModel", "record", "(III)V"⟩, 41) := ⟨⟨by decide +kernel, by decide +kernel⟩, lw_t6 (List.mem_of_getElem? (i := 0) rfl), lw_t7 (List.mem_of_getElem? (i := 35) rfl), lw_t7 (List.mem_of_getElem? (i := 36) rfl)⟩
theorem lw_p61 : lw_okq (⟨"WriteOnceDiscModel", "both", "(III)V"⟩, 41) := ⟨⟨by decide +kernel, by decide +kernel⟩, lw_t6 (List.mem_of_getElem? (i := 0) rfl), lw_t7 (List.mem_of_getElem? (i := 39) rfl), lw_t7 (List.mem_of_getElem? (i := 40) rfl)⟩
theorem lw_p62 : lw_okq (⟨"WriteOnceDiscModel", "low", "(III)V"⟩, 41) := ⟨⟨by decide +kernel, by decide +kernel⟩, lw_t6 (List.mem_of_getElem? (i := 0) rfl), lw_t7 (List.mem_of_getElem? (i := 43) rfl), lw_t7 (List.mem_of_getElem? (i := 44) rfl)⟩
theorem lw_p63 : lw_okq (⟨"WriteOnceDiscModel", "high", "(III)V"⟩, 41) := ⟨⟨by decide +kernel, by decide +kernel⟩, lw_t6 (List.mem_of_getElem? (i := 0) rfl), lw_t7 (List.mem_of_getElem? (i := 47) rfl), lw_t7 (List.mem_of_getElem? (i := 48) rfl)⟩
def lw_privs_4 : List (MethodName × Nat) := [(⟨"WriteOnceDiscModel", "liesIn", "(II)Z"⟩, 41), (⟨"WriteOnceDiscModel", "lay", "(IIZ)I"⟩, 41), (⟨"WriteOnceDiscModel", "frontOf", "(I)I"⟩, 41), (⟨"WriteOnceDiscModel", "fill", "(IIZ)V"⟩, 41), (⟨"WriteOnceDiscModel", "get", "(I)I"⟩, 41), (⟨"WriteOnceDiscModel", "burn", "(II)I"⟩, 41), (⟨"WriteOnceDiscModel", "session", "(II)I"⟩, 41), (⟨"WriteOnceDiscModel", "measure", "(I)I"⟩, 41), (⟨"WriteOnceDiscModel", "tables", "()V"⟩, 41), (⟨"WriteOnceDiscModel", "next", "(II)I"⟩, 41), (⟨"WriteOnceDiscModel", "along", "(IIZ)I"⟩, 41), (⟨"WriteOnceDiscModel", "recordId", "(II)I"⟩, 41), (⟨"WriteOnceDiscModel", "record", "(III)V"⟩, 41), (⟨"WriteOnceDiscModel", "both", "(III)V"⟩, 41), (⟨"WriteOnceDiscModel", "low", "(III)V"⟩, 41), (⟨"WriteOnceDiscModel", "high", "(III)V"⟩, 41)]
theorem lw_r4 : ∀ q ∈ lw_privs_4, lw_okq q := List.forall_mem_cons.mpr ⟨lw_p48, List.forall_mem_cons.mpr ⟨lw_p49, List.forall_mem_cons.mpr ⟨lw_p50, List.forall_mem_cons.mpr ⟨lw_p51, List.forall_mem_cons.mpr ⟨lw_p52, List.forall_mem_cons.mpr ⟨lw_p53, List.forall_mem_cons.mpr ⟨lw_p54, List.forall_mem_cons.mpr ⟨lw_p55, List.forall_mem_cons.mpr ⟨lw_p56, List.forall_mem_cons.mpr ⟨lw_p57, List.forall_mem_cons.mpr ⟨lw_p58, List.forall_mem_cons.mpr ⟨lw_p59, List.forall_mem_cons.mpr ⟨lw_p60, List.forall_mem_cons.mpr ⟨lw_p61, List.forall_mem_cons.mpr ⟨lw_p62, List.forall_mem_cons.mpr ⟨lw_p63, fun _ h => absurd h List.not_mem_nil⟩⟩⟩⟩⟩⟩⟩⟩⟩⟩⟩⟩⟩⟩⟩⟩
theorem lw_p64 : lw_okq (⟨"WriteOnceDiscModel", "design", "(III)V"⟩, 41) := ⟨⟨by decide +kernel, by decide +kernel⟩, lw_t6 (List.mem_of_getElem? (i := 0) rfl), lw_t7 (List.mem_of_getElem? (i := 51) rfl), lw_t7 (List.mem_of_getElem? (i := 52) rfl)⟩
theorem lw_p65 : lw_okq (⟨"WriteOnceDiscModel", "letters", "(IIIIII)V"⟩, 41) := ⟨⟨by decide +kernel, by decide +kernel⟩, lw_t6 (List.mem_of_getElem? (i := 0) rfl), lw_t7 (List.mem_of_getElem? (i := 55) rfl), lw_t7 (List.mem_of_getElem? (i := 56) rfl)⟩
theorem lw_p66 : lw_okq (⟨"WriteOnceDiscModel", "numberOf", "(I)I"⟩, 41) := ⟨⟨by decide +kernel, by decide +kernel⟩, lw_t6 (List.mem_of_getElem? (i := 0) rfl), lw_t7 (List.mem_of_getElem? (i := 59) rfl), lw_t7 (List.mem_of_getElem? (i := 60) rfl)⟩
theorem lw_p67 : lw_okq (⟨"WriteOnceDiscModel", "markAt", "(I)I"⟩, 41) := ⟨⟨by decide +kernel, by decide +kernel⟩, lw_t6 (List.mem_of_getElem? (i := 0) rfl), lw_t7 (List.mem_of_getElem? (i := 72) rfl), lw_t7 (List.mem_of_getElem? (i := 73) rfl)⟩
theorem lw_p68 : lw_okq (⟨"WriteOnceDiscModel", "isMark", "(I)Z"⟩, 41) := ⟨⟨by decide +kernel, by decide +kernel⟩, lw_t6 (List.mem_of_getElem? (i := 0) rfl), lw_t7 (List.mem_of_getElem? (i := 76) rfl), lw_t7 (List.mem_of_getElem? (i := 77) rfl)⟩
theorem lw_p69 : lw_okq (⟨"WriteOnceDiscModel", "isWrittenSector", "(I)Z"⟩, 41) := ⟨⟨by decide +kernel, by decide +kernel⟩, lw_t6 (List.mem_of_getElem? (i := 0) rfl), lw_t7 (List.mem_of_getElem? (i := 80) rfl), lw_t7 (List.mem_of_getElem? (i := 81) rfl)⟩
theorem lw_p70 : lw_okq (⟨"WriteOnceDiscModel", "lowAt", "(II)I"⟩, 41) := ⟨⟨by decide +kernel, by decide +kernel⟩, lw_t6 (List.mem_of_getElem? (i := 0) rfl), lw_t7 (List.mem_of_getElem? (i := 84) rfl), lw_t7 (List.mem_of_getElem? (i := 85) rfl)⟩
theorem lw_p71 : lw_okq (⟨"WriteOnceDiscModel", "look", "(I)I"⟩, 41) := ⟨⟨by decide +kernel, by decide +kernel⟩, lw_t6 (List.mem_of_getElem? (i := 0) rfl), lw_t7 (List.mem_of_getElem? (i := 88) rfl), lw_t7 (List.mem_of_getElem? (i := 89) rfl)⟩
theorem lw_p72 : lw_okq (⟨"WriteOnceDiscModel", "isRead", "(I)Z"⟩, 41) := ⟨⟨by decide +kernel, by decide +kernel⟩, lw_t6 (List.mem_of_getElem? (i := 0) rfl), lw_t7 (List.mem_of_getElem? (i := 92) rfl), lw_t7 (List.mem_of_getElem? (i := 93) rfl)⟩
theorem lw_p73 : lw_okq (⟨"WriteOnceDiscModel", "no", "(I)Z"⟩, 41) := ⟨⟨by decide +kernel, by decide +kernel⟩, lw_t6 (List.mem_of_getElem? (i := 0) rfl), lw_t7 (List.mem_of_getElem? (i := 96) rfl), lw_t7 (List.mem_of_getElem? (i := 97) rfl)⟩
theorem lw_p74 : lw_okq (⟨"WriteOnceDiscModel", "begins", "(II)Z"⟩, 41) := ⟨⟨by decide +kernel, by decide +kernel⟩, lw_t6 (List.mem_of_getElem? (i := 0) rfl), lw_t7 (List.mem_of_getElem? (i := 100) rfl), lw_t7 (List.mem_of_getElem? (i := 101) rfl)⟩
theorem lw_p75 : lw_okq (⟨"WriteOnceDiscModel", "highAt", "(II)I"⟩, 41) := ⟨⟨by decide +kernel, by decide +kernel⟩, lw_t6 (List.mem_of_getElem? (i := 0) rfl), lw_t7 (List.mem_of_getElem? (i := 104) rfl), lw_t7 (List.mem_of_getElem? (i := 105) rfl)⟩
theorem lw_p76 : lw_okq (⟨"WriteOnceDiscModel", "isRecord", "(II)Z"⟩, 41) := ⟨⟨by decide +kernel, by decide +kernel⟩, lw_t6 (List.mem_of_getElem? (i := 0) rfl), lw_t7 (List.mem_of_getElem? (i := 108) rfl), lw_t7 (List.mem_of_getElem? (i := 109) rfl)⟩
theorem lw_p77 : lw_okq (⟨"WriteOnceDiscModel", "isName", "(II)Z"⟩, 41) := ⟨⟨by decide +kernel, by decide +kernel⟩, lw_t6 (List.mem_of_getElem? (i := 0) rfl), lw_t7 (List.mem_of_getElem? (i := 112) rfl), lw_t7 (List.mem_of_getElem? (i := 113) rfl)⟩
theorem lw_p78 : lw_okq (⟨"WriteOnceDiscModel", "areWritten", "(IJ)Z"⟩, 41) := ⟨⟨by decide +kernel, by decide +kernel⟩, lw_t6 (List.mem_of_getElem? (i := 0) rfl), lw_t7 (List.mem_of_getElem? (i := 118) rfl), lw_t7 (List.mem_of_getElem? (i := 119) rfl)⟩
theorem lw_p79 : lw_okq (⟨"WriteOnceDiscModel", "begin", "(IIIZ)V"⟩, 41) := ⟨⟨by decide +kernel, by decide +kernel⟩, lw_t6 (List.mem_of_getElem? (i := 0) rfl), lw_t7 (List.mem_of_getElem? (i := 122) rfl), lw_t7 (List.mem_of_getElem? (i := 123) rfl)⟩
def lw_privs_5 : List (MethodName × Nat) := [(⟨"WriteOnceDiscModel", "design", "(III)V"⟩, 41), (⟨"WriteOnceDiscModel", "letters", "(IIIIII)V"⟩, 41), (⟨"WriteOnceDiscModel", "numberOf", "(I)I"⟩, 41), (⟨"WriteOnceDiscModel", "markAt", "(I)I"⟩, 41), (⟨"WriteOnceDiscModel", "isMark", "(I)Z"⟩, 41), (⟨"WriteOnceDiscModel", "isWrittenSector", "(I)Z"⟩, 41), (⟨"WriteOnceDiscModel", "lowAt", "(II)I"⟩, 41), (⟨"WriteOnceDiscModel", "look", "(I)I"⟩, 41), (⟨"WriteOnceDiscModel", "isRead", "(I)Z"⟩, 41), (⟨"WriteOnceDiscModel", "no", "(I)Z"⟩, 41), (⟨"WriteOnceDiscModel", "begins", "(II)Z"⟩, 41), (⟨"WriteOnceDiscModel", "highAt", "(II)I"⟩, 41), (⟨"WriteOnceDiscModel", "isRecord", "(II)Z"⟩, 41), (⟨"WriteOnceDiscModel", "isName", "(II)Z"⟩, 41), (⟨"WriteOnceDiscModel", "areWritten", "(IJ)Z"⟩, 41), (⟨"WriteOnceDiscModel", "begin", "(IIIZ)V"⟩, 41)]
theorem lw_r5 : ∀ q ∈ lw_privs_5, lw_okq q := List.forall_mem_cons.mpr ⟨lw_p64, List.forall_mem_cons.mpr ⟨lw_p65, List.forall_mem_cons.mpr ⟨lw_p66, List.forall_mem_cons.mpr ⟨lw_p67, List.forall_mem_cons.mpr ⟨lw_p68, List.forall_mem_cons.mpr ⟨lw_p69, List.forall_mem_cons.mpr ⟨lw_p70, List.forall_mem_cons.mpr ⟨lw_p71, List.forall_mem_cons.mpr ⟨lw_p72, List.forall_mem_cons.mpr ⟨lw_p73, List.forall_mem_cons.mpr ⟨lw_p74, List.forall_mem_cons.mpr ⟨lw_p75, List.forall_mem_cons.mpr ⟨lw_p76, List.forall_mem_cons.mpr ⟨lw_p77, List.forall_mem_cons.mpr ⟨lw_p78, List.forall_mem_cons.mpr ⟨lw_p79, fun _ h => absurd h List.not_mem_nil⟩⟩⟩⟩⟩⟩⟩⟩⟩⟩⟩⟩⟩⟩⟩⟩
theorem lw_p80 : lw_okq (⟨"WriteOnceDiscModel", "isGone", "(I)Z"⟩, 41) := ⟨⟨by decide +kernel, by decide +kernel⟩, lw_t6 (List.mem_of_getElem? (i := 0) rfl), lw_t7 (List.mem_of_getElem? (i := 126) rfl), lw_t7 (List.mem_of_getElem? (i := 127) rfl)⟩
theorem lw_p81 : lw_okq (⟨"WriteOnceDiscModel", "isNew", "(III)Z"⟩, 41) := ⟨⟨by decide +kernel, by decide +kernel⟩, lw_t6 (List.mem_of_getElem? (i := 0) rfl), lw_t7 (List.mem_of_getElem? (i := 130) rfl), lw_t7 (List.mem_of_getElem? (i := 131) rfl)⟩
theorem lw_p82 : lw_okq (⟨"WriteOnceDiscModel", "tableIs", "(I)I"⟩, 41) := ⟨⟨by decide +kernel, by decide +kernel⟩, lw_t6 (List.mem_of_getElem? (i := 0) rfl), lw_t7 (List.mem_of_getElem? (i := 134) rfl), lw_t7 (List.mem_of_getElem? (i := 135) rfl)⟩
theorem lw_p83 : lw_okq (⟨"WriteOnceDiscModel", "expect", "(II)I"⟩, 41) := ⟨⟨by decide +kernel, by decide +kernel⟩, lw_t6 (List.mem_of_getElem? (i := 0) rfl), lw_t7 (List.mem_of_getElem? (i := 138) rfl), lw_t7 (List.mem_of_getElem? (i := 139) rfl)⟩
def lw_privs_6 : List (MethodName × Nat) := [(⟨"WriteOnceDiscModel", "isGone", "(I)Z"⟩, 41), (⟨"WriteOnceDiscModel", "isNew", "(III)Z"⟩, 41), (⟨"WriteOnceDiscModel", "tableIs", "(I)I"⟩, 41), (⟨"WriteOnceDiscModel", "expect", "(II)I"⟩, 41)]
theorem lw_r6 : ∀ q ∈ lw_privs_6, lw_okq q := List.forall_mem_cons.mpr ⟨lw_p80, List.forall_mem_cons.mpr ⟨lw_p81, List.forall_mem_cons.mpr ⟨lw_p82, List.forall_mem_cons.mpr ⟨lw_p83, fun _ h => absurd h List.not_mem_nil⟩⟩⟩⟩
def lw_privs : List (MethodName × Nat) := lw_privs_1 ++ (lw_privs_2 ++ (lw_privs_3 ++ (lw_privs_4 ++ (lw_privs_5 ++ (lw_privs_6)))))
def lw_tbl : List Cond := k2_sels lw_privs ++ tables_1
theorem lw_privs_ok : ∀ q ∈ lw_privs, lw_okq q := by
  show ∀ q ∈ lw_privs_1 ++ (lw_privs_2 ++ (lw_privs_3 ++ (lw_privs_4 ++ (lw_privs_5 ++ (lw_privs_6))))), lw_okq q
  exact List.forall_mem_append.mpr ⟨lw_r1, List.forall_mem_append.mpr ⟨lw_r2, List.forall_mem_append.mpr ⟨lw_r3, List.forall_mem_append.mpr ⟨lw_r4, List.forall_mem_append.mpr ⟨lw_r5, lw_r6⟩⟩⟩⟩⟩
-- ===== ONE list of words for every method: the tables' words that hold all through a run =====
def lw_all : List Cond := lw_tbl.filter goodWord
/-- a word of the tables by its place: claim/WORDS.tsv -/
theorem lw_w {w : Cond} (i : Nat) (h : lw_tbl[i]? = some w) (g : goodWord w = true) : w ∈ lw_all := List.mem_filter.mpr ⟨List.mem_of_getElem? h, g⟩
theorem lw_all_tbl {w : Cond} (h : w ∈ lw_all) : w ∈ lw_tbl := (List.mem_filter.mp h).1
theorem lw_self : GoodIn lw_all lw_all := fun w h => ⟨h, good_of_word (List.mem_filter.mp h).2⟩
/-- a class's field words, by their places -/
theorem lw_in (ws : List Cond) (ps : List Nat) (hp : ws = ps.filterMap (fun i => lw_tbl[i]?)) (hg : ws.all goodWord = true) : ∀ w ∈ ws, w ∈ lw_all := by
  intro w h
  have h1 := List.all_eq_true.mp hg w h
  rw [hp] at h
  obtain ⟨i, -, hi⟩ := List.mem_filterMap.mp h
  exact lw_w i hi h1
/-- the words of a contract for the method y with code b, L locals, answer r -/
abbrev ws_ (y : MethodName) (b : ByteArray) (L : Nat) (r : Option FieldType) : List Cond := Cond.code y b L r :: lw_all
theorem lw_meth {y : MethodName} {b : ByteArray} {L : Nat} {r : Option FieldType} (h : Cond.code y b L r ∈ lw_all) : GoodIn lw_all (ws_ y b L r) := by
  intro w hw
  rcases List.mem_cons.mp hw with e | e
  · rw [e]
    exact lw_self _ h
  · exact lw_self _ e
theorem lw_app {a c : List Cond} (ha : ∀ w ∈ a, w ∈ lw_all) (hc : GoodIn lw_all c) : GoodIn lw_all (a ++ c) := by
  intro w hw
  rcases List.mem_append.mp hw with e | e
  · exact lw_self w (ha w e)
  · exact hc w e
/-- what a call through an object asks: cwV n hts (lw_V ..) -/
theorem lw_V {own : String} {idx : Nat} {C : String} {y : MethodName} {b : ByteArray} {L : Nat} {r : Option FieldType} (h1 : Cond.methodLink own idx y ∈ lw_all) (h2 : Cond.instanceMethod y ∈ lw_all) (h3 : Cond.selects C y y ∈ lw_all) (h4 : Cond.initialized C ∈ lw_all) (h5 : Cond.code y b L r ∈ lw_all) : GoodIn lw_all (wsV own idx C y (ws_ y b L r)) := by
  refine lw_app ?_ (lw_meth h5)
  intro w hw
  simp only [List.mem_cons, List.not_mem_nil, or_false] at hw
  rcases hw with e | e | e | e
  · rw [e]; exact h1
  · rw [e]; exact h2
  · rw [e]; exact h3
  · rw [e]; exact h4
/-- what a static call asks: va_cwS n hts (lw_S ..) -/
theorem lw_S {own : String} {idx : Nat} {y : MethodName} {b : ByteArray} {L : Nat} {r : Option FieldType} (h1 : Cond.methodLink own idx y ∈ lw_all) (h2 : Cond.static y ∈ lw_all) (h3 : Cond.initialized y.cls ∈ lw_all) (h4 : Cond.code y b L r ∈ lw_all) : GoodIn lw_all (va_wsS own idx y (ws_ y b L r)) := by
  refine lw_app ?_ (lw_meth h4)
  intro w hw
  simp only [List.mem_cons, List.not_mem_nil, or_false] at hw
  rcases hw with e | e | e
  · rw [e]; exact h1
  · rw [e]; exact h2
  · rw [e]; exact h3
/-- the words of a contract for a method WITH HANDLERS (hh: its table) -/
abbrev wsW_ (y : MethodName) (b : ByteArray) (L : Nat) (r : Option FieldType) (hh : List (Nat × Nat × Nat × Nat)) : List Cond := Cond.codeWith y b L r hh :: lw_all
theorem lw_methW {y : MethodName} {b : ByteArray} {L : Nat} {r : Option FieldType} {hh : List (Nat × Nat × Nat × Nat)} (h : Cond.codeWith y b L r hh ∈ lw_all) : GoodIn lw_all (wsW_ y b L r hh) := by
  intro w hw
  rcases List.mem_cons.mp hw with e | e
  · rw [e]
    exact lw_self _ h
  · exact lw_self _ e
/-- any list of words by their places (lw_in), good -/
theorem lw_good {ws : List Cond} (h : ∀ w ∈ ws, w ∈ lw_all) : GoodIn lw_all ws := fun w hw => lw_self w (h w hw)
/-- what a call of a method with handlers asks: vx_cwVW n hts (lw_VW ..), vx_cwSW n hts (lw_SW ..) -/
theorem lw_VW {own : String} {idx : Nat} {C : String} {y : MethodName} {b : ByteArray} {L : Nat} {r : Option FieldType} {hh : List (Nat × Nat × Nat × Nat)} (h1 : Cond.methodLink own idx y ∈ lw_all) (h2 : Cond.instanceMethod y ∈ lw_all) (h3 : Cond.selects C y y ∈ lw_all) (h4 : Cond.initialized C ∈ lw_all) (h5 : Cond.codeWith y b L r hh ∈ lw_all) : GoodIn lw_all (wsV own idx C y (wsW_ y b L r hh)) := by
  refine lw_app ?_ (lw_methW h5)
  intro w hw
  simp only [List.mem_cons, List.not_mem_nil, or_false] at hw
  rcases hw with e | e | e | e
  · rw [e]; exact h1
  · rw [e]; exact h2
  · rw [e]; exact h3
  · rw [e]; exact h4
theorem lw_SW {own : String} {idx : Nat} {y : MethodName} {b : ByteArray} {L : Nat} {r : Option FieldType} {hh : List (Nat × Nat × Nat × Nat)} (h1 : Cond.methodLink own idx y ∈ lw_all) (h2 : Cond.static y ∈ lw_all) (h3 : Cond.initialized y.cls ∈ lw_all) (h4 : Cond.codeWith y b L r hh ∈ lw_all) : GoodIn lw_all (va_wsS own idx y (wsW_ y b L r hh)) := by
  refine lw_app ?_ (lw_methW h4)
  intro w hw
  simp only [List.mem_cons, List.not_mem_nil, or_false] at hw
  rcases hw with e | e | e
  · rw [e]; exact h1
  · rw [e]; exact h2
  · rw [e]; exact h3
/-- a word by its place in its run of the tables -/
theorem lw_at {r : List Cond} (hr : ∀ w ∈ r, w ∈ lw_tbl) {w : Cond} (i : Nat) (h : r[i]? = some w) : w ∈ lw_tbl := hr w (List.mem_of_getElem? h)
theorem lw_g {w : Cond} (h : w ∈ lw_tbl) (g : goodWord w = true) : w ∈ lw_all := List.mem_filter.mpr ⟨h, g⟩
theorem lw_ms : ∀ w ∈ k2_sels lw_privs, w ∈ lw_tbl := fun w h => show w ∈ k2_sels lw_privs ++ tables_1 from List.mem_append_left _ h
theorem lw_m1 : ∀ w ∈ tables_1_1, w ∈ lw_tbl := fun w h => show w ∈ k2_sels lw_privs ++ tables_1 from List.mem_append_right (k2_sels lw_privs) (show w ∈ tables_1 from List.mem_append_left _ h)
theorem lw_m2 : ∀ w ∈ tables_1_2, w ∈ lw_tbl := fun w h => show w ∈ k2_sels lw_privs ++ tables_1 from List.mem_append_right (k2_sels lw_privs) (show w ∈ tables_1 from List.mem_append_right _ (List.mem_append_left _ h))
theorem lw_m3 : ∀ w ∈ tables_1_3, w ∈ lw_tbl := fun w h => show w ∈ k2_sels lw_privs ++ tables_1 from List.mem_append_right (k2_sels lw_privs) (show w ∈ tables_1 from List.mem_append_right _ (List.mem_append_right _ (List.mem_append_left _ h)))
theorem lw_m4 : ∀ w ∈ tables_1_4, w ∈ lw_tbl := fun w h => show w ∈ k2_sels lw_privs ++ tables_1 from List.mem_append_right (k2_sels lw_privs) (show w ∈ tables_1 from List.mem_append_right _ (List.mem_append_right _ (List.mem_append_right _ (List.mem_append_left _ h))))
theorem lw_m5 : ∀ w ∈ tables_1_5, w ∈ lw_tbl := fun w h => show w ∈ k2_sels lw_privs ++ tables_1 from List.mem_append_right (k2_sels lw_privs) (show w ∈ tables_1 from List.mem_append_right _ (List.mem_append_right _ (List.mem_append_right _ (List.mem_append_right _ (List.mem_append_left _ h)))))
theorem lw_m6 : ∀ w ∈ tables_1_6, w ∈ lw_tbl := fun w h => show w ∈ k2_sels lw_privs ++ tables_1 from List.mem_append_right (k2_sels lw_privs) (show w ∈ tables_1 from List.mem_append_right _ (List.mem_append_right _ (List.mem_append_right _ (List.mem_append_right _ (List.mem_append_right _ (List.mem_append_left _ h))))))
theorem lw_m7 : ∀ w ∈ tables_1_7, w ∈ lw_tbl := fun w h => show w ∈ k2_sels lw_privs ++ tables_1 from List.mem_append_right (k2_sels lw_privs) (show w ∈ tables_1 from List.mem_append_right _ (List.mem_append_right _ (List.mem_append_right _ (List.mem_append_right _ (List.mem_append_right _ (List.mem_append_right _ h))))))
theorem qs0 : (Cond.selects "java/util/ArrayList" ⟨"java/util/ArrayList", "add", "(Ljava/lang/Object;[Ljava/lang/Object;I)V"⟩ ⟨"java/util/ArrayList", "add", "(Ljava/lang/Object;[Ljava/lang/Object;I)V"⟩) ∈ lw_all := lw_g (lw_at lw_ms 0 rfl) rfl
theorem qs1 : (Cond.selects "java/util/ArrayList" ⟨"java/util/ArrayList", "grow", "()[Ljava/lang/Object;"⟩ ⟨"java/util/ArrayList", "grow", "()[Ljava/lang/Object;"⟩) ∈ lw_all := lw_g (lw_at lw_ms 1 rfl) rfl
theorem qs2 : (Cond.selects "java/util/ArrayList" ⟨"java/util/ArrayList", "grow", "(I)[Ljava/lang/Object;"⟩ ⟨"java/util/ArrayList", "grow", "(I)[Ljava/lang/Object;"⟩) ∈ lw_all := lw_g (lw_at lw_ms 2 rfl) rfl
theorem qs3 : (Cond.selects "WriteOnceDisc" ⟨"WriteOnceDisc", "hindrance", "(ILjava/lang/String;ZZ)I"⟩ ⟨"WriteOnceDisc", "hindrance", "(ILjava/lang/String;ZZ)I"⟩) ∈ lw_all := lw_g (lw_at lw_ms 3 rfl) rfl
theorem qs4 : (Cond.selects "WriteOnceDisc" ⟨"WriteOnceDisc", "isDirectory", "(I)Z"⟩ ⟨"WriteOnceDisc", "isDirectory", "(I)Z"⟩) ∈ lw_all := lw_g (lw_at lw_ms 4 rfl) rfl
theorem qs5 : (Cond.selects "java/util/ArrayList" ⟨"java/util/ArrayList", "fastRemove", "([Ljava/lang/Object;I)V"⟩ ⟨"java/util/ArrayList", "fastRemove", "([Ljava/lang/Object;I)V"⟩) ∈ lw_all := lw_g (lw_at lw_ms 5 rfl) rfl
theorem qs6 : (Cond.selects "WriteOnceDisc$Burner" ⟨"WriteOnceDisc$Burner", "extent", "(LWriteOnceDisc$Node;)I"⟩ ⟨"WriteOnceDisc$Burner", "extent", "(LWriteOnceDisc$Node;)I"⟩) ∈ lw_all := lw_g (lw_at lw_ms 6 rfl) rfl
theorem qs7 : (Cond.selects "WriteOnceDisc$Burner" ⟨"WriteOnceDisc$Burner", "contentOf", "(LWriteOnceDisc$Node;I)[B"⟩ ⟨"WriteOnceDisc$Burner", "contentOf", "(LWriteOnceDisc$Node;I)[B"⟩) ∈ lw_all := lw_g (lw_at lw_ms 7 rfl) rfl
theorem qs8 : (Cond.selects "WriteOnceDisc$Burner" ⟨"WriteOnceDisc$Burner", "blank", "()LWriteOnceDisc$Page;"⟩ ⟨"WriteOnceDisc$Burner", "blank", "()LWriteOnceDisc$Page;"⟩) ∈ lw_all := lw_g (lw_at lw_ms 8 rfl) rfl
theorem qs9 : (Cond.selects "WriteOnceDisc$Burner" ⟨"WriteOnceDisc$Burner", "writes", "(I[BI)Z"⟩ ⟨"WriteOnceDisc$Burner", "writes", "(I[BI)Z"⟩) ∈ lw_all := lw_g (lw_at lw_ms 9 rfl) rfl
theorem qs10 : (Cond.selects "WriteOnceDisc$Burner" ⟨"WriteOnceDisc$Burner", "layOut", "(I)I"⟩ ⟨"WriteOnceDisc$Burner", "layOut", "(I)I"⟩) ∈ lw_all := lw_g (lw_at lw_ms 10 rfl) rfl
theorem qs11 : (Cond.selects "WriteOnceDisc$Burner" ⟨"WriteOnceDisc$Burner", "burns", "(II)Z"⟩ ⟨"WriteOnceDisc$Burner", "burns", "(II)Z"⟩) ∈ lw_all := lw_g (lw_at lw_ms 11 rfl) rfl
theorem qs12 : (Cond.selects "WriteOnceDisc$Burner" ⟨"WriteOnceDisc$Burner", "descriptor", "(I)LWriteOnceDisc$Page;"⟩ ⟨"WriteOnceDisc$Burner", "descriptor", "(I)LWriteOnceDisc$Page;"⟩) ∈ lw_all := lw_g (lw_at lw_ms 12 rfl) rfl
theorem qs13 : (Cond.selects "WriteOnceDisc$Burner" ⟨"WriteOnceDisc$Burner", "head", "(I)LWriteOnceDisc$Page;"⟩ ⟨"WriteOnceDisc$Burner", "head", "(I)LWriteOnceDisc$Page;"⟩) ∈ lw_all := lw_g (lw_at lw_ms 13 rfl) rfl
theorem qs14 : (Cond.selects "WriteOnceDisc$Burner" ⟨"WriteOnceDisc$Burner", "tableSize", "()I"⟩ ⟨"WriteOnceDisc$Burner", "tableSize", "()I"⟩) ∈ lw_all := lw_g (lw_at lw_ms 14 rfl) rfl
theorem qs15 : (Cond.selects "WriteOnceDisc$Burner" ⟨"WriteOnceDisc$Burner", "record", "(LWriteOnceDisc$Page;ILWriteOnceDisc$Node;Ljava/lang/String;)V"⟩ ⟨"WriteOnceDisc$Burner", "record", "(LWriteOnceDisc$Page;ILWriteOnceDisc$Node;Ljava/lang/String;)V"⟩) ∈ lw_all := lw_g (lw_at lw_ms 15 rfl) rfl
theorem qs16 : (Cond.selects "WriteOnceDisc$Burner" ⟨"WriteOnceDisc$Burner", "paths", "(Z)LWriteOnceDisc$Page;"⟩ ⟨"WriteOnceDisc$Burner", "paths", "(Z)LWriteOnceDisc$Page;"⟩) ∈ lw_all := lw_g (lw_at lw_ms 16 rfl) rfl
theorem qs17 : (Cond.selects "WriteOnceDisc$Burner" ⟨"WriteOnceDisc$Burner", "directory", "(LWriteOnceDisc$Node;)LWriteOnceDisc$Page;"⟩ ⟨"WriteOnceDisc$Burner", "directory", "(LWriteOnceDisc$Node;)LWriteOnceDisc$Page;"⟩) ∈ lw_all := lw_g (lw_at lw_ms 17 rfl) rfl
theorem qs18 : (Cond.selects "WriteOnceDisc$Burner" ⟨"WriteOnceDisc$Burner", "mark", "(II)LWriteOnceDisc$Page;"⟩ ⟨"WriteOnceDisc$Burner", "mark", "(II)LWriteOnceDisc$Page;"⟩) ∈ lw_all := lw_g (lw_at lw_ms 18 rfl) rfl
theorem qs19 : (Cond.selects "WriteOnceDisc" ⟨"WriteOnceDisc", "marks", "()[I"⟩ ⟨"WriteOnceDisc", "marks", "()[I"⟩) ∈ lw_all := lw_g (lw_at lw_ms 19 rfl) rfl
theorem qs20 : (Cond.selects "WriteOnceDisc" ⟨"WriteOnceDisc", "base", "(I)I"⟩ ⟨"WriteOnceDisc", "base", "(I)I"⟩) ∈ lw_all := lw_g (lw_at lw_ms 20 rfl) rfl
theorem qs21 : (Cond.selects "WriteOnceDisc$Reader" ⟨"WriteOnceDisc$Reader", "bad", "(J)Z"⟩ ⟨"WriteOnceDisc$Reader", "bad", "(J)Z"⟩) ∈ lw_all := lw_g (lw_at lw_ms 21 rfl) rfl
theorem qs22 : (Cond.selects "WriteOnceDisc$Reader" ⟨"WriteOnceDisc$Reader", "isHead", "(JI)Z"⟩ ⟨"WriteOnceDisc$Reader", "isHead", "(JI)Z"⟩) ∈ lw_all := lw_g (lw_at lw_ms 22 rfl) rfl
theorem qs23 : (Cond.selects "WriteOnceDisc$Reader" ⟨"WriteOnceDisc$Reader", "sound", "(JI)Z"⟩ ⟨"WriteOnceDisc$Reader", "sound", "(JI)Z"⟩) ∈ lw_all := lw_g (lw_at lw_ms 23 rfl) rfl
theorem qs24 : (Cond.selects "WriteOnceDisc$Reader" ⟨"WriteOnceDisc$Reader", "read", "(J)V"⟩ ⟨"WriteOnceDisc$Reader", "read", "(J)V"⟩) ∈ lw_all := lw_g (lw_at lw_ms 24 rfl) rfl
theorem qs25 : (Cond.selects "WriteOnceDisc$Reader" ⟨"WriteOnceDisc$Reader", "isIdentifier", "(I)Z"⟩ ⟨"WriteOnceDisc$Reader", "isIdentifier", "(I)Z"⟩) ∈ lw_all := lw_g (lw_at lw_ms 25 rfl) rfl
theorem qs26 : (Cond.selects "WriteOnceDisc$Reader" ⟨"WriteOnceDisc$Reader", "letter", "(I)I"⟩ ⟨"WriteOnceDisc$Reader", "letter", "(I)I"⟩) ∈ lw_all := lw_g (lw_at lw_ms 26 rfl) rfl
theorem qs27 : (Cond.selects "WriteOnceDisc$Reader" ⟨"WriteOnceDisc$Reader", "isPlain", "(I)Z"⟩ ⟨"WriteOnceDisc$Reader", "isPlain", "(I)Z"⟩) ∈ lw_all := lw_g (lw_at lw_ms 27 rfl) rfl
theorem qs28 : (Cond.selects "WriteOnceDisc$Reader" ⟨"WriteOnceDisc$Reader", "found", "(JI)LWriteOnceDisc$Found;"⟩ ⟨"WriteOnceDisc$Reader", "found", "(JI)LWriteOnceDisc$Found;"⟩) ∈ lw_all := lw_g (lw_at lw_ms 28 rfl) rfl
theorem qs29 : (Cond.selects "WriteOnceDisc$Reader" ⟨"WriteOnceDisc$Reader", "isDirectory", "(J)Z"⟩ ⟨"WriteOnceDisc$Reader", "isDirectory", "(J)Z"⟩) ∈ lw_all := lw_g (lw_at lw_ms 29 rfl) rfl
theorem qs30 : (Cond.selects "WriteOnceDisc$Reader" ⟨"WriteOnceDisc$Reader", "directory", "(I)Z"⟩ ⟨"WriteOnceDisc$Reader", "directory", "(I)Z"⟩) ∈ lw_all := lw_g (lw_at lw_ms 30 rfl) rfl
theorem qs31 : (Cond.selects "WriteOnceDisc$Reader" ⟨"WriteOnceDisc$Reader", "same", "(JLWriteOnceDisc$Found;)Z"⟩ ⟨"WriteOnceDisc$Reader", "same", "(JLWriteOnceDisc$Found;)Z"⟩) ∈ lw_all := lw_g (lw_at lw_ms 31 rfl) rfl
theorem qs32 : (Cond.selects "WriteOnceDisc$Reader" ⟨"WriteOnceDisc$Reader", "rises", "()Z"⟩ ⟨"WriteOnceDisc$Reader", "rises", "()Z"⟩) ∈ lw_all := lw_g (lw_at lw_ms 32 rfl) rfl
theorem qs33 : (Cond.selects "WriteOnceDisc$Reader" ⟨"WriteOnceDisc$Reader", "node", "(JI)Z"⟩ ⟨"WriteOnceDisc$Reader", "node", "(JI)Z"⟩) ∈ lw_all := lw_g (lw_at lw_ms 33 rfl) rfl
theorem qs34 : (Cond.selects "WriteOnceDisc$Reader" ⟨"WriteOnceDisc$Reader", "word", "(I)J"⟩ ⟨"WriteOnceDisc$Reader", "word", "(I)J"⟩) ∈ lw_all := lw_g (lw_at lw_ms 34 rfl) rfl
theorem qs35 : (Cond.selects "WriteOnceDisc$Reader" ⟨"WriteOnceDisc$Reader", "overlaps", "(LWriteOnceDisc$Found;)Z"⟩ ⟨"WriteOnceDisc$Reader", "overlaps", "(LWriteOnceDisc$Found;)Z"⟩) ∈ lw_all := lw_g (lw_at lw_ms 35 rfl) rfl
theorem qs36 : (Cond.selects "WriteOnceDisc$Reader" ⟨"WriteOnceDisc$Reader", "paths", "(JZ)Z"⟩ ⟨"WriteOnceDisc$Reader", "paths", "(JZ)Z"⟩) ∈ lw_all := lw_g (lw_at lw_ms 36 rfl) rfl
theorem qs37 : (Cond.selects "WriteOnceDisc$Reader" ⟨"WriteOnceDisc$Reader", "isNumber", "(JIIZ)Z"⟩ ⟨"WriteOnceDisc$Reader", "isNumber", "(JIIZ)Z"⟩) ∈ lw_all := lw_g (lw_at lw_ms 37 rfl) rfl
theorem qs38 : (Cond.selects "WriteOnceDisc" ⟨"WriteOnceDisc", "take", "(LWriteOnceDisc$Reader;)V"⟩ ⟨"WriteOnceDisc", "take", "(LWriteOnceDisc$Reader;)V"⟩) ∈ lw_all := lw_g (lw_at lw_ms 38 rfl) rfl
theorem qs39 : (Cond.selects "WriteOnceDisc" ⟨"WriteOnceDisc", "isIn", "(I)Z"⟩ ⟨"WriteOnceDisc", "isIn", "(I)Z"⟩) ∈ lw_all := lw_g (lw_at lw_ms 39 rfl) rfl
theorem qs40 : (Cond.selects "java/lang/Throwable" ⟨"java/lang/Throwable", "fillInStackTrace", "(I)Ljava/lang/Throwable;"⟩ ⟨"java/lang/Throwable", "fillInStackTrace", "(I)Ljava/lang/Throwable;"⟩) ∈ lw_all := lw_g (lw_at lw_ms 40 rfl) rfl
theorem qs41 : (Cond.selects "WriteOnceDisc" ⟨"WriteOnceDisc", "openNode", "(I)LWriteOnceDisc$Found;"⟩ ⟨"WriteOnceDisc", "openNode", "(I)LWriteOnceDisc$Found;"⟩) ∈ lw_all := lw_g (lw_at lw_ms 41 rfl) rfl
theorem qs42 : (Cond.selects "WriteOnceDiscModel" ⟨"WriteOnceDiscModel", "rootAlone", "()V"⟩ ⟨"WriteOnceDiscModel", "rootAlone", "()V"⟩) ∈ lw_all := lw_g (lw_at lw_ms 42 rfl) rfl
theorem qs43 : (Cond.selects "WriteOnceDiscModel" ⟨"WriteOnceDiscModel", "add", "(IJZIIZ)I"⟩ ⟨"WriteOnceDiscModel", "add", "(IJZIIZ)I"⟩) ∈ lw_all := lw_g (lw_at lw_ms 43 rfl) rfl
theorem qs44 : (Cond.selects "WriteOnceDiscModel" ⟨"WriteOnceDiscModel", "isNode", "(I)Z"⟩ ⟨"WriteOnceDiscModel", "isNode", "(I)Z"⟩) ∈ lw_all := lw_g (lw_at lw_ms 44 rfl) rfl
theorem qs45 : (Cond.selects "WriteOnceDiscModel" ⟨"WriteOnceDiscModel", "depthOf", "(I)I"⟩ ⟨"WriteOnceDiscModel", "depthOf", "(I)I"⟩) ∈ lw_all := lw_g (lw_at lw_ms 45 rfl) rfl
theorem qs46 : (Cond.selects "WriteOnceDiscModel" ⟨"WriteOnceDiscModel", "namedIn", "(IJ)I"⟩ ⟨"WriteOnceDiscModel", "namedIn", "(IJ)I"⟩) ∈ lw_all := lw_g (lw_at lw_ms 46 rfl) rfl
theorem qs47 : (Cond.selects "WriteOnceDiscModel" ⟨"WriteOnceDiscModel", "alive", "()I"⟩ ⟨"WriteOnceDiscModel", "alive", "()I"⟩) ∈ lw_all := lw_g (lw_at lw_ms 47 rfl) rfl
theorem qs48 : (Cond.selects "WriteOnceDiscModel" ⟨"WriteOnceDiscModel", "liesIn", "(II)Z"⟩ ⟨"WriteOnceDiscModel", "liesIn", "(II)Z"⟩) ∈ lw_all := lw_g (lw_at lw_ms 48 rfl) rfl
theorem qs49 : (Cond.selects "WriteOnceDiscModel" ⟨"WriteOnceDiscModel", "lay", "(IIZ)I"⟩ ⟨"WriteOnceDiscModel", "lay", "(IIZ)I"⟩) ∈ lw_all := lw_g (lw_at lw_ms 49 rfl) rfl
theorem qs50 : (Cond.selects "WriteOnceDiscModel" ⟨"WriteOnceDiscModel", "frontOf", "(I)I"⟩ ⟨"WriteOnceDiscModel", "frontOf", "(I)I"⟩) ∈ lw_all := lw_g (lw_at lw_ms 50 rfl) rfl
theorem qs51 : (Cond.selects "WriteOnceDiscModel" ⟨"WriteOnceDiscModel", "fill", "(IIZ)V"⟩ ⟨"WriteOnceDiscModel", "fill", "(IIZ)V"⟩) ∈ lw_all := lw_g (lw_at lw_ms 51 rfl) rfl
theorem qs52 : (Cond.selects "WriteOnceDiscModel" ⟨"WriteOnceDiscModel", "get", "(I)I"⟩ ⟨"WriteOnceDiscModel", "get", "(I)I"⟩) ∈ lw_all := lw_g (lw_at lw_ms 52 rfl) rfl
theorem qs53 : (Cond.selects "WriteOnceDiscModel" ⟨"WriteOnceDiscModel", "burn", "(II)I"⟩ ⟨"WriteOnceDiscModel", "burn", "(II)I"⟩) ∈ lw_all := lw_g (lw_at lw_ms 53 rfl) rfl
theorem qs54 : (Cond.selects "WriteOnceDiscModel" ⟨"WriteOnceDiscModel", "session", "(II)I"⟩ ⟨"WriteOnceDiscModel", "session", "(II)I"⟩) ∈ lw_all := lw_g (lw_at lw_ms 54 rfl) rfl
theorem qs55 : (Cond.selects "WriteOnceDiscModel" ⟨"WriteOnceDiscModel", "measure", "(I)I"⟩ ⟨"WriteOnceDiscModel", "measure", "(I)I"⟩) ∈ lw_all := lw_g (lw_at lw_ms 55 rfl) rfl
theorem qs56 : (Cond.selects "WriteOnceDiscModel" ⟨"WriteOnceDiscModel", "tables", "()V"⟩ ⟨"WriteOnceDiscModel", "tables", "()V"⟩) ∈ lw_all := lw_g (lw_at lw_ms 56 rfl) rfl
theorem qs57 : (Cond.selects "WriteOnceDiscModel" ⟨"WriteOnceDiscModel", "next", "(II)I"⟩ ⟨"WriteOnceDiscModel", "next", "(II)I"⟩) ∈ lw_all := lw_g (lw_at lw_ms 57 rfl) rfl
theorem qs58 : (Cond.selects "WriteOnceDiscModel" ⟨"WriteOnceDiscModel", "along", "(IIZ)I"⟩ ⟨"WriteOnceDiscModel", "along", "(IIZ)I"⟩) ∈ lw_all := lw_g (lw_at lw_ms 58 rfl) rfl
theorem qs59 : (Cond.selects "WriteOnceDiscModel" ⟨"WriteOnceDiscModel", "recordId", "(II)I"⟩ ⟨"WriteOnceDiscModel", "recordId", "(II)I"⟩) ∈ lw_all := lw_g (lw_at lw_ms 59 rfl) rfl
theorem qs60 : (Cond.selects "WriteOnceDiscModel" ⟨"WriteOnceDiscModel", "record", "(III)V"⟩ ⟨"WriteOnceDiscModel", "record", "(III)V"⟩) ∈ lw_all := lw_g (lw_at lw_ms 60 rfl) rfl
theorem qs61 : (Cond.selects "WriteOnceDiscModel" ⟨"WriteOnceDiscModel", "both", "(III)V"⟩ ⟨"WriteOnceDiscModel", "both", "(III)V"⟩) ∈ lw_all := lw_g (lw_at lw_ms 61 rfl) rfl
theorem qs62 : (Cond.selects "WriteOnceDiscModel" ⟨"WriteOnceDiscModel", "low", "(III)V"⟩ ⟨"WriteOnceDiscModel", "low", "(III)V"⟩) ∈ lw_all := lw_g (lw_at lw_ms 62 rfl) rfl
theorem qs63 : (Cond.selects "WriteOnceDiscModel" ⟨"WriteOnceDiscModel", "high", "(III)V"⟩ ⟨"WriteOnceDiscModel", "high", "(III)V"⟩) ∈ lw_all := lw_g (lw_at lw_ms 63 rfl) rfl
theorem qs64 : (Cond.selects "WriteOnceDiscModel" ⟨"WriteOnceDiscModel", "design", "(III)V"⟩ ⟨"WriteOnceDiscModel", "design", "(III)V"⟩) ∈ lw_all := lw_g (lw_at lw_ms 64 rfl) rfl
theorem qs65 : (Cond.selects "WriteOnceDiscModel" ⟨"WriteOnceDiscModel", "letters", "(IIIIII)V"⟩ ⟨"WriteOnceDiscModel", "letters", "(IIIIII)V"⟩) ∈ lw_all := lw_g (lw_at lw_ms 65 rfl) rfl
theorem qs66 : (Cond.selects "WriteOnceDiscModel" ⟨"WriteOnceDiscModel", "numberOf", "(I)I"⟩ ⟨"WriteOnceDiscModel", "numberOf", "(I)I"⟩) ∈ lw_all := lw_g (lw_at lw_ms 66 rfl) rfl
theorem qs67 : (Cond.selects "WriteOnceDiscModel" ⟨"WriteOnceDiscModel", "markAt", "(I)I"⟩ ⟨"WriteOnceDiscModel", "markAt", "(I)I"⟩) ∈ lw_all := lw_g (lw_at lw_ms 67 rfl) rfl
theorem qs68 : (Cond.selects "WriteOnceDiscModel" ⟨"WriteOnceDiscModel", "isMark", "(I)Z"⟩ ⟨"WriteOnceDiscModel", "isMark", "(I)Z"⟩) ∈ lw_all := lw_g (lw_at lw_ms 68 rfl) rfl
theorem qs69 : (Cond.selects "WriteOnceDiscModel" ⟨"WriteOnceDiscModel", "isWrittenSector", "(I)Z"⟩ ⟨"WriteOnceDiscModel", "isWrittenSector", "(I)Z"⟩) ∈ lw_all := lw_g (lw_at lw_ms 69 rfl) rfl
theorem qs70 : (Cond.selects "WriteOnceDiscModel" ⟨"WriteOnceDiscModel", "lowAt", "(II)I"⟩ ⟨"WriteOnceDiscModel", "lowAt", "(II)I"⟩) ∈ lw_all := lw_g (lw_at lw_ms 70 rfl) rfl
theorem qs71 : (Cond.selects "WriteOnceDiscModel" ⟨"WriteOnceDiscModel", "look", "(I)I"⟩ ⟨"WriteOnceDiscModel", "look", "(I)I"⟩) ∈ lw_all := lw_g (lw_at lw_ms 71 rfl) rfl
theorem qs72 : (Cond.selects "WriteOnceDiscModel" ⟨"WriteOnceDiscModel", "isRead", "(I)Z"⟩ ⟨"WriteOnceDiscModel", "isRead", "(I)Z"⟩) ∈ lw_all := lw_g (lw_at lw_ms 72 rfl) rfl
theorem qs73 : (Cond.selects "WriteOnceDiscModel" ⟨"WriteOnceDiscModel", "no", "(I)Z"⟩ ⟨"WriteOnceDiscModel", "no", "(I)Z"⟩) ∈ lw_all := lw_g (lw_at lw_ms 73 rfl) rfl
theorem qs74 : (Cond.selects "WriteOnceDiscModel" ⟨"WriteOnceDiscModel", "begins", "(II)Z"⟩ ⟨"WriteOnceDiscModel", "begins", "(II)Z"⟩) ∈ lw_all := lw_g (lw_at lw_ms 74 rfl) rfl
theorem qs75 : (Cond.selects "WriteOnceDiscModel" ⟨"WriteOnceDiscModel", "highAt", "(II)I"⟩ ⟨"WriteOnceDiscModel", "highAt", "(II)I"⟩) ∈ lw_all := lw_g (lw_at lw_ms 75 rfl) rfl
theorem qs76 : (Cond.selects "WriteOnceDiscModel" ⟨"WriteOnceDiscModel", "isRecord", "(II)Z"⟩ ⟨"WriteOnceDiscModel", "isRecord", "(II)Z"⟩) ∈ lw_all := lw_g (lw_at lw_ms 76 rfl) rfl
theorem qs77 : (Cond.selects "WriteOnceDiscModel" ⟨"WriteOnceDiscModel", "isName", "(II)Z"⟩ ⟨"WriteOnceDiscModel", "isName", "(II)Z"⟩) ∈ lw_all := lw_g (lw_at lw_ms 77 rfl) rfl
theorem qs78 : (Cond.selects "WriteOnceDiscModel" ⟨"WriteOnceDiscModel", "areWritten", "(IJ)Z"⟩ ⟨"WriteOnceDiscModel", "areWritten", "(IJ)Z"⟩) ∈ lw_all := lw_g (lw_at lw_ms 78 rfl) rfl
theorem qs79 : (Cond.selects "WriteOnceDiscModel" ⟨"WriteOnceDiscModel", "begin", "(IIIZ)V"⟩ ⟨"WriteOnceDiscModel", "begin", "(IIIZ)V"⟩) ∈ lw_all := lw_g (lw_at lw_ms 79 rfl) rfl
theorem qs80 : (Cond.selects "WriteOnceDiscModel" ⟨"WriteOnceDiscModel", "isGone", "(I)Z"⟩ ⟨"WriteOnceDiscModel", "isGone", "(I)Z"⟩) ∈ lw_all := lw_g (lw_at lw_ms 80 rfl) rfl
theorem qs81 : (Cond.selects "WriteOnceDiscModel" ⟨"WriteOnceDiscModel", "isNew", "(III)Z"⟩ ⟨"WriteOnceDiscModel", "isNew", "(III)Z"⟩) ∈ lw_all := lw_g (lw_at lw_ms 81 rfl) rfl
theorem qs82 : (Cond.selects "WriteOnceDiscModel" ⟨"WriteOnceDiscModel", "tableIs", "(I)I"⟩ ⟨"WriteOnceDiscModel", "tableIs", "(I)I"⟩) ∈ lw_all := lw_g (lw_at lw_ms 82 rfl) rfl
theorem qs83 : (Cond.selects "WriteOnceDiscModel" ⟨"WriteOnceDiscModel", "expect", "(II)I"⟩ ⟨"WriteOnceDiscModel", "expect", "(II)I"⟩) ∈ lw_all := lw_g (lw_at lw_ms 83 rfl) rfl
