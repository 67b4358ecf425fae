-- ===== PART A: goes FIRST, ahead of the names: the tables' words, and 'selects' of the private methods out of them =====
/-- a private method of a class that the tables say can be made, by its rows of tables_1 -/
def lw_okq (q : MethodName × Nat) : Prop := (q.1.cls ≠ "java/lang/invoke/MethodHandle" ∧ q.1.cls ≠ "java/lang/invoke/VarHandle") ∧ Cond.instantiable q.1.cls q.2 ∈ tables_1 ∧ Cond.privateMethod q.1 ∈ tables_1 ∧ Cond.instanceMethod q.1 ∈ tables_1
set_option maxRecDepth 100000
theorem lw_t1 {w : Cond} (h : w ∈ tables_1_1) : w ∈ tables_1 := List.mem_append_left _ h
theorem lw_t2 {w : Cond} (h : w ∈ tables_1_2) : w ∈ tables_1 := List.mem_append_right _ (List.mem_append_left _ h)
theorem lw_t3 {w : Cond} (h : w ∈ tables_1_3) : w ∈ tables_1 := List.mem_append_right _ (List.mem_append_right _ (List.mem_append_left _ h))
theorem lw_t4 {w : Cond} (h : w ∈ tables_1_4) : w ∈ tables_1 := List.mem_append_right _ (List.mem_append_right _ (List.mem_append_right _ (List.mem_append_left _ h)))
theorem lw_t5 {w : Cond} (h : w ∈ tables_1_5) : w ∈ tables_1 := List.mem_append_right _ (List.mem_append_right _ (List.mem_append_right _ (List.mem_append_right _ (List.mem_append_left _ h))))
theorem lw_t6 {w : Cond} (h : w ∈ tables_1_6) : w ∈ tables_1 := List.mem_append_right _ (List.mem_append_right _ (List.mem_append_right _ (List.mem_append_right _ (List.mem_append_right _ (List.mem_append_left _ h)))))
theorem lw_t7 {w : Cond} (h : w ∈ tables_1_7) : w ∈ tables_1 := List.mem_append_right _ (List.mem_append_right _ (List.mem_append_right _ (List.mem_append_right _ (List.mem_append_right _ (List.mem_append_right _ (List.mem_append_left _ h))))))
theorem lw_t8 {w : Cond} (h : w ∈ tables_1_8) : w ∈ tables_1 := List.mem_append_right _ (List.mem_append_right _ (List.mem_append_right _ (List.mem_append_right _ (List.mem_append_right _ (List.mem_append_right _ (List.mem_append_right _ (List.mem_append_left _ h)))))))
theorem lw_t9 {w : Cond} (h : w ∈ tables_1_9) : w ∈ tables_1 := List.mem_append_right _ (List.mem_append_right _ (List.mem_append_right _ (List.mem_append_right _ (List.mem_append_right _ (List.mem_append_right _ (List.mem_append_right _ (List.mem_append_right _ (List.mem_append_left _ h))))))))
theorem lw_t10 {w : Cond} (h : w ∈ tables_1_10) : w ∈ tables_1 := List.mem_append_right _ (List.mem_append_right _ (List.mem_append_right _ (List.mem_append_right _ (List.mem_append_right _ (List.mem_append_right _ (List.mem_append_right _ (List.mem_append_right _ (List.mem_append_right _ h))))))))
theorem lw_p0 : lw_okq (⟨"WornSkin$Shelf", "clears", "(I)V"⟩, 6) := ⟨⟨by decide +kernel, by decide +kernel⟩, lw_t1 (List.mem_of_getElem? (i := 139) rfl), lw_t2 (List.mem_of_getElem? (i := 17) rfl), lw_t2 (List.mem_of_getElem? (i := 18) rfl)⟩
theorem lw_p1 : lw_okq (⟨"WornSkin$Reader", "cut", "()V"⟩, 13) := ⟨⟨by decide +kernel, by decide +kernel⟩, lw_t1 (List.mem_of_getElem? (i := 63) rfl), lw_t2 (List.mem_of_getElem? (i := 129) rfl), lw_t2 (List.mem_of_getElem? (i := 130) rfl)⟩
theorem lw_p2 : lw_okq (⟨"WornSkin$Reader", "isWord", "(Ljava/lang/String;)Z"⟩, 13) := ⟨⟨by decide +kernel, by decide +kernel⟩, lw_t1 (List.mem_of_getElem? (i := 63) rfl), lw_t2 (List.mem_of_getElem? (i := 232) rfl), lw_t2 (List.mem_of_getElem? (i := 233) rfl)⟩
theorem lw_p3 : lw_okq (⟨"WornSkin$Reader", "skin", "()V"⟩, 13) := ⟨⟨by decide +kernel, by decide +kernel⟩, lw_t1 (List.mem_of_getElem? (i := 63) rfl), lw_t3 (List.mem_of_getElem? (i := 18) rfl), lw_t3 (List.mem_of_getElem? (i := 19) rfl)⟩
theorem lw_p4 : lw_okq (⟨"WornSkin$Reader", "newName", "(ZI)V"⟩, 13) := ⟨⟨by decide +kernel, by decide +kernel⟩, lw_t1 (List.mem_of_getElem? (i := 63) rfl), lw_t3 (List.mem_of_getElem? (i := 23) rfl), lw_t3 (List.mem_of_getElem? (i := 24) rfl)⟩
theorem lw_p5 : lw_okq (⟨"WornSkin$Reader", "wrong", "(I)LWornSkin$Wrong;"⟩, 13) := ⟨⟨by decide +kernel, by decide +kernel⟩, lw_t1 (List.mem_of_getElem? (i := 63) rfl), lw_t3 (List.mem_of_getElem? (i := 27) rfl), lw_t3 (List.mem_of_getElem? (i := 28) rfl)⟩
theorem lw_p6 : lw_okq (⟨"java/lang/Throwable", "fillInStackTrace", "(I)Ljava/lang/Throwable;"⟩, 6) := ⟨⟨by decide +kernel, by decide +kernel⟩, lw_t3 (List.mem_of_getElem? (i := 66) rfl), lw_t3 (List.mem_of_getElem? (i := 64) rfl), lw_t3 (List.mem_of_getElem? (i := 65) rfl)⟩
theorem lw_p7 : lw_okq (⟨"WornSkin$Reader", "isName", "()Z"⟩, 13) := ⟨⟨by decide +kernel, by decide +kernel⟩, lw_t1 (List.mem_of_getElem? (i := 63) rfl), lw_t3 (List.mem_of_getElem? (i := 92) rfl), lw_t3 (List.mem_of_getElem? (i := 93) rfl)⟩
theorem lw_p8 : lw_okq (⟨"WornSkin$Reader", "which", "([Ljava/lang/String;)I"⟩, 13) := ⟨⟨by decide +kernel, by decide +kernel⟩, lw_t1 (List.mem_of_getElem? (i := 63) rfl), lw_t3 (List.mem_of_getElem? (i := 96) rfl), lw_t3 (List.mem_of_getElem? (i := 97) rfl)⟩
theorem lw_p9 : lw_okq (⟨"java/util/ArrayList", "add", "(Ljava/lang/Object;[Ljava/lang/Object;I)V"⟩, 3) := ⟨⟨by decide +kernel, by decide +kernel⟩, lw_t1 (List.mem_of_getElem? (i := 178) rfl), lw_t3 (List.mem_of_getElem? (i := 140) rfl), lw_t3 (List.mem_of_getElem? (i := 141) rfl)⟩
theorem lw_p10 : lw_okq (⟨"java/util/ArrayList", "grow", "()[Ljava/lang/Object;"⟩, 3) := ⟨⟨by decide +kernel, by decide +kernel⟩, lw_t1 (List.mem_of_getElem? (i := 178) rfl), lw_t3 (List.mem_of_getElem? (i := 144) rfl), lw_t3 (List.mem_of_getElem? (i := 145) rfl)⟩
theorem lw_p11 : lw_okq (⟨"java/util/ArrayList", "grow", "(I)[Ljava/lang/Object;"⟩, 3) := ⟨⟨by decide +kernel, by decide +kernel⟩, lw_t1 (List.mem_of_getElem? (i := 178) rfl), lw_t3 (List.mem_of_getElem? (i := 148) rfl), lw_t3 (List.mem_of_getElem? (i := 149) rfl)⟩
theorem lw_p12 : lw_okq (⟨"WornSkin$Reader", "number", "(Ljava/lang/String;II)I"⟩, 13) := ⟨⟨by decide +kernel, by decide +kernel⟩, lw_t1 (List.mem_of_getElem? (i := 63) rfl), lw_t3 (List.mem_of_getElem? (i := 226) rfl), lw_t3 (List.mem_of_getElem? (i := 227) rfl)⟩
theorem lw_p13 : lw_okq (⟨"WornSkin$Reader", "takeWord", "(Ljava/lang/String;)V"⟩, 13) := ⟨⟨by decide +kernel, by decide +kernel⟩, lw_t1 (List.mem_of_getElem? (i := 63) rfl), lw_t3 (List.mem_of_getElem? (i := 230) rfl), lw_t3 (List.mem_of_getElem? (i := 231) rfl)⟩
theorem lw_p14 : lw_okq (⟨"WornSkin$Reader", "hasWord", "(Ljava/lang/String;)Z"⟩, 13) := ⟨⟨by decide +kernel, by decide +kernel⟩, lw_t1 (List.mem_of_getElem? (i := 63) rfl), lw_t3 (List.mem_of_getElem? (i := 234) rfl), lw_t3 (List.mem_of_getElem? (i := 235) rfl)⟩
theorem lw_p15 : lw_okq (⟨"WornSkin$Reader", "number", "(II)I"⟩, 13) := ⟨⟨by decide +kernel, by decide +kernel⟩, lw_t1 (List.mem_of_getElem? (i := 63) rfl), lw_t3 (List.mem_of_getElem? (i := 238) rfl), lw_t3 (List.mem_of_getElem? (i := 239) rfl)⟩
def lw_privs_1 : List (MethodName × Nat) := [(⟨"WornSkin$Shelf", "clears", "(I)V"⟩, 6), (⟨"WornSkin$Reader", "cut", "()V"⟩, 13), (⟨"WornSkin$Reader", "isWord", "(Ljava/lang/String;)Z"⟩, 13), (⟨"WornSkin$Reader", "skin", "()V"⟩, 13), (⟨"WornSkin$Reader", "newName", "(ZI)V"⟩, 13), (⟨"WornSkin$Reader", "wrong", "(I)LWornSkin$Wrong;"⟩, 13), (⟨"java/lang/Throwable", "fillInStackTrace", "(I)Ljava/lang/Throwable;"⟩, 6), (⟨"WornSkin$Reader", "isName", "()Z"⟩, 13), (⟨"WornSkin$Reader", "which", "([Ljava/lang/String;)I"⟩, 13), (⟨"java/util/ArrayList", "add", "(Ljava/lang/Object;[Ljava/lang/Object;I)V"⟩, 3), (⟨"java/util/ArrayList", "grow", "()[Ljava/lang/Object;"⟩, 3), (⟨"java/util/ArrayList", "grow", "(I)[Ljava/lang/Object;"⟩, 3), (⟨"WornSkin$Reader", "number", "(Ljava/lang/String;II)I"⟩, 13), (⟨"WornSkin$Reader", "takeWord", "(Ljava/lang/String;)V"⟩, 13), (⟨"WornSkin$Reader", "hasWord", "(Ljava/lang/String;)Z"⟩, 13), (⟨"WornSkin$Reader", "number", "(II)I"⟩, 13)]
theorem lw_r1 : ∀ q ∈ lw_privs_1, lw_okq q := List.forall_mem_cons.mpr ⟨lw_p0, List.forall_mem_cons.mpr ⟨lw_p1, List.forall_mem_cons.mpr ⟨lw_p2, List.forall_mem_cons.mpr ⟨lw_p3, List.forall_mem_cons.mpr ⟨lw_p4, List.forall_mem_cons.mpr ⟨lw_p5, List.forall_mem_cons.mpr ⟨lw_p6, List.forall_mem_cons.mpr ⟨lw_p7, List.forall_mem_cons.mpr ⟨lw_p8, List.forall_mem_cons.mpr ⟨lw_p9, List.forall_mem_cons.mpr ⟨lw_p10, List.forall_mem_cons.mpr ⟨lw_p11, List.forall_mem_cons.mpr ⟨lw_p12, List.forall_mem_cons.mpr ⟨lw_p13, List.forall_mem_cons.mpr ⟨lw_p14, List.forall_mem_cons.mpr ⟨lw_p15, fun _ h => absurd h List.not_mem_nil⟩⟩⟩⟩⟩⟩⟩⟩⟩⟩⟩⟩⟩⟩⟩⟩
theorem lw_p16 : lw_okq (⟨"WornSkin$Reader", "hole", "()V"⟩, 13) := ⟨⟨by decide +kernel, by decide +kernel⟩, lw_t1 (List.mem_of_getElem? (i := 63) rfl), lw_t4 (List.mem_of_getElem? (i := 24) rfl), lw_t4 (List.mem_of_getElem? (i := 25) rfl)⟩
theorem lw_p17 : lw_okq (⟨"WornSkin$Reader", "told", "(I)I"⟩, 13) := ⟨⟨by decide +kernel, by decide +kernel⟩, lw_t1 (List.mem_of_getElem? (i := 63) rfl), lw_t4 (List.mem_of_getElem? (i := 28) rfl), lw_t4 (List.mem_of_getElem? (i := 29) rfl)⟩
theorem lw_p18 : lw_okq (⟨"WornSkin$Reader", "text", "()V"⟩, 13) := ⟨⟨by decide +kernel, by decide +kernel⟩, lw_t1 (List.mem_of_getElem? (i := 63) rfl), lw_t4 (List.mem_of_getElem? (i := 36) rfl), lw_t4 (List.mem_of_getElem? (i := 37) rfl)⟩
theorem lw_p19 : lw_okq (⟨"WornSkin$Reader", "one", "([Ljava/lang/String;)I"⟩, 13) := ⟨⟨by decide +kernel, by decide +kernel⟩, lw_t1 (List.mem_of_getElem? (i := 63) rfl), lw_t4 (List.mem_of_getElem? (i := 40) rfl), lw_t4 (List.mem_of_getElem? (i := 41) rfl)⟩
theorem lw_p20 : lw_okq (⟨"WornSkin$Reader", "damp", "()V"⟩, 13) := ⟨⟨by decide +kernel, by decide +kernel⟩, lw_t1 (List.mem_of_getElem? (i := 63) rfl), lw_t4 (List.mem_of_getElem? (i := 93) rfl), lw_t4 (List.mem_of_getElem? (i := 94) rfl)⟩
theorem lw_p21 : lw_okq (⟨"WornSkin$Reader", "shows", "()V"⟩, 13) := ⟨⟨by decide +kernel, by decide +kernel⟩, lw_t1 (List.mem_of_getElem? (i := 63) rfl), lw_t4 (List.mem_of_getElem? (i := 101) rfl), lw_t4 (List.mem_of_getElem? (i := 102) rfl)⟩
theorem lw_p22 : lw_okq (⟨"WornSkin$Reader", "whole", "()LWornSkin$Expression;"⟩, 13) := ⟨⟨by decide +kernel, by decide +kernel⟩, lw_t1 (List.mem_of_getElem? (i := 63) rfl), lw_t4 (List.mem_of_getElem? (i := 105) rfl), lw_t4 (List.mem_of_getElem? (i := 106) rfl)⟩
theorem lw_p23 : lw_okq (⟨"WornSkin$Reader", "all", "()LWornSkin$Expression;"⟩, 13) := ⟨⟨by decide +kernel, by decide +kernel⟩, lw_t1 (List.mem_of_getElem? (i := 63) rfl), lw_t4 (List.mem_of_getElem? (i := 109) rfl), lw_t4 (List.mem_of_getElem? (i := 110) rfl)⟩
theorem lw_p24 : lw_okq (⟨"WornSkin$Reader", "test", "()LWornSkin$Expression;"⟩, 13) := ⟨⟨by decide +kernel, by decide +kernel⟩, lw_t1 (List.mem_of_getElem? (i := 63) rfl), lw_t4 (List.mem_of_getElem? (i := 113) rfl), lw_t4 (List.mem_of_getElem? (i := 114) rfl)⟩
theorem lw_p25 : lw_okq (⟨"WornSkin$Reader", "sum", "()LWornSkin$Expression;"⟩, 13) := ⟨⟨by decide +kernel, by decide +kernel⟩, lw_t1 (List.mem_of_getElem? (i := 63) rfl), lw_t4 (List.mem_of_getElem? (i := 117) rfl), lw_t4 (List.mem_of_getElem? (i := 118) rfl)⟩
theorem lw_p26 : lw_okq (⟨"WornSkin$Reader", "term", "()LWornSkin$Expression;"⟩, 13) := ⟨⟨by decide +kernel, by decide +kernel⟩, lw_t1 (List.mem_of_getElem? (i := 63) rfl), lw_t4 (List.mem_of_getElem? (i := 121) rfl), lw_t4 (List.mem_of_getElem? (i := 122) rfl)⟩
theorem lw_p27 : lw_okq (⟨"WornSkin$Reader", "part", "()LWornSkin$Expression;"⟩, 13) := ⟨⟨by decide +kernel, by decide +kernel⟩, lw_t1 (List.mem_of_getElem? (i := 63) rfl), lw_t4 (List.mem_of_getElem? (i := 125) rfl), lw_t4 (List.mem_of_getElem? (i := 126) rfl)⟩
theorem lw_p28 : lw_okq (⟨"WornSkin$Reader", "isSign", "(I)Z"⟩, 13) := ⟨⟨by decide +kernel, by decide +kernel⟩, lw_t1 (List.mem_of_getElem? (i := 63) rfl), lw_t4 (List.mem_of_getElem? (i := 129) rfl), lw_t4 (List.mem_of_getElem? (i := 130) rfl)⟩
theorem lw_p29 : lw_okq (⟨"WornSkin$Reader", "sign", "(I)V"⟩, 13) := ⟨⟨by decide +kernel, by decide +kernel⟩, lw_t1 (List.mem_of_getElem? (i := 63) rfl), lw_t4 (List.mem_of_getElem? (i := 166) rfl), lw_t4 (List.mem_of_getElem? (i := 167) rfl)⟩
theorem lw_p30 : lw_okq (⟨"WornSkin$Reader", "hasSign", "(I)Z"⟩, 13) := ⟨⟨by decide +kernel, by decide +kernel⟩, lw_t1 (List.mem_of_getElem? (i := 63) rfl), lw_t4 (List.mem_of_getElem? (i := 170) rfl), lw_t4 (List.mem_of_getElem? (i := 171) rfl)⟩
theorem lw_p31 : lw_okq (⟨"WornSkin", "now", "()LWornSkin$Library;"⟩, 9) := ⟨⟨by decide +kernel, by decide +kernel⟩, lw_t1 (List.mem_of_getElem? (i := 55) rfl), lw_t5 (List.mem_of_getElem? (i := 22) rfl), lw_t5 (List.mem_of_getElem? (i := 23) rfl)⟩
def lw_privs_2 : List (MethodName × Nat) := [(⟨"WornSkin$Reader", "hole", "()V"⟩, 13), (⟨"WornSkin$Reader", "told", "(I)I"⟩, 13), (⟨"WornSkin$Reader", "text", "()V"⟩, 13), (⟨"WornSkin$Reader", "one", "([Ljava/lang/String;)I"⟩, 13), (⟨"WornSkin$Reader", "damp", "()V"⟩, 13), (⟨"WornSkin$Reader", "shows", "()V"⟩, 13), (⟨"WornSkin$Reader", "whole", "()LWornSkin$Expression;"⟩, 13), (⟨"WornSkin$Reader", "all", "()LWornSkin$Expression;"⟩, 13), (⟨"WornSkin$Reader", "test", "()LWornSkin$Expression;"⟩, 13), (⟨"WornSkin$Reader", "sum", "()LWornSkin$Expression;"⟩, 13), (⟨"WornSkin$Reader", "term", "()LWornSkin$Expression;"⟩, 13), (⟨"WornSkin$Reader", "part", "()LWornSkin$Expression;"⟩, 13), (⟨"WornSkin$Reader", "isSign", "(I)Z"⟩, 13), (⟨"WornSkin$Reader", "sign", "(I)V"⟩, 13), (⟨"WornSkin$Reader", "hasSign", "(I)Z"⟩, 13), (⟨"WornSkin", "now", "()LWornSkin$Library;"⟩, 9)]
theorem lw_r2 : ∀ q ∈ lw_privs_2, lw_okq q := List.forall_mem_cons.mpr ⟨lw_p16, List.forall_mem_cons.mpr ⟨lw_p17, List.forall_mem_cons.mpr ⟨lw_p18, List.forall_mem_cons.mpr ⟨lw_p19, List.forall_mem_cons.mpr ⟨lw_p20, List.forall_mem_cons.mpr ⟨lw_p21, List.forall_mem_cons.mpr ⟨lw_p22, List.forall_mem_cons.mpr ⟨lw_p23, List.forall_mem_cons.mpr ⟨lw_p24, List.forall_mem_cons.mpr ⟨lw_p25, List.forall_mem_cons.mpr ⟨lw_p26, List.forall_mem_cons.mpr ⟨lw_p27, List.forall_mem_cons.mpr ⟨lw_p28, List.forall_mem_cons.mpr ⟨lw_p29, List.forall_mem_cons.mpr ⟨lw_p30, List.forall_mem_cons.mpr ⟨lw_p31, fun _ h => absurd h List.not_mem_nil⟩⟩⟩⟩⟩⟩⟩⟩⟩⟩⟩⟩⟩⟩⟩⟩
theorem lw_p32 : lw_okq (⟨"WornSkin$Reader", "line", "(I)LWornSkin$Line;"⟩, 13) := ⟨⟨by decide +kernel, by decide +kernel⟩, lw_t1 (List.mem_of_getElem? (i := 63) rfl), lw_t5 (List.mem_of_getElem? (i := 32) rfl), lw_t5 (List.mem_of_getElem? (i := 33) rfl)⟩
theorem lw_p33 : lw_okq (⟨"WornSkin", "isSkin", "(I)Z"⟩, 9) := ⟨⟨by decide +kernel, by decide +kernel⟩, lw_t1 (List.mem_of_getElem? (i := 55) rfl), lw_t5 (List.mem_of_getElem? (i := 79) rfl), lw_t5 (List.mem_of_getElem? (i := 80) rfl)⟩
theorem lw_p34 : lw_okq (⟨"WornSkin", "skins", "()I"⟩, 9) := ⟨⟨by decide +kernel, by decide +kernel⟩, lw_t1 (List.mem_of_getElem? (i := 55) rfl), lw_t5 (List.mem_of_getElem? (i := 83) rfl), lw_t5 (List.mem_of_getElem? (i := 84) rfl)⟩
theorem lw_p35 : lw_okq (⟨"WornSkin", "readIn", "(I)I"⟩, 9) := ⟨⟨by decide +kernel, by decide +kernel⟩, lw_t1 (List.mem_of_getElem? (i := 55) rfl), lw_t5 (List.mem_of_getElem? (i := 94) rfl), lw_t5 (List.mem_of_getElem? (i := 95) rfl)⟩
theorem lw_p36 : lw_okq (⟨"WornSkin", "isText", "(I)Z"⟩, 9) := ⟨⟨by decide +kernel, by decide +kernel⟩, lw_t1 (List.mem_of_getElem? (i := 55) rfl), lw_t5 (List.mem_of_getElem? (i := 212) rfl), lw_t5 (List.mem_of_getElem? (i := 213) rfl)⟩
theorem lw_p37 : lw_okq (⟨"WornSkin", "texts", "()I"⟩, 9) := ⟨⟨by decide +kernel, by decide +kernel⟩, lw_t1 (List.mem_of_getElem? (i := 55) rfl), lw_t5 (List.mem_of_getElem? (i := 216) rfl), lw_t5 (List.mem_of_getElem? (i := 217) rfl)⟩
theorem lw_p38 : lw_okq (⟨"WornSkin", "made", "(II)I"⟩, 9) := ⟨⟨by decide +kernel, by decide +kernel⟩, lw_t1 (List.mem_of_getElem? (i := 55) rfl), lw_t6 (List.mem_of_getElem? (i := 0) rfl), lw_t6 (List.mem_of_getElem? (i := 1) rfl)⟩
theorem lw_p39 : lw_okq (⟨"WornSkin", "isLine", "(II)Z"⟩, 9) := ⟨⟨by decide +kernel, by decide +kernel⟩, lw_t1 (List.mem_of_getElem? (i := 55) rfl), lw_t6 (List.mem_of_getElem? (i := 8) rfl), lw_t6 (List.mem_of_getElem? (i := 9) rfl)⟩
theorem lw_p40 : lw_okq (⟨"WornSkin", "keep", "()V"⟩, 9) := ⟨⟨by decide +kernel, by decide +kernel⟩, lw_t1 (List.mem_of_getElem? (i := 55) rfl), lw_t6 (List.mem_of_getElem? (i := 38) rfl), lw_t6 (List.mem_of_getElem? (i := 39) rfl)⟩
theorem lw_p41 : lw_okq (⟨"java/util/ArrayList", "fastRemove", "([Ljava/lang/Object;I)V"⟩, 3) := ⟨⟨by decide +kernel, by decide +kernel⟩, lw_t1 (List.mem_of_getElem? (i := 178) rfl), lw_t6 (List.mem_of_getElem? (i := 46) rfl), lw_t6 (List.mem_of_getElem? (i := 47) rfl)⟩
theorem lw_p42 : lw_okq (⟨"WornSkin", "scrapes", "(IZ)I"⟩, 9) := ⟨⟨by decide +kernel, by decide +kernel⟩, lw_t1 (List.mem_of_getElem? (i := 55) rfl), lw_t6 (List.mem_of_getElem? (i := 71) rfl), lw_t6 (List.mem_of_getElem? (i := 72) rfl)⟩
theorem lw_p43 : lw_okq (⟨"WornSkin$Shelf", "about", "(IZ)I"⟩, 6) := ⟨⟨by decide +kernel, by decide +kernel⟩, lw_t1 (List.mem_of_getElem? (i := 139) rfl), lw_t6 (List.mem_of_getElem? (i := 79) rfl), lw_t6 (List.mem_of_getElem? (i := 80) rfl)⟩
theorem lw_p44 : lw_okq (⟨"WornSkin", "isLayer", "(I)Z"⟩, 9) := ⟨⟨by decide +kernel, by decide +kernel⟩, lw_t1 (List.mem_of_getElem? (i := 55) rfl), lw_t6 (List.mem_of_getElem? (i := 174) rfl), lw_t6 (List.mem_of_getElem? (i := 175) rfl)⟩
theorem lw_p45 : lw_okq (⟨"WornSkin", "costBy", "(IIZ)I"⟩, 9) := ⟨⟨by decide +kernel, by decide +kernel⟩, lw_t1 (List.mem_of_getElem? (i := 55) rfl), lw_t6 (List.mem_of_getElem? (i := 191) rfl), lw_t6 (List.mem_of_getElem? (i := 192) rfl)⟩
theorem lw_p46 : lw_okq (⟨"WornSkin$Lays", "goes", "(II)V"⟩, 4) := ⟨⟨by decide +kernel, by decide +kernel⟩, lw_t2 (List.mem_of_getElem? (i := 55) rfl), lw_t6 (List.mem_of_getElem? (i := 205) rfl), lw_t6 (List.mem_of_getElem? (i := 206) rfl)⟩
theorem lw_p47 : lw_okq (⟨"WornSkin$Lays", "takes", "(II)V"⟩, 4) := ⟨⟨by decide +kernel, by decide +kernel⟩, lw_t2 (List.mem_of_getElem? (i := 55) rfl), lw_t6 (List.mem_of_getElem? (i := 214) rfl), lw_t6 (List.mem_of_getElem? (i := 215) rfl)⟩
def lw_privs_3 : List (MethodName × Nat) := [(⟨"WornSkin$Reader", "line", "(I)LWornSkin$Line;"⟩, 13), (⟨"WornSkin", "isSkin", "(I)Z"⟩, 9), (⟨"WornSkin", "skins", "()I"⟩, 9), (⟨"WornSkin", "readIn", "(I)I"⟩, 9), (⟨"WornSkin", "isText", "(I)Z"⟩, 9), (⟨"WornSkin", "texts", "()I"⟩, 9), (⟨"WornSkin", "made", "(II)I"⟩, 9), (⟨"WornSkin", "isLine", "(II)Z"⟩, 9), (⟨"WornSkin", "keep", "()V"⟩, 9), (⟨"java/util/ArrayList", "fastRemove", "([Ljava/lang/Object;I)V"⟩, 3), (⟨"WornSkin", "scrapes", "(IZ)I"⟩, 9), (⟨"WornSkin$Shelf", "about", "(IZ)I"⟩, 6), (⟨"WornSkin", "isLayer", "(I)Z"⟩, 9), (⟨"WornSkin", "costBy", "(IIZ)I"⟩, 9), (⟨"WornSkin$Lays", "goes", "(II)V"⟩, 4), (⟨"WornSkin$Lays", "takes", "(II)V"⟩, 4)]
theorem lw_r3 : ∀ q ∈ lw_privs_3, lw_okq q := List.forall_mem_cons.mpr ⟨lw_p32, List.forall_mem_cons.mpr ⟨lw_p33, List.forall_mem_cons.mpr ⟨lw_p34, List.forall_mem_cons.mpr ⟨lw_p35, List.forall_mem_cons.mpr ⟨lw_p36, List.forall_mem_cons.mpr ⟨lw_p37, List.forall_mem_cons.mpr ⟨lw_p38, List.forall_mem_cons.mpr ⟨lw_p39, List.forall_mem_cons.mpr ⟨lw_p40, List.forall_mem_cons.mpr ⟨lw_p41, List.forall_mem_cons.mpr ⟨lw_p42, List.forall_mem_cons.mpr ⟨lw_p43, List.forall_mem_cons.mpr ⟨lw_p44, List.forall_mem_cons.mpr ⟨lw_p45, List.forall_mem_cons.mpr ⟨lw_p46, List.forall_mem_cons.mpr ⟨lw_p47, fun _ h => absurd h List.not_mem_nil⟩⟩⟩⟩⟩⟩⟩⟩⟩⟩⟩⟩⟩⟩⟩⟩
theorem lw_p48 : lw_okq (⟨"WornSkin", "isAsSeen", "(LWornSkin$Text;)Z"⟩, 9) := ⟨⟨by decide +kernel, by decide +kernel⟩, lw_t1 (List.mem_of_getElem? (i := 55) rfl), lw_t7 (List.mem_of_getElem? (i := 20) rfl), lw_t7 (List.mem_of_getElem? (i := 21) rfl)⟩
theorem lw_p49 : lw_okq (⟨"WornSkin", "drawsText", "()Z"⟩, 9) := ⟨⟨by decide +kernel, by decide +kernel⟩, lw_t1 (List.mem_of_getElem? (i := 55) rfl), lw_t7 (List.mem_of_getElem? (i := 42) rfl), lw_t7 (List.mem_of_getElem? (i := 43) rfl)⟩
theorem lw_p50 : lw_okq (⟨"WornSkin", "draw", "(I)I"⟩, 9) := ⟨⟨by decide +kernel, by decide +kernel⟩, lw_t1 (List.mem_of_getElem? (i := 55) rfl), lw_t7 (List.mem_of_getElem? (i := 46) rfl), lw_t7 (List.mem_of_getElem? (i := 47) rfl)⟩
theorem lw_p51 : lw_okq (⟨"WornSkin", "layersAll", "()I"⟩, 9) := ⟨⟨by decide +kernel, by decide +kernel⟩, lw_t1 (List.mem_of_getElem? (i := 55) rfl), lw_t7 (List.mem_of_getElem? (i := 87) rfl), lw_t7 (List.mem_of_getElem? (i := 88) rfl)⟩
theorem lw_p52 : lw_okq (⟨"WornSkinModel", "readsAll", "()Z"⟩, 59) := ⟨⟨by decide +kernel, by decide +kernel⟩, lw_t7 (List.mem_of_getElem? (i := 128) rfl), lw_t8 (List.mem_of_getElem? (i := 86) rfl), lw_t8 (List.mem_of_getElem? (i := 87) rfl)⟩
theorem lw_p53 : lw_okq (⟨"WornSkinModel", "begins", "()V"⟩, 59) := ⟨⟨by decide +kernel, by decide +kernel⟩, lw_t7 (List.mem_of_getElem? (i := 128) rfl), lw_t8 (List.mem_of_getElem? (i := 90) rfl), lw_t8 (List.mem_of_getElem? (i := 91) rfl)⟩
theorem lw_p54 : lw_okq (⟨"WornSkinModel", "nextToken", "()V"⟩, 59) := ⟨⟨by decide +kernel, by decide +kernel⟩, lw_t7 (List.mem_of_getElem? (i := 128) rfl), lw_t8 (List.mem_of_getElem? (i := 94) rfl), lw_t8 (List.mem_of_getElem? (i := 95) rfl)⟩
theorem lw_p55 : lw_okq (⟨"WornSkinModel", "signAt", "(I)I"⟩, 59) := ⟨⟨by decide +kernel, by decide +kernel⟩, lw_t7 (List.mem_of_getElem? (i := 128) rfl), lw_t8 (List.mem_of_getElem? (i := 98) rfl), lw_t8 (List.mem_of_getElem? (i := 99) rfl)⟩
theorem lw_p56 : lw_okq (⟨"WornSkinModel", "isWord", "(J)Z"⟩, 59) := ⟨⟨by decide +kernel, by decide +kernel⟩, lw_t7 (List.mem_of_getElem? (i := 128) rfl), lw_t8 (List.mem_of_getElem? (i := 105) rfl), lw_t8 (List.mem_of_getElem? (i := 106) rfl)⟩
theorem lw_p57 : lw_okq (⟨"WornSkinModel", "readsSkin", "()Z"⟩, 59) := ⟨⟨by decide +kernel, by decide +kernel⟩, lw_t7 (List.mem_of_getElem? (i := 128) rfl), lw_t8 (List.mem_of_getElem? (i := 109) rfl), lw_t8 (List.mem_of_getElem? (i := 110) rfl)⟩
theorem lw_p58 : lw_okq (⟨"WornSkinModel", "fails", "(I)Z"⟩, 59) := ⟨⟨by decide +kernel, by decide +kernel⟩, lw_t7 (List.mem_of_getElem? (i := 128) rfl), lw_t8 (List.mem_of_getElem? (i := 113) rfl), lw_t8 (List.mem_of_getElem? (i := 114) rfl)⟩
theorem lw_p59 : lw_okq (⟨"WornSkinModel", "needsNew", "()Z"⟩, 59) := ⟨⟨by decide +kernel, by decide +kernel⟩, lw_t7 (List.mem_of_getElem? (i := 128) rfl), lw_t8 (List.mem_of_getElem? (i := 117) rfl), lw_t8 (List.mem_of_getElem? (i := 118) rfl)⟩
theorem lw_p60 : lw_okq (⟨"WornSkinModel", "isKept", "()Z"⟩, 59) := ⟨⟨by decide +kernel, by decide +kernel⟩, lw_t7 (List.mem_of_getElem? (i := 128) rfl), lw_t8 (List.mem_of_getElem? (i := 121) rfl), lw_t8 (List.mem_of_getElem? (i := 122) rfl)⟩
theorem lw_p61 : lw_okq (⟨"WornSkinModel", "skinNamed", "(I)I"⟩, 59) := ⟨⟨by decide +kernel, by decide +kernel⟩, lw_t7 (List.mem_of_getElem? (i := 128) rfl), lw_t8 (List.mem_of_getElem? (i := 144) rfl), lw_t8 (List.mem_of_getElem? (i := 145) rfl)⟩
theorem lw_p62 : lw_okq (⟨"WornSkinModel", "textNamed", "(I)I"⟩, 59) := ⟨⟨by decide +kernel, by decide +kernel⟩, lw_t7 (List.mem_of_getElem? (i := 128) rfl), lw_t8 (List.mem_of_getElem? (i := 148) rfl), lw_t8 (List.mem_of_getElem? (i := 149) rfl)⟩
theorem lw_p63 : lw_okq (⟨"WornSkinModel", "needsBoth", "(JII)Z"⟩, 59) := ⟨⟨by decide +kernel, by decide +kernel⟩, lw_t7 (List.mem_of_getElem? (i := 128) rfl), lw_t8 (List.mem_of_getElem? (i := 152) rfl), lw_t8 (List.mem_of_getElem? (i := 153) rfl)⟩
def lw_privs_4 : List (MethodName × Nat) := [(⟨"WornSkin", "isAsSeen", "(LWornSkin$Text;)Z"⟩, 9), (⟨"WornSkin", "drawsText", "()Z"⟩, 9), (⟨"WornSkin", "draw", "(I)I"⟩, 9), (⟨"WornSkin", "layersAll", "()I"⟩, 9), (⟨"WornSkinModel", "readsAll", "()Z"⟩, 59), (⟨"WornSkinModel", "begins", "()V"⟩, 59), (⟨"WornSkinModel", "nextToken", "()V"⟩, 59), (⟨"WornSkinModel", "signAt", "(I)I"⟩, 59), (⟨"WornSkinModel", "isWord", "(J)Z"⟩, 59), (⟨"WornSkinModel", "readsSkin", "()Z"⟩, 59), (⟨"WornSkinModel", "fails", "(I)Z"⟩, 59), (⟨"WornSkinModel", "needsNew", "()Z"⟩, 59), (⟨"WornSkinModel", "isKept", "()Z"⟩, 59), (⟨"WornSkinModel", "skinNamed", "(I)I"⟩, 59), (⟨"WornSkinModel", "textNamed", "(I)I"⟩, 59), (⟨"WornSkinModel", "needsBoth", "(JII)Z"⟩, 59)]
theorem lw_r4 : ∀ q ∈ lw_privs_4, lw_okq q := List.forall_mem_cons.mpr ⟨lw_p48, List.forall_mem_cons.mpr ⟨lw_p49, List.forall_mem_cons.mpr ⟨lw_p50, List.forall_mem_cons.mpr ⟨lw_p51, List.forall_mem_cons.mpr ⟨lw_p52, List.forall_mem_cons.mpr ⟨lw_p53, List.forall_mem_cons.mpr ⟨lw_p54, List.forall_mem_cons.mpr ⟨lw_p55, List.forall_mem_cons.mpr ⟨lw_p56, List.forall_mem_cons.mpr ⟨lw_p57, List.forall_mem_cons.mpr ⟨lw_p58, List.forall_mem_cons.mpr ⟨lw_p59, List.forall_mem_cons.mpr ⟨lw_p60, List.forall_mem_cons.mpr ⟨lw_p61, List.forall_mem_cons.mpr ⟨lw_p62, List.forall_mem_cons.mpr ⟨lw_p63, fun _ h => absurd h List.not_mem_nil⟩⟩⟩⟩⟩⟩⟩⟩⟩⟩⟩⟩⟩⟩⟩⟩
theorem lw_p64 : lw_okq (⟨"WornSkinModel", "needsNumber", "(II)Z"⟩, 59) := ⟨⟨by decide +kernel, by decide +kernel⟩, lw_t7 (List.mem_of_getElem? (i := 128) rfl), lw_t8 (List.mem_of_getElem? (i := 156) rfl), lw_t8 (List.mem_of_getElem? (i := 157) rfl)⟩
theorem lw_p65 : lw_okq (⟨"WornSkinModel", "closes", "()Z"⟩, 59) := ⟨⟨by decide +kernel, by decide +kernel⟩, lw_t7 (List.mem_of_getElem? (i := 128) rfl), lw_t8 (List.mem_of_getElem? (i := 163) rfl), lw_t8 (List.mem_of_getElem? (i := 164) rfl)⟩
theorem lw_p66 : lw_okq (⟨"WornSkinModel", "isSign", "(I)Z"⟩, 59) := ⟨⟨by decide +kernel, by decide +kernel⟩, lw_t7 (List.mem_of_getElem? (i := 128) rfl), lw_t8 (List.mem_of_getElem? (i := 167) rfl), lw_t8 (List.mem_of_getElem? (i := 168) rfl)⟩
theorem lw_p67 : lw_okq (⟨"WornSkinModel", "readsHole", "()Z"⟩, 59) := ⟨⟨by decide +kernel, by decide +kernel⟩, lw_t7 (List.mem_of_getElem? (i := 128) rfl), lw_t8 (List.mem_of_getElem? (i := 171) rfl), lw_t8 (List.mem_of_getElem? (i := 172) rfl)⟩
theorem lw_p68 : lw_okq (⟨"WornSkinModel", "needsSkin", "(I)Z"⟩, 59) := ⟨⟨by decide +kernel, by decide +kernel⟩, lw_t7 (List.mem_of_getElem? (i := 128) rfl), lw_t8 (List.mem_of_getElem? (i := 175) rfl), lw_t8 (List.mem_of_getElem? (i := 176) rfl)⟩
theorem lw_p69 : lw_okq (⟨"WornSkinModel", "readsText", "()Z"⟩, 59) := ⟨⟨by decide +kernel, by decide +kernel⟩, lw_t7 (List.mem_of_getElem? (i := 128) rfl), lw_t8 (List.mem_of_getElem? (i := 179) rfl), lw_t8 (List.mem_of_getElem? (i := 180) rfl)⟩
theorem lw_p70 : lw_okq (⟨"WornSkinModel", "readsDamp", "()Z"⟩, 59) := ⟨⟨by decide +kernel, by decide +kernel⟩, lw_t7 (List.mem_of_getElem? (i := 128) rfl), lw_t8 (List.mem_of_getElem? (i := 183) rfl), lw_t8 (List.mem_of_getElem? (i := 184) rfl)⟩
theorem lw_p71 : lw_okq (⟨"WornSkinModel", "readsShows", "()Z"⟩, 59) := ⟨⟨by decide +kernel, by decide +kernel⟩, lw_t7 (List.mem_of_getElem? (i := 128) rfl), lw_t8 (List.mem_of_getElem? (i := 187) rfl), lw_t8 (List.mem_of_getElem? (i := 188) rfl)⟩
theorem lw_p72 : lw_okq (⟨"WornSkinModel", "reads", "()Z"⟩, 59) := ⟨⟨by decide +kernel, by decide +kernel⟩, lw_t7 (List.mem_of_getElem? (i := 128) rfl), lw_t8 (List.mem_of_getElem? (i := 191) rfl), lw_t8 (List.mem_of_getElem? (i := 192) rfl)⟩
theorem lw_p73 : lw_okq (⟨"WornSkinModel", "fact", "()I"⟩, 59) := ⟨⟨by decide +kernel, by decide +kernel⟩, lw_t7 (List.mem_of_getElem? (i := 128) rfl), lw_t8 (List.mem_of_getElem? (i := 195) rfl), lw_t8 (List.mem_of_getElem? (i := 196) rfl)⟩
theorem lw_p74 : lw_okq (⟨"WornSkinModel", "puts", "(I)V"⟩, 59) := ⟨⟨by decide +kernel, by decide +kernel⟩, lw_t7 (List.mem_of_getElem? (i := 128) rfl), lw_t8 (List.mem_of_getElem? (i := 203) rfl), lw_t8 (List.mem_of_getElem? (i := 204) rfl)⟩
theorem lw_p75 : lw_okq (⟨"WornSkinModel", "lays", "()V"⟩, 59) := ⟨⟨by decide +kernel, by decide +kernel⟩, lw_t7 (List.mem_of_getElem? (i := 128) rfl), lw_t8 (List.mem_of_getElem? (i := 207) rfl), lw_t8 (List.mem_of_getElem? (i := 208) rfl)⟩
theorem lw_p76 : lw_okq (⟨"WornSkinModel", "fresh0", "()V"⟩, 59) := ⟨⟨by decide +kernel, by decide +kernel⟩, lw_t7 (List.mem_of_getElem? (i := 128) rfl), lw_t8 (List.mem_of_getElem? (i := 217) rfl), lw_t8 (List.mem_of_getElem? (i := 218) rfl)⟩
theorem lw_p77 : lw_okq (⟨"WornSkinModel", "readsLine", "()Z"⟩, 59) := ⟨⟨by decide +kernel, by decide +kernel⟩, lw_t7 (List.mem_of_getElem? (i := 128) rfl), lw_t8 (List.mem_of_getElem? (i := 225) rfl), lw_t8 (List.mem_of_getElem? (i := 226) rfl)⟩
theorem lw_p78 : lw_okq (⟨"WornSkinModel", "needsText", "()Z"⟩, 59) := ⟨⟨by decide +kernel, by decide +kernel⟩, lw_t7 (List.mem_of_getElem? (i := 128) rfl), lw_t8 (List.mem_of_getElem? (i := 229) rfl), lw_t8 (List.mem_of_getElem? (i := 230) rfl)⟩
theorem lw_p79 : lw_okq (⟨"WornSkinModel", "laysLines", "(II)V"⟩, 59) := ⟨⟨by decide +kernel, by decide +kernel⟩, lw_t7 (List.mem_of_getElem? (i := 128) rfl), lw_t8 (List.mem_of_getElem? (i := 233) rfl), lw_t8 (List.mem_of_getElem? (i := 234) rfl)⟩
def lw_privs_5 : List (MethodName × Nat) := [(⟨"WornSkinModel", "needsNumber", "(II)Z"⟩, 59), (⟨"WornSkinModel", "closes", "()Z"⟩, 59), (⟨"WornSkinModel", "isSign", "(I)Z"⟩, 59), (⟨"WornSkinModel", "readsHole", "()Z"⟩, 59), (⟨"WornSkinModel", "needsSkin", "(I)Z"⟩, 59), (⟨"WornSkinModel", "readsText", "()Z"⟩, 59), (⟨"WornSkinModel", "readsDamp", "()Z"⟩, 59), (⟨"WornSkinModel", "readsShows", "()Z"⟩, 59), (⟨"WornSkinModel", "reads", "()Z"⟩, 59), (⟨"WornSkinModel", "fact", "()I"⟩, 59), (⟨"WornSkinModel", "puts", "(I)V"⟩, 59), (⟨"WornSkinModel", "lays", "()V"⟩, 59), (⟨"WornSkinModel", "fresh0", "()V"⟩, 59), (⟨"WornSkinModel", "readsLine", "()Z"⟩, 59), (⟨"WornSkinModel", "needsText", "()Z"⟩, 59), (⟨"WornSkinModel", "laysLines", "(II)V"⟩, 59)]
theorem lw_r5 : ∀ q ∈ lw_privs_5, lw_okq q := List.forall_mem_cons.mpr ⟨lw_p64, List.forall_mem_cons.mpr ⟨lw_p65, List.forall_mem_cons.mpr ⟨lw_p66, List.forall_mem_cons.mpr ⟨lw_p67, List.forall_mem_cons.mpr ⟨lw_p68, List.forall_mem_cons.mpr ⟨lw_p69, List.forall_mem_cons.mpr ⟨lw_p70, List.forall_mem_cons.mpr ⟨lw_p71, List.forall_mem_cons.mpr ⟨lw_p72, List.forall_mem_cons.mpr ⟨lw_p73, List.forall_mem_cons.mpr ⟨lw_p74, List.forall_mem_cons.mpr ⟨lw_p75, List.forall_mem_cons.mpr ⟨lw_p76, List.forall_mem_cons.mpr ⟨lw_p77, List.forall_mem_cons.mpr ⟨lw_p78, List.forall_mem_cons.mpr ⟨lw_p79, fun _ h => absurd h List.not_mem_nil⟩⟩⟩⟩⟩⟩⟩⟩⟩⟩⟩⟩⟩⟩⟩⟩
theorem lw_p80 : lw_okq (⟨"WornSkinModel", "isSkin", "(I)Z"⟩, 59) := ⟨⟨by decide +kernel, by decide +kernel⟩, lw_t7 (List.mem_of_getElem? (i := 128) rfl), lw_t9 (List.mem_of_getElem? (i := 1) rfl), lw_t9 (List.mem_of_getElem? (i := 2) rfl)⟩
theorem lw_p81 : lw_okq (⟨"WornSkinModel", "readIn", "(II)I"⟩, 59) := ⟨⟨by decide +kernel, by decide +kernel⟩, lw_t7 (List.mem_of_getElem? (i := 128) rfl), lw_t9 (List.mem_of_getElem? (i := 5) rfl), lw_t9 (List.mem_of_getElem? (i := 6) rfl)⟩
theorem lw_p82 : lw_okq (⟨"WornSkinModel", "dampOf", "(I)I"⟩, 59) := ⟨⟨by decide +kernel, by decide +kernel⟩, lw_t7 (List.mem_of_getElem? (i := 128) rfl), lw_t9 (List.mem_of_getElem? (i := 9) rfl), lw_t9 (List.mem_of_getElem? (i := 10) rfl)⟩
theorem lw_p83 : lw_okq (⟨"WornSkinModel", "readBy", "(III)I"⟩, 59) := ⟨⟨by decide +kernel, by decide +kernel⟩, lw_t7 (List.mem_of_getElem? (i := 128) rfl), lw_t9 (List.mem_of_getElem? (i := 13) rfl), lw_t9 (List.mem_of_getElem? (i := 14) rfl)⟩
theorem lw_p84 : lw_okq (⟨"WornSkinModel", "showsBy", "(IIII)Z"⟩, 59) := ⟨⟨by decide +kernel, by decide +kernel⟩, lw_t7 (List.mem_of_getElem? (i := 128) rfl), lw_t9 (List.mem_of_getElem? (i := 17) rfl), lw_t9 (List.mem_of_getElem? (i := 18) rfl)⟩
theorem lw_p85 : lw_okq (⟨"WornSkinModel", "worked", "(I)I"⟩, 59) := ⟨⟨by decide +kernel, by decide +kernel⟩, lw_t7 (List.mem_of_getElem? (i := 128) rfl), lw_t9 (List.mem_of_getElem? (i := 21) rfl), lw_t9 (List.mem_of_getElem? (i := 22) rfl)⟩
theorem lw_p86 : lw_okq (⟨"WornSkinModel", "opens", "(I)V"⟩, 59) := ⟨⟨by decide +kernel, by decide +kernel⟩, lw_t7 (List.mem_of_getElem? (i := 128) rfl), lw_t9 (List.mem_of_getElem? (i := 25) rfl), lw_t9 (List.mem_of_getElem? (i := 26) rfl)⟩
theorem lw_p87 : lw_okq (⟨"WornSkinModel", "sums", "(I)V"⟩, 59) := ⟨⟨by decide +kernel, by decide +kernel⟩, lw_t7 (List.mem_of_getElem? (i := 128) rfl), lw_t9 (List.mem_of_getElem? (i := 29) rfl), lw_t9 (List.mem_of_getElem? (i := 30) rfl)⟩
theorem lw_p88 : lw_okq (⟨"WornSkinModel", "tests", "(I)V"⟩, 59) := ⟨⟨by decide +kernel, by decide +kernel⟩, lw_t7 (List.mem_of_getElem? (i := 128) rfl), lw_t9 (List.mem_of_getElem? (i := 33) rfl), lw_t9 (List.mem_of_getElem? (i := 34) rfl)⟩
theorem lw_p89 : lw_okq (⟨"WornSkinModel", "isText", "(I)Z"⟩, 59) := ⟨⟨by decide +kernel, by decide +kernel⟩, lw_t7 (List.mem_of_getElem? (i := 128) rfl), lw_t9 (List.mem_of_getElem? (i := 41) rfl), lw_t9 (List.mem_of_getElem? (i := 42) rfl)⟩
theorem lw_p90 : lw_okq (⟨"WornSkinModel", "wholeNow", "()I"⟩, 59) := ⟨⟨by decide +kernel, by decide +kernel⟩, lw_t7 (List.mem_of_getElem? (i := 128) rfl), lw_t9 (List.mem_of_getElem? (i := 45) rfl), lw_t9 (List.mem_of_getElem? (i := 46) rfl)⟩
theorem lw_p91 : lw_okq (⟨"WornSkinModel", "wholeBy", "(I)I"⟩, 59) := ⟨⟨by decide +kernel, by decide +kernel⟩, lw_t7 (List.mem_of_getElem? (i := 128) rfl), lw_t9 (List.mem_of_getElem? (i := 49) rfl), lw_t9 (List.mem_of_getElem? (i := 50) rfl)⟩
theorem lw_p92 : lw_okq (⟨"WornSkinModel", "madeOf", "(I)I"⟩, 59) := ⟨⟨by decide +kernel, by decide +kernel⟩, lw_t7 (List.mem_of_getElem? (i := 128) rfl), lw_t9 (List.mem_of_getElem? (i := 53) rfl), lw_t9 (List.mem_of_getElem? (i := 54) rfl)⟩
theorem lw_p93 : lw_okq (⟨"WornSkinModel", "isLine", "(II)Z"⟩, 59) := ⟨⟨by decide +kernel, by decide +kernel⟩, lw_t7 (List.mem_of_getElem? (i := 128) rfl), lw_t9 (List.mem_of_getElem? (i := 64) rfl), lw_t9 (List.mem_of_getElem? (i := 65) rfl)⟩
theorem lw_p94 : lw_okq (⟨"WornSkinModel", "canWrite", "(III)Z"⟩, 59) := ⟨⟨by decide +kernel, by decide +kernel⟩, lw_t7 (List.mem_of_getElem? (i := 128) rfl), lw_t9 (List.mem_of_getElem? (i := 86) rfl), lw_t9 (List.mem_of_getElem? (i := 87) rfl)⟩
theorem lw_p95 : lw_okq (⟨"WornSkinModel", "keeps", "()V"⟩, 59) := ⟨⟨by decide +kernel, by decide +kernel⟩, lw_t7 (List.mem_of_getElem? (i := 128) rfl), lw_t9 (List.mem_of_getElem? (i := 91) rfl), lw_t9 (List.mem_of_getElem? (i := 92) rfl)⟩
def lw_privs_6 : List (MethodName × Nat) := [(⟨"WornSkinModel", "isSkin", "(I)Z"⟩, 59), (⟨"WornSkinModel", "readIn", "(II)I"⟩, 59), (⟨"WornSkinModel", "dampOf", "(I)I"⟩, 59), (⟨"WornSkinModel", "readBy", "(III)I"⟩, 59), (⟨"WornSkinModel", "showsBy", "(IIII)Z"⟩, 59), (⟨"WornSkinModel", "worked", "(I)I"⟩, 59), (⟨"WornSkinModel", "opens", "(I)V"⟩, 59), (⟨"WornSkinModel", "sums", "(I)V"⟩, 59), (⟨"WornSkinModel", "tests", "(I)V"⟩, 59), (⟨"WornSkinModel", "isText", "(I)Z"⟩, 59), (⟨"WornSkinModel", "wholeNow", "()I"⟩, 59), (⟨"WornSkinModel", "wholeBy", "(I)I"⟩, 59), (⟨"WornSkinModel", "madeOf", "(I)I"⟩, 59), (⟨"WornSkinModel", "isLine", "(II)Z"⟩, 59), (⟨"WornSkinModel", "canWrite", "(III)Z"⟩, 59), (⟨"WornSkinModel", "keeps", "()V"⟩, 59)]
theorem lw_r6 : ∀ q ∈ lw_privs_6, lw_okq q := List.forall_mem_cons.mpr ⟨lw_p80, List.forall_mem_cons.mpr ⟨lw_p81, List.forall_mem_cons.mpr ⟨lw_p82, List.forall_mem_cons.mpr ⟨lw_p83, List.forall_mem_cons.mpr ⟨lw_p84, List.forall_mem_cons.mpr ⟨lw_p85, List.forall_mem_cons.mpr ⟨lw_p86, List.forall_mem_cons.mpr ⟨lw_p87, List.forall_mem_cons.mpr ⟨lw_p88, List.forall_mem_cons.mpr ⟨lw_p89, List.forall_mem_cons.mpr ⟨lw_p90, List.forall_mem_cons.mpr ⟨lw_p91, List.forall_mem_cons.mpr ⟨lw_p92, List.forall_mem_cons.mpr ⟨lw_p93, List.forall_mem_cons.mpr ⟨lw_p94, List.forall_mem_cons.mpr ⟨lw_p95, fun _ h => absurd h List.not_mem_nil⟩⟩⟩⟩⟩⟩⟩⟩⟩⟩⟩⟩⟩⟩⟩⟩
theorem lw_p96 : lw_okq (⟨"WornSkinModel", "writes", "(III)V"⟩, 59) := ⟨⟨by decide +kernel, by decide +kernel⟩, lw_t7 (List.mem_of_getElem? (i := 128) rfl), lw_t9 (List.mem_of_getElem? (i := 98) rfl), lw_t9 (List.mem_of_getElem? (i := 99) rfl)⟩
theorem lw_p97 : lw_okq (⟨"WornSkinModel", "scrapesNow", "(II)I"⟩, 59) := ⟨⟨by decide +kernel, by decide +kernel⟩, lw_t7 (List.mem_of_getElem? (i := 128) rfl), lw_t9 (List.mem_of_getElem? (i := 106) rfl), lw_t9 (List.mem_of_getElem? (i := 107) rfl)⟩
theorem lw_p98 : lw_okq (⟨"WornSkinModel", "scrapedBy", "(II)I"⟩, 59) := ⟨⟨by decide +kernel, by decide +kernel⟩, lw_t7 (List.mem_of_getElem? (i := 128) rfl), lw_t9 (List.mem_of_getElem? (i := 110) rfl), lw_t9 (List.mem_of_getElem? (i := 111) rfl)⟩
theorem lw_p99 : lw_okq (⟨"WornSkinModel", "scrapes", "(II)V"⟩, 59) := ⟨⟨by decide +kernel, by decide +kernel⟩, lw_t7 (List.mem_of_getElem? (i := 128) rfl), lw_t9 (List.mem_of_getElem? (i := 114) rfl), lw_t9 (List.mem_of_getElem? (i := 115) rfl)⟩
theorem lw_p100 : lw_okq (⟨"WornSkinModel", "gones", "()I"⟩, 59) := ⟨⟨by decide +kernel, by decide +kernel⟩, lw_t7 (List.mem_of_getElem? (i := 128) rfl), lw_t9 (List.mem_of_getElem? (i := 134) rfl), lw_t9 (List.mem_of_getElem? (i := 135) rfl)⟩
theorem lw_p101 : lw_okq (⟨"WornSkinModel", "goes", "(I)Z"⟩, 59) := ⟨⟨by decide +kernel, by decide +kernel⟩, lw_t7 (List.mem_of_getElem? (i := 128) rfl), lw_t9 (List.mem_of_getElem? (i := 138) rfl), lw_t9 (List.mem_of_getElem? (i := 139) rfl)⟩
theorem lw_p102 : lw_okq (⟨"WornSkinModel", "placeOf", "(II)I"⟩, 59) := ⟨⟨by decide +kernel, by decide +kernel⟩, lw_t7 (List.mem_of_getElem? (i := 128) rfl), lw_t9 (List.mem_of_getElem? (i := 166) rfl), lw_t9 (List.mem_of_getElem? (i := 167) rfl)⟩
theorem lw_p103 : lw_okq (⟨"WornSkinModel", "costBy", "(III)I"⟩, 59) := ⟨⟨by decide +kernel, by decide +kernel⟩, lw_t7 (List.mem_of_getElem? (i := 128) rfl), lw_t9 (List.mem_of_getElem? (i := 174) rfl), lw_t9 (List.mem_of_getElem? (i := 175) rfl)⟩
theorem lw_p104 : lw_okq (⟨"WornSkinModel", "writesAll", "(II)V"⟩, 59) := ⟨⟨by decide +kernel, by decide +kernel⟩, lw_t7 (List.mem_of_getElem? (i := 128) rfl), lw_t9 (List.mem_of_getElem? (i := 183) rfl), lw_t9 (List.mem_of_getElem? (i := 184) rfl)⟩
theorem lw_p105 : lw_okq (⟨"WornSkinModel", "unwrites", "(III)V"⟩, 59) := ⟨⟨by decide +kernel, by decide +kernel⟩, lw_t7 (List.mem_of_getElem? (i := 128) rfl), lw_t9 (List.mem_of_getElem? (i := 187) rfl), lw_t9 (List.mem_of_getElem? (i := 188) rfl)⟩
theorem lw_p106 : lw_okq (⟨"WornSkinModel", "livesWeek", "()Z"⟩, 59) := ⟨⟨by decide +kernel, by decide +kernel⟩, lw_t7 (List.mem_of_getElem? (i := 128) rfl), lw_t10 (List.mem_of_getElem? (i := 6) rfl), lw_t10 (List.mem_of_getElem? (i := 7) rfl)⟩
theorem lw_p107 : lw_okq (⟨"WornSkinModel", "draws", "(I)I"⟩, 59) := ⟨⟨by decide +kernel, by decide +kernel⟩, lw_t7 (List.mem_of_getElem? (i := 128) rfl), lw_t10 (List.mem_of_getElem? (i := 10) rfl), lw_t10 (List.mem_of_getElem? (i := 11) rfl)⟩
theorem lw_p108 : lw_okq (⟨"WornSkinModel", "allThick", "()I"⟩, 59) := ⟨⟨by decide +kernel, by decide +kernel⟩, lw_t7 (List.mem_of_getElem? (i := 128) rfl), lw_t10 (List.mem_of_getElem? (i := 18) rfl), lw_t10 (List.mem_of_getElem? (i := 19) rfl)⟩
theorem lw_p109 : lw_okq (⟨"WornSkinModel", "laysSeen", "(II)V"⟩, 59) := ⟨⟨by decide +kernel, by decide +kernel⟩, lw_t7 (List.mem_of_getElem? (i := 128) rfl), lw_t10 (List.mem_of_getElem? (i := 26) rfl), lw_t10 (List.mem_of_getElem? (i := 27) rfl)⟩
theorem lw_p110 : lw_okq (⟨"WornSkinModel", "allLayers", "()I"⟩, 59) := ⟨⟨by decide +kernel, by decide +kernel⟩, lw_t7 (List.mem_of_getElem? (i := 128) rfl), lw_t10 (List.mem_of_getElem? (i := 34) rfl), lw_t10 (List.mem_of_getElem? (i := 35) rfl)⟩
def lw_privs_7 : List (MethodName × Nat) := [(⟨"WornSkinModel", "writes", "(III)V"⟩, 59), (⟨"WornSkinModel", "scrapesNow", "(II)I"⟩, 59), (⟨"WornSkinModel", "scrapedBy", "(II)I"⟩, 59), (⟨"WornSkinModel", "scrapes", "(II)V"⟩, 59), (⟨"WornSkinModel", "gones", "()I"⟩, 59), (⟨"WornSkinModel", "goes", "(I)Z"⟩, 59), (⟨"WornSkinModel", "placeOf", "(II)I"⟩, 59), (⟨"WornSkinModel", "costBy", "(III)I"⟩, 59), (⟨"WornSkinModel", "writesAll", "(II)V"⟩, 59), (⟨"WornSkinModel", "unwrites", "(III)V"⟩, 59), (⟨"WornSkinModel", "livesWeek", "()Z"⟩, 59), (⟨"WornSkinModel", "draws", "(I)I"⟩, 59), (⟨"WornSkinModel", "allThick", "()I"⟩, 59), (⟨"WornSkinModel", "laysSeen", "(II)V"⟩, 59), (⟨"WornSkinModel", "allLayers", "()I"⟩, 59)]
theorem lw_r7 : ∀ q ∈ lw_privs_7, lw_okq q := List.forall_mem_cons.mpr ⟨lw_p96, List.forall_mem_cons.mpr ⟨lw_p97, List.forall_mem_cons.mpr ⟨lw_p98, List.forall_mem_cons.mpr ⟨lw_p99, List.forall_mem_cons.mpr ⟨lw_p100, List.forall_mem_cons.mpr ⟨lw_p101, List.forall_mem_cons.mpr ⟨lw_p102, List.forall_mem_cons.mpr ⟨lw_p103, List.forall_mem_cons.mpr ⟨lw_p104, List.forall_mem_cons.mpr ⟨lw_p105, List.forall_mem_cons.mpr ⟨lw_p106, List.forall_mem_cons.mpr ⟨lw_p107, List.forall_mem_cons.mpr ⟨lw_p108, List.forall_mem_cons.mpr ⟨lw_p109, List.forall_mem_cons.mpr ⟨lw_p110, fun _ h => absurd h List.not_mem_nil⟩⟩⟩⟩⟩⟩⟩⟩⟩⟩⟩⟩⟩⟩⟩
def lw_privs : List (MethodName × Nat) := lw_privs_1 ++ (lw_privs_2 ++ (lw_privs_3 ++ (lw_privs_4 ++ (lw_privs_5 ++ (lw_privs_6 ++ (lw_privs_7))))))
def lw_tbl : List Cond := k2_sels lw_privs ++ tables_1
theorem lw_privs_ok : ∀ q ∈ lw_privs, lw_okq q := by
  show ∀ q ∈ lw_privs_1 ++ (lw_privs_2 ++ (lw_privs_3 ++ (lw_privs_4 ++ (lw_privs_5 ++ (lw_privs_6 ++ (lw_privs_7)))))), lw_okq q
  exact List.forall_mem_append.mpr ⟨lw_r1, List.forall_mem_append.mpr ⟨lw_r2, List.forall_mem_append.mpr ⟨lw_r3, List.forall_mem_append.mpr ⟨lw_r4, List.forall_mem_append.mpr ⟨lw_r5, List.forall_mem_append.mpr ⟨lw_r6, lw_r7⟩⟩⟩⟩⟩⟩
-- ===== ONE list of words for every method: the tables' words that hold all through a run =====
def lw_all : List Cond := lw_tbl.filter goodWord
/-- a word of the tables by its place: claim/WORDS.tsv -/
theorem lw_w {w : Cond} (i : Nat) (h : lw_tbl[i]? = some w) (g : goodWord w = true) : w ∈ lw_all := List.mem_filter.mpr ⟨List.mem_of_getElem? h, g⟩
theorem lw_all_tbl {w : Cond} (h : w ∈ lw_all) : w ∈ lw_tbl := (List.mem_filter.mp h).1
theorem lw_self : GoodIn lw_all lw_all := fun w h => ⟨h, good_of_word (List.mem_filter.mp h).2⟩
/-- a class's field words, by their places -/
theorem lw_in (ws : List Cond) (ps : List Nat) (hp : ws = ps.filterMap (fun i => lw_tbl[i]?)) (hg : ws.all goodWord = true) : ∀ w ∈ ws, w ∈ lw_all := by
  intro w h
  have h1 := List.all_eq_true.mp hg w h
  rw [hp] at h
  obtain ⟨i, -, hi⟩ := List.mem_filterMap.mp h
  exact lw_w i hi h1
/-- the words of a contract for the method y with code b, L locals, answer r -/
abbrev ws_ (y : MethodName) (b : ByteArray) (L : Nat) (r : Option FieldType) : List Cond := Cond.code y b L r :: lw_all
theorem lw_meth {y : MethodName} {b : ByteArray} {L : Nat} {r : Option FieldType} (h : Cond.code y b L r ∈ lw_all) : GoodIn lw_all (ws_ y b L r) := by
  intro w hw
  rcases List.mem_cons.mp hw with e | e
  · rw [e]
    exact lw_self _ h
  · exact lw_self _ e
theorem lw_app {a c : List Cond} (ha : ∀ w ∈ a, w ∈ lw_all) (hc : GoodIn lw_all c) : GoodIn lw_all (a ++ c) := by
  intro w hw
  rcases List.mem_append.mp hw with e | e
  · exact lw_self w (ha w e)
  · exact hc w e
/-- what a call through an object asks: cwV n hts (lw_V ..) -/
theorem lw_V {own : String} {idx : Nat} {C : String} {y : MethodName} {b : ByteArray} {L : Nat} {r : Option FieldType} (h1 : Cond.methodLink own idx y ∈ lw_all) (h2 : Cond.instanceMethod y ∈ lw_all) (h3 : Cond.selects C y y ∈ lw_all) (h4 : Cond.initialized C ∈ lw_all) (h5 : Cond.code y b L r ∈ lw_all) : GoodIn lw_all (wsV own idx C y (ws_ y b L r)) := by
  refine lw_app ?_ (lw_meth h5)
  intro w hw
  simp only [List.mem_cons, List.not_mem_nil, or_false] at hw
  rcases hw with e | e | e | e
  · rw [e]; exact h1
  · rw [e]; exact h2
  · rw [e]; exact h3
  · rw [e]; exact h4
/-- what a static call asks: va_cwS n hts (lw_S ..) -/
theorem lw_S {own : String} {idx : Nat} {y : MethodName} {b : ByteArray} {L : Nat} {r : Option FieldType} (h1 : Cond.methodLink own idx y ∈ lw_all) (h2 : Cond.static y ∈ lw_all) (h3 : Cond.initialized y.cls ∈ lw_all) (h4 : Cond.code y b L r ∈ lw_all) : GoodIn lw_all (va_wsS own idx y (ws_ y b L r)) := by
  refine lw_app ?_ (lw_meth h4)
  intro w hw
  simp only [List.mem_cons, List.not_mem_nil, or_false] at hw
  rcases hw with e | e | e
  · rw [e]; exact h1
  · rw [e]; exact h2
  · rw [e]; exact h3
/-- the words of a contract for a method WITH HANDLERS (hh: its table) -/
abbrev wsW_ (y : MethodName) (b : ByteArray) (L : Nat) (r : Option FieldType) (hh : List (Nat × Nat × Nat × Nat)) : List Cond := Cond.codeWith y b L r hh :: lw_all
theorem lw_methW {y : MethodName} {b : ByteArray} {L : Nat} {r : Option FieldType} {hh : List (Nat × Nat × Nat × Nat)} (h : Cond.codeWith y b L r hh ∈ lw_all) : GoodIn lw_all (wsW_ y b L r hh) := by
  intro w hw
  rcases List.mem_cons.mp hw with e | e
  · rw [e]
    exact lw_self _ h
  · exact lw_self _ e
/-- any list of words by their places (lw_in), good -/
theorem lw_good {ws : List Cond} (h : ∀ w ∈ ws, w ∈ lw_all) : GoodIn lw_all ws := fun w hw => lw_self w (h w hw)
/-- what a call of a method with handlers asks: vx_cwVW n hts (lw_VW ..), vx_cwSW n hts (lw_SW ..) -/
theorem lw_VW {own : String} {idx : Nat} {C : String} {y : MethodName} {b : ByteArray} {L : Nat} {r : Option FieldType} {hh : List (Nat × Nat × Nat × Nat)} (h1 : Cond.methodLink own idx y ∈ lw_all) (h2 : Cond.instanceMethod y ∈ lw_all) (h3 : Cond.selects C y y ∈ lw_all) (h4 : Cond.initialized C ∈ lw_all) (h5 : Cond.codeWith y b L r hh ∈ lw_all) : GoodIn lw_all (wsV own idx C y (wsW_ y b L r hh)) := by
  refine lw_app ?_ (lw_methW h5)
  intro w hw
  simp only [List.mem_cons, List.not_mem_nil, or_false] at hw
  rcases hw with e | e | e | e
  · rw [e]; exact h1
  · rw [e]; exact h2
  · rw [e]; exact h3
  · rw [e]; exact h4
theorem lw_SW {own : String} {idx : Nat} {y : MethodName} {b : ByteArray} {L : Nat} {r : Option FieldType} {hh : List (Nat × Nat × Nat × Nat)} (h1 : Cond.methodLink own idx y ∈ lw_all) (h2 : Cond.static y ∈ lw_all) (h3 : Cond.initialized y.cls ∈ lw_all) (h4 : Cond.codeWith y b L r hh ∈ lw_all) : GoodIn lw_all (va_wsS own idx y (wsW_ y b L r hh)) := by
  refine lw_app ?_ (lw_methW h4)
  intro w hw
  simp only [List.mem_cons, List.not_mem_nil, or_false] at hw
  rcases hw with e | e | e
  · rw [e]; exact h1
  · rw [e]; exact h2
  · rw [e]; exact h3
/-- a word by its place in its run of the tables -/
theorem lw_at {r : List Cond} (hr : ∀ w ∈ r, w ∈ lw_tbl) {w : Cond} (i : Nat) (h : r[i]? = some w) : w ∈ lw_tbl := hr w (List.mem_of_getElem? h)
theorem lw_g {w : Cond} (h : w ∈ lw_tbl) (g : goodWord w = true) : w ∈ lw_all := List.mem_filter.mpr ⟨h, g⟩
theorem lw_ms : ∀ w ∈ k2_sels lw_privs, w ∈ lw_tbl := fun w h => show w ∈ k2_sels lw_privs ++ tables_1 from List.mem_append_left _ h
theorem lw_m1 : ∀ w ∈ tables_1_1, w ∈ lw_tbl := fun w h => show w ∈ k2_sels lw_privs ++ tables_1 from List.mem_append_right (k2_sels lw_privs) (show w ∈ tables_1 from List.mem_append_left _ h)
theorem lw_m2 : ∀ w ∈ tables_1_2, w ∈ lw_tbl := fun w h => show w ∈ k2_sels lw_privs ++ tables_1 from List.mem_append_right (k2_sels lw_privs) (show w ∈ tables_1 from List.mem_append_right _ (List.mem_append_left _ h))
theorem lw_m3 : ∀ w ∈ tables_1_3, w ∈ lw_tbl := fun w h => show w ∈ k2_sels lw_privs ++ tables_1 from List.mem_append_right (k2_sels lw_privs) (show w ∈ tables_1 from List.mem_append_right _ (List.mem_append_right _ (List.mem_append_left _ h)))
theorem lw_m4 : ∀ w ∈ tables_1_4, w ∈ lw_tbl := fun w h => show w ∈ k2_sels lw_privs ++ tables_1 from List.mem_append_right (k2_sels lw_privs) (show w ∈ tables_1 from List.mem_append_right _ (List.mem_append_right _ (List.mem_append_right _ (List.mem_append_left _ h))))
theorem lw_m5 : ∀ w ∈ tables_1_5, w ∈ lw_tbl := fun w h => show w ∈ k2_sels lw_privs ++ tables_1 from List.mem_append_right (k2_sels lw_privs) (show w ∈ tables_1 from List.mem_append_right _ (List.mem_append_right _ (List.mem_append_right _ (List.mem_append_right _ (List.mem_append_left _ h)))))
theorem lw_m6 : ∀ w ∈ tables_1_6, w ∈ lw_tbl := fun w h => show w ∈ k2_sels lw_privs ++ tables_1 from List.mem_append_right (k2_sels lw_privs) (show w ∈ tables_1 from List.mem_append_right _ (List.mem_append_right _ (List.mem_append_right _ (List.mem_append_right _ (List.mem_append_right _ (List.mem_append_left _ h))))))
theorem lw_m7 : ∀ w ∈ tables_1_7, w ∈ lw_tbl := fun w h => show w ∈ k2_sels lw_privs ++ tables_1 from List.mem_append_right (k2_sels lw_privs) (show w ∈ tables_1 from List.mem_append_right _ (List.mem_append_right _ (List.mem_append_right _ (List.mem_append_right _ (List.mem_append_right _ (List.mem_append_right _ (List.mem_append_left _ h)))))))
theorem lw_m8 : ∀ w ∈ tables_1_8, w ∈ lw_tbl := fun w h => show w ∈ k2_sels lw_privs ++ tables_1 from List.mem_append_right (k2_sels lw_privs) (show w ∈ tables_1 from List.mem_append_right _ (List.mem_append_right _ (List.mem_append_right _ (List.mem_append_right _ (List.mem_append_right _ (List.mem_append_right _ (List.mem_append_right _ (List.mem_append_left _ h))))))))
theorem lw_m9 : ∀ w ∈ tables_1_9, w ∈ lw_tbl := fun w h => show w ∈ k2_sels lw_privs ++ tables_1 from List.mem_append_right (k2_sels lw_privs) (show w ∈ tables_1 from List.mem_append_right _ (List.mem_append_right _ (List.mem_append_right _ (List.mem_append_right _ (List.mem_append_right _ (List.mem_append_right _ (List.mem_append_right _ (List.mem_append_right _ (List.mem_append_left _ h)))))))))
theorem lw_m10 : ∀ w ∈ tables_1_10, w ∈ lw_tbl := fun w h => show w ∈ k2_sels lw_privs ++ tables_1 from List.mem_append_right (k2_sels lw_privs) (show w ∈ tables_1 from List.mem_append_right _ (List.mem_append_right _ (List.mem_append_right _ (List.mem_append_right _ (List.mem_append_right _ (List.mem_append_right _ (List.mem_append_right _ (List.mem_append_right _ (List.mem_append_right _ h)))))))))
theorem qs0 : (Cond.selects "WornSkin$Shelf" ⟨"WornSkin$Shelf", "clears", "(I)V"⟩ ⟨"WornSkin$Shelf", "clears", "(I)V"⟩) ∈ lw_all := lw_g (lw_at lw_ms 0 rfl) rfl
theorem qs1 : (Cond.selects "WornSkin$Reader" ⟨"WornSkin$Reader", "cut", "()V"⟩ ⟨"WornSkin$Reader", "cut", "()V"⟩) ∈ lw_all := lw_g (lw_at lw_ms 1 rfl) rfl
theorem qs2 : (Cond.selects "WornSkin$Reader" ⟨"WornSkin$Reader", "isWord", "(Ljava/lang/String;)Z"⟩ ⟨"WornSkin$Reader", "isWord", "(Ljava/lang/String;)Z"⟩) ∈ lw_all := lw_g (lw_at lw_ms 2 rfl) rfl
theorem qs3 : (Cond.selects "WornSkin$Reader" ⟨"WornSkin$Reader", "skin", "()V"⟩ ⟨"WornSkin$Reader", "skin", "()V"⟩) ∈ lw_all := lw_g (lw_at lw_ms 3 rfl) rfl
theorem qs4 : (Cond.selects "WornSkin$Reader" ⟨"WornSkin$Reader", "newName", "(ZI)V"⟩ ⟨"WornSkin$Reader", "newName", "(ZI)V"⟩) ∈ lw_all := lw_g (lw_at lw_ms 4 rfl) rfl
theorem qs5 : (Cond.selects "WornSkin$Reader" ⟨"WornSkin$Reader", "wrong", "(I)LWornSkin$Wrong;"⟩ ⟨"WornSkin$Reader", "wrong", "(I)LWornSkin$Wrong;"⟩) ∈ lw_all := lw_g (lw_at lw_ms 5 rfl) rfl
theorem qs6 : (Cond.selects "java/lang/Throwable" ⟨"java/lang/Throwable", "fillInStackTrace", "(I)Ljava/lang/Throwable;"⟩ ⟨"java/lang/Throwable", "fillInStackTrace", "(I)Ljava/lang/Throwable;"⟩) ∈ lw_all := lw_g (lw_at lw_ms 6 rfl) rfl
theorem qs7 : (Cond.selects "WornSkin$Reader" ⟨"WornSkin$Reader", "isName", "()Z"⟩ ⟨"WornSkin$Reader", "isName", "()Z"⟩) ∈ lw_all := lw_g (lw_at lw_ms 7 rfl) rfl
theorem qs8 : (Cond.selects "WornSkin$Reader" ⟨"WornSkin$Reader", "which", "([Ljava/lang/String;)I"⟩ ⟨"WornSkin$Reader", "which", "([Ljava/lang/String;)I"⟩) ∈ lw_all := lw_g (lw_at lw_ms 8 rfl) rfl
theorem qs9 : (Cond.selects "java/util/ArrayList" ⟨"java/util/ArrayList", "add", "(Ljava/lang/Object;[Ljava/lang/Object;I)V"⟩ ⟨"java/util/ArrayList", "add", "(Ljava/lang/Object;[Ljava/lang/Object;I)V"⟩) ∈ lw_all := lw_g (lw_at lw_ms 9 rfl) rfl
theorem qs10 : (Cond.selects "java/util/ArrayList" ⟨"java/util/ArrayList", "grow", "()[Ljava/lang/Object;"⟩ ⟨"java/util/ArrayList", "grow", "()[Ljava/lang/Object;"⟩) ∈ lw_all := lw_g (lw_at lw_ms 10 rfl) rfl
theorem qs11 : (Cond.selects "java/util/ArrayList" ⟨"java/util/ArrayList", "grow", "(I)[Ljava/lang/Object;"⟩ ⟨"java/util/ArrayList", "grow", "(I)[Ljava/lang/Object;"⟩) ∈ lw_all := lw_g (lw_at lw_ms 11 rfl) rfl
theorem qs12 : (Cond.selects "WornSkin$Reader" ⟨"WornSkin$Reader", "number", "(Ljava/lang/String;II)I"⟩ ⟨"WornSkin$Reader", "number", "(Ljava/lang/String;II)I"⟩) ∈ lw_all := lw_g (lw_at lw_ms 12 rfl) rfl
theorem qs13 : (Cond.selects "WornSkin$Reader" ⟨"WornSkin$Reader", "takeWord", "(Ljava/lang/String;)V"⟩ ⟨"WornSkin$Reader", "takeWord", "(Ljava/lang/String;)V"⟩) ∈ lw_all := lw_g (lw_at lw_ms 13 rfl) rfl
theorem qs14 : (Cond.selects "WornSkin$Reader" ⟨"WornSkin$Reader", "hasWord", "(Ljava/lang/String;)Z"⟩ ⟨"WornSkin$Reader", "hasWord", "(Ljava/lang/String;)Z"⟩) ∈ lw_all := lw_g (lw_at lw_ms 14 rfl) rfl
theorem qs15 : (Cond.selects "WornSkin$Reader" ⟨"WornSkin$Reader", "number", "(II)I"⟩ ⟨"WornSkin$Reader", "number", "(II)I"⟩) ∈ lw_all := lw_g (lw_at lw_ms 15 rfl) rfl
theorem qs16 : (Cond.selects "WornSkin$Reader" ⟨"WornSkin$Reader", "hole", "()V"⟩ ⟨"WornSkin$Reader", "hole", "()V"⟩) ∈ lw_all := lw_g (lw_at lw_ms 16 rfl) rfl
theorem qs17 : (Cond.selects "WornSkin$Reader" ⟨"WornSkin$Reader", "told", "(I)I"⟩ ⟨"WornSkin$Reader", "told", "(I)I"⟩) ∈ lw_all := lw_g (lw_at lw_ms 17 rfl) rfl
theorem qs18 : (Cond.selects "WornSkin$Reader" ⟨"WornSkin$Reader", "text", "()V"⟩ ⟨"WornSkin$Reader", "text", "()V"⟩) ∈ lw_all := lw_g (lw_at lw_ms 18 rfl) rfl
theorem qs19 : (Cond.selects "WornSkin$Reader" ⟨"WornSkin$Reader", "one", "([Ljava/lang/String;)I"⟩ ⟨"WornSkin$Reader", "one", "([Ljava/lang/String;)I"⟩) ∈ lw_all := lw_g (lw_at lw_ms 19 rfl) rfl
theorem qs20 : (Cond.selects "WornSkin$Reader" ⟨"WornSkin$Reader", "damp", "()V"⟩ ⟨"WornSkin$Reader", "damp", "()V"⟩) ∈ lw_all := lw_g (lw_at lw_ms 20 rfl) rfl
theorem qs21 : (Cond.selects "WornSkin$Reader" ⟨"WornSkin$Reader", "shows", "()V"⟩ ⟨"WornSkin$Reader", "shows", "()V"⟩) ∈ lw_all := lw_g (lw_at lw_ms 21 rfl) rfl
theorem qs22 : (Cond.selects "WornSkin$Reader" ⟨"WornSkin$Reader", "whole", "()LWornSkin$Expression;"⟩ ⟨"WornSkin$Reader", "whole", "()LWornSkin$Expression;"⟩) ∈ lw_all := lw_g (lw_at lw_ms 22 rfl) rfl
theorem qs23 : (Cond.selects "WornSkin$Reader" ⟨"WornSkin$Reader", "all", "()LWornSkin$Expression;"⟩ ⟨"WornSkin$Reader", "all", "()LWornSkin$Expression;"⟩) ∈ lw_all := lw_g (lw_at lw_ms 23 rfl) rfl
theorem qs24 : (Cond.selects "WornSkin$Reader" ⟨"WornSkin$Reader", "test", "()LWornSkin$Expression;"⟩ ⟨"WornSkin$Reader", "test", "()LWornSkin$Expression;"⟩) ∈ lw_all := lw_g (lw_at lw_ms 24 rfl) rfl
theorem qs25 : (Cond.selects "WornSkin$Reader" ⟨"WornSkin$Reader", "sum", "()LWornSkin$Expression;"⟩ ⟨"WornSkin$Reader", "sum", "()LWornSkin$Expression;"⟩) ∈ lw_all := lw_g (lw_at lw_ms 25 rfl) rfl
theorem qs26 : (Cond.selects "WornSkin$Reader" ⟨"WornSkin$Reader", "term", "()LWornSkin$Expression;"⟩ ⟨"WornSkin$Reader", "term", "()LWornSkin$Expression;"⟩) ∈ lw_all := lw_g (lw_at lw_ms 26 rfl) rfl
theorem qs27 : (Cond.selects "WornSkin$Reader" ⟨"WornSkin$Reader", "part", "()LWornSkin$Expression;"⟩ ⟨"WornSkin$Reader", "part", "()LWornSkin$Expression;"⟩) ∈ lw_all := lw_g (lw_at lw_ms 27 rfl) rfl
theorem qs28 : (Cond.selects "WornSkin$Reader" ⟨"WornSkin$Reader", "isSign", "(I)Z"⟩ ⟨"WornSkin$Reader", "isSign", "(I)Z"⟩) ∈ lw_all := lw_g (lw_at lw_ms 28 rfl) rfl
theorem qs29 : (Cond.selects "WornSkin$Reader" ⟨"WornSkin$Reader", "sign", "(I)V"⟩ ⟨"WornSkin$Reader", "sign", "(I)V"⟩) ∈ lw_all := lw_g (lw_at lw_ms 29 rfl) rfl
theorem qs30 : (Cond.selects "WornSkin$Reader" ⟨"WornSkin$Reader", "hasSign", "(I)Z"⟩ ⟨"WornSkin$Reader", "hasSign", "(I)Z"⟩) ∈ lw_all := lw_g (lw_at lw_ms 30 rfl) rfl
theorem qs31 : (Cond.selects "WornSkin" ⟨"WornSkin", "now", "()LWornSkin$Library;"⟩ ⟨"WornSkin", "now", "()LWornSkin$Library;"⟩) ∈ lw_all := lw_g (lw_at lw_ms 31 rfl) rfl
theorem qs32 : (Cond.selects "WornSkin$Reader" ⟨"WornSkin$Reader", "line", "(I)LWornSkin$Line;"⟩ ⟨"WornSkin$Reader", "line", "(I)LWornSkin$Line;"⟩) ∈ lw_all := lw_g (lw_at lw_ms 32 rfl) rfl
theorem qs33 : (Cond.selects "WornSkin" ⟨"WornSkin", "isSkin", "(I)Z"⟩ ⟨"WornSkin", "isSkin", "(I)Z"⟩) ∈ lw_all := lw_g (lw_at lw_ms 33 rfl) rfl
theorem qs34 : (Cond.selects "WornSkin" ⟨"WornSkin", "skins", "()I"⟩ ⟨"WornSkin", "skins", "()I"⟩) ∈ lw_all := lw_g (lw_at lw_ms 34 rfl) rfl
theorem qs35 : (Cond.selects "WornSkin" ⟨"WornSkin", "readIn", "(I)I"⟩ ⟨"WornSkin", "readIn", "(I)I"⟩) ∈ lw_all := lw_g (lw_at lw_ms 35 rfl) rfl
theorem qs36 : (Cond.selects "WornSkin" ⟨"WornSkin", "isText", "(I)Z"⟩ ⟨"WornSkin", "isText", "(I)Z"⟩) ∈ lw_all := lw_g (lw_at lw_ms 36 rfl) rfl
theorem qs37 : (Cond.selects "WornSkin" ⟨"WornSkin", "texts", "()I"⟩ ⟨"WornSkin", "texts", "()I"⟩) ∈ lw_all := lw_g (lw_at lw_ms 37 rfl) rfl
theorem qs38 : (Cond.selects "WornSkin" ⟨"WornSkin", "made", "(II)I"⟩ ⟨"WornSkin", "made", "(II)I"⟩) ∈ lw_all := lw_g (lw_at lw_ms 38 rfl) rfl
theorem qs39 : (Cond.selects "WornSkin" ⟨"WornSkin", "isLine", "(II)Z"⟩ ⟨"WornSkin", "isLine", "(II)Z"⟩) ∈ lw_all := lw_g (lw_at lw_ms 39 rfl) rfl
theorem qs40 : (Cond.selects "WornSkin" ⟨"WornSkin", "keep", "()V"⟩ ⟨"WornSkin", "keep", "()V"⟩) ∈ lw_all := lw_g (lw_at lw_ms 40 rfl) rfl
theorem qs41 : (Cond.selects "java/util/ArrayList" ⟨"java/util/ArrayList", "fastRemove", "([Ljava/lang/Object;I)V"⟩ ⟨"java/util/ArrayList", "fastRemove", "([Ljava/lang/Object;I)V"⟩) ∈ lw_all := lw_g (lw_at lw_ms 41 rfl) rfl
theorem qs42 : (Cond.selects "WornSkin" ⟨"WornSkin", "scrapes", "(IZ)I"⟩ ⟨"WornSkin", "scrapes", "(IZ)I"⟩) ∈ lw_all := lw_g (lw_at lw_ms 42 rfl) rfl
theorem qs43 : (Cond.selects "WornSkin$Shelf" ⟨"WornSkin$Shelf", "about", "(IZ)I"⟩ ⟨"WornSkin$Shelf", "about", "(IZ)I"⟩) ∈ lw_all := lw_g (lw_at lw_ms 43 rfl) rfl
theorem qs44 : (Cond.selects "WornSkin" ⟨"WornSkin", "isLayer", "(I)Z"⟩ ⟨"WornSkin", "isLayer", "(I)Z"⟩) ∈ lw_all := lw_g (lw_at lw_ms 44 rfl) rfl
theorem qs45 : (Cond.selects "WornSkin" ⟨"WornSkin", "costBy", "(IIZ)I"⟩ ⟨"WornSkin", "costBy", "(IIZ)I"⟩) ∈ lw_all := lw_g (lw_at lw_ms 45 rfl) rfl
theorem qs46 : (Cond.selects "WornSkin$Lays" ⟨"WornSkin$Lays", "goes", "(II)V"⟩ ⟨"WornSkin$Lays", "goes", "(II)V"⟩) ∈ lw_all := lw_g (lw_at lw_ms 46 rfl) rfl
theorem qs47 : (Cond.selects "WornSkin$Lays" ⟨"WornSkin$Lays", "takes", "(II)V"⟩ ⟨"WornSkin$Lays", "takes", "(II)V"⟩) ∈ lw_all := lw_g (lw_at lw_ms 47 rfl) rfl
theorem qs48 : (Cond.selects "WornSkin" ⟨"WornSkin", "isAsSeen", "(LWornSkin$Text;)Z"⟩ ⟨"WornSkin", "isAsSeen", "(LWornSkin$Text;)Z"⟩) ∈ lw_all := lw_g (lw_at lw_ms 48 rfl) rfl
theorem qs49 : (Cond.selects "WornSkin" ⟨"WornSkin", "drawsText", "()Z"⟩ ⟨"WornSkin", "drawsText", "()Z"⟩) ∈ lw_all := lw_g (lw_at lw_ms 49 rfl) rfl
theorem qs50 : (Cond.selects "WornSkin" ⟨"WornSkin", "draw", "(I)I"⟩ ⟨"WornSkin", "draw", "(I)I"⟩) ∈ lw_all := lw_g (lw_at lw_ms 50 rfl) rfl
theorem qs51 : (Cond.selects "WornSkin" ⟨"WornSkin", "layersAll", "()I"⟩ ⟨"WornSkin", "layersAll", "()I"⟩) ∈ lw_all := lw_g (lw_at lw_ms 51 rfl) rfl
theorem qs52 : (Cond.selects "WornSkinModel" ⟨"WornSkinModel", "readsAll", "()Z"⟩ ⟨"WornSkinModel", "readsAll", "()Z"⟩) ∈ lw_all := lw_g (lw_at lw_ms 52 rfl) rfl
theorem qs53 : (Cond.selects "WornSkinModel" ⟨"WornSkinModel", "begins", "()V"⟩ ⟨"WornSkinModel", "begins", "()V"⟩) ∈ lw_all := lw_g (lw_at lw_ms 53 rfl) rfl
theorem qs54 : (Cond.selects "WornSkinModel" ⟨"WornSkinModel", "nextToken", "()V"⟩ ⟨"WornSkinModel", "nextToken", "()V"⟩) ∈ lw_all := lw_g (lw_at lw_ms 54 rfl) rfl
theorem qs55 : (Cond.selects "WornSkinModel" ⟨"WornSkinModel", "signAt", "(I)I"⟩ ⟨"WornSkinModel", "signAt", "(I)I"⟩) ∈ lw_all := lw_g (lw_at lw_ms 55 rfl) rfl
theorem qs56 : (Cond.selects "WornSkinModel" ⟨"WornSkinModel", "isWord", "(J)Z"⟩ ⟨"WornSkinModel", "isWord", "(J)Z"⟩) ∈ lw_all := lw_g (lw_at lw_ms 56 rfl) rfl
theorem qs57 : (Cond.selects "WornSkinModel" ⟨"WornSkinModel", "readsSkin", "()Z"⟩ ⟨"WornSkinModel", "readsSkin", "()Z"⟩) ∈ lw_all := lw_g (lw_at lw_ms 57 rfl) rfl
theorem qs58 : (Cond.selects "WornSkinModel" ⟨"WornSkinModel", "fails", "(I)Z"⟩ ⟨"WornSkinModel", "fails", "(I)Z"⟩) ∈ lw_all := lw_g (lw_at lw_ms 58 rfl) rfl
theorem qs59 : (Cond.selects "WornSkinModel" ⟨"WornSkinModel", "needsNew", "()Z"⟩ ⟨"WornSkinModel", "needsNew", "()Z"⟩) ∈ lw_all := lw_g (lw_at lw_ms 59 rfl) rfl
theorem qs60 : (Cond.selects "WornSkinModel" ⟨"WornSkinModel", "isKept", "()Z"⟩ ⟨"WornSkinModel", "isKept", "()Z"⟩) ∈ lw_all := lw_g (lw_at lw_ms 60 rfl) rfl
theorem qs61 : (Cond.selects "WornSkinModel" ⟨"WornSkinModel", "skinNamed", "(I)I"⟩ ⟨"WornSkinModel", "skinNamed", "(I)I"⟩) ∈ lw_all := lw_g (lw_at lw_ms 61 rfl) rfl
theorem qs62 : (Cond.selects "WornSkinModel" ⟨"WornSkinModel", "textNamed", "(I)I"⟩ ⟨"WornSkinModel", "textNamed", "(I)I"⟩) ∈ lw_all := lw_g (lw_at lw_ms 62 rfl) rfl
theorem qs63 : (Cond.selects "WornSkinModel" ⟨"WornSkinModel", "needsBoth", "(JII)Z"⟩ ⟨"WornSkinModel", "needsBoth", "(JII)Z"⟩) ∈ lw_all := lw_g (lw_at lw_ms 63 rfl) rfl
theorem qs64 : (Cond.selects "WornSkinModel" ⟨"WornSkinModel", "needsNumber", "(II)Z"⟩ ⟨"WornSkinModel", "needsNumber", "(II)Z"⟩) ∈ lw_all := lw_g (lw_at lw_ms 64 rfl) rfl
theorem qs65 : (Cond.selects "WornSkinModel" ⟨"WornSkinModel", "closes", "()Z"⟩ ⟨"WornSkinModel", "closes", "()Z"⟩) ∈ lw_all := lw_g (lw_at lw_ms 65 rfl) rfl
theorem qs66 : (Cond.selects "WornSkinModel" ⟨"WornSkinModel", "isSign", "(I)Z"⟩ ⟨"WornSkinModel", "isSign", "(I)Z"⟩) ∈ lw_all := lw_g (lw_at lw_ms 66 rfl) rfl
theorem qs67 : (Cond.selects "WornSkinModel" ⟨"WornSkinModel", "readsHole", "()Z"⟩ ⟨"WornSkinModel", "readsHole", "()Z"⟩) ∈ lw_all := lw_g (lw_at lw_ms 67 rfl) rfl
theorem qs68 : (Cond.selects "WornSkinModel" ⟨"WornSkinModel", "needsSkin", "(I)Z"⟩ ⟨"WornSkinModel", "needsSkin", "(I)Z"⟩) ∈ lw_all := lw_g (lw_at lw_ms 68 rfl) rfl
theorem qs69 : (Cond.selects "WornSkinModel" ⟨"WornSkinModel", "readsText", "()Z"⟩ ⟨"WornSkinModel", "readsText", "()Z"⟩) ∈ lw_all := lw_g (lw_at lw_ms 69 rfl) rfl
theorem qs70 : (Cond.selects "WornSkinModel" ⟨"WornSkinModel", "readsDamp", "()Z"⟩ ⟨"WornSkinModel", "readsDamp", "()Z"⟩) ∈ lw_all := lw_g (lw_at lw_ms 70 rfl) rfl
theorem qs71 : (Cond.selects "WornSkinModel" ⟨"WornSkinModel", "readsShows", "()Z"⟩ ⟨"WornSkinModel", "readsShows", "()Z"⟩) ∈ lw_all := lw_g (lw_at lw_ms 71 rfl) rfl
theorem qs72 : (Cond.selects "WornSkinModel" ⟨"WornSkinModel", "reads", "()Z"⟩ ⟨"WornSkinModel", "reads", "()Z"⟩) ∈ lw_all := lw_g (lw_at lw_ms 72 rfl) rfl
theorem qs73 : (Cond.selects "WornSkinModel" ⟨"WornSkinModel", "fact", "()I"⟩ ⟨"WornSkinModel", "fact", "()I"⟩) ∈ lw_all := lw_g (lw_at lw_ms 73 rfl) rfl
theorem qs74 : (Cond.selects "WornSkinModel" ⟨"WornSkinModel", "puts", "(I)V"⟩ ⟨"WornSkinModel", "puts", "(I)V"⟩) ∈ lw_all := lw_g (lw_at lw_ms 74 rfl) rfl
theorem qs75 : (Cond.selects "WornSkinModel" ⟨"WornSkinModel", "lays", "()V"⟩ ⟨"WornSkinModel", "lays", "()V"⟩) ∈ lw_all := lw_g (lw_at lw_ms 75 rfl) rfl
theorem qs76 : (Cond.selects "WornSkinModel" ⟨"WornSkinModel", "fresh0", "()V"⟩ ⟨"WornSkinModel", "fresh0", "()V"⟩) ∈ lw_all := lw_g (lw_at lw_ms 76 rfl) rfl
theorem qs77 : (Cond.selects "WornSkinModel" ⟨"WornSkinModel", "readsLine", "()Z"⟩ ⟨"WornSkinModel", "readsLine", "()Z"⟩) ∈ lw_all := lw_g (lw_at lw_ms 77 rfl) rfl
theorem qs78 : (Cond.selects "WornSkinModel" ⟨"WornSkinModel", "needsText", "()Z"⟩ ⟨"WornSkinModel", "needsText", "()Z"⟩) ∈ lw_all := lw_g (lw_at lw_ms 78 rfl) rfl
theorem qs79 : (Cond.selects "WornSkinModel" ⟨"WornSkinModel", "laysLines", "(II)V"⟩ ⟨"WornSkinModel", "laysLines", "(II)V"⟩) ∈ lw_all := lw_g (lw_at lw_ms 79 rfl) rfl
theorem qs80 : (Cond.selects "WornSkinModel" ⟨"WornSkinModel", "isSkin", "(I)Z"⟩ ⟨"WornSkinModel", "isSkin", "(I)Z"⟩) ∈ lw_all := lw_g (lw_at lw_ms 80 rfl) rfl
theorem qs81 : (Cond.selects "WornSkinModel" ⟨"WornSkinModel", "readIn", "(II)I"⟩ ⟨"WornSkinModel", "readIn", "(II)I"⟩) ∈ lw_all := lw_g (lw_at lw_ms 81 rfl) rfl
theorem qs82 : (Cond.selects "WornSkinModel" ⟨"WornSkinModel", "dampOf", "(I)I"⟩ ⟨"WornSkinModel", "dampOf", "(I)I"⟩) ∈ lw_all := lw_g (lw_at lw_ms 82 rfl) rfl
theorem qs83 : (Cond.selects "WornSkinModel" ⟨"WornSkinModel", "readBy", "(III)I"⟩ ⟨"WornSkinModel", "readBy", "(III)I"⟩) ∈ lw_all := lw_g (lw_at lw_ms 83 rfl) rfl
theorem qs84 : (Cond.selects "WornSkinModel" ⟨"WornSkinModel", "showsBy", "(IIII)Z"⟩ ⟨"WornSkinModel", "showsBy", "(IIII)Z"⟩) ∈ lw_all := lw_g (lw_at lw_ms 84 rfl) rfl
theorem qs85 : (Cond.selects "WornSkinModel" ⟨"WornSkinModel", "worked", "(I)I"⟩ ⟨"WornSkinModel", "worked", "(I)I"⟩) ∈ lw_all := lw_g (lw_at lw_ms 85 rfl) rfl
theorem qs86 : (Cond.selects "WornSkinModel" ⟨"WornSkinModel", "opens", "(I)V"⟩ ⟨"WornSkinModel", "opens", "(I)V"⟩) ∈ lw_all := lw_g (lw_at lw_ms 86 rfl) rfl
theorem qs87 : (Cond.selects "WornSkinModel" ⟨"WornSkinModel", "sums", "(I)V"⟩ ⟨"WornSkinModel", "sums", "(I)V"⟩) ∈ lw_all := lw_g (lw_at lw_ms 87 rfl) rfl
theorem qs88 : (Cond.selects "WornSkinModel" ⟨"WornSkinModel", "tests", "(I)V"⟩ ⟨"WornSkinModel", "tests", "(I)V"⟩) ∈ lw_all := lw_g (lw_at lw_ms 88 rfl) rfl
theorem qs89 : (Cond.selects "WornSkinModel" ⟨"WornSkinModel", "isText", "(I)Z"⟩ ⟨"WornSkinModel", "isText", "(I)Z"⟩) ∈ lw_all := lw_g (lw_at lw_ms 89 rfl) rfl
theorem qs90 : (Cond.selects "WornSkinModel" ⟨"WornSkinModel", "wholeNow", "()I"⟩ ⟨"WornSkinModel", "wholeNow", "()I"⟩) ∈ lw_all := lw_g (lw_at lw_ms 90 rfl) rfl
theorem qs91 : (Cond.selects "WornSkinModel" ⟨"WornSkinModel", "wholeBy", "(I)I"⟩ ⟨"WornSkinModel", "wholeBy", "(I)I"⟩) ∈ lw_all := lw_g (lw_at lw_ms 91 rfl) rfl
theorem qs92 : (Cond.selects "WornSkinModel" ⟨"WornSkinModel", "madeOf", "(I)I"⟩ ⟨"WornSkinModel", "madeOf", "(I)I"⟩) ∈ lw_all := lw_g (lw_at lw_ms 92 rfl) rfl
theorem qs93 : (Cond.selects "WornSkinModel" ⟨"WornSkinModel", "isLine", "(II)Z"⟩ ⟨"WornSkinModel", "isLine", "(II)Z"⟩) ∈ lw_all := lw_g (lw_at lw_ms 93 rfl) rfl
theorem qs94 : (Cond.selects "WornSkinModel" ⟨"WornSkinModel", "canWrite", "(III)Z"⟩ ⟨"WornSkinModel", "canWrite", "(III)Z"⟩) ∈ lw_all := lw_g (lw_at lw_ms 94 rfl) rfl
theorem qs95 : (Cond.selects "WornSkinModel" ⟨"WornSkinModel", "keeps", "()V"⟩ ⟨"WornSkinModel", "keeps", "()V"⟩) ∈ lw_all := lw_g (lw_at lw_ms 95 rfl) rfl
theorem qs96 : (Cond.selects "WornSkinModel" ⟨"WornSkinModel", "writes", "(III)V"⟩ ⟨"WornSkinModel", "writes", "(III)V"⟩) ∈ lw_all := lw_g (lw_at lw_ms 96 rfl) rfl
theorem qs97 : (Cond.selects "WornSkinModel" ⟨"WornSkinModel", "scrapesNow", "(II)I"⟩ ⟨"WornSkinModel", "scrapesNow", "(II)I"⟩) ∈ lw_all := lw_g (lw_at lw_ms 97 rfl) rfl
theorem qs98 : (Cond.selects "WornSkinModel" ⟨"WornSkinModel", "scrapedBy", "(II)I"⟩ ⟨"WornSkinModel", "scrapedBy", "(II)I"⟩) ∈ lw_all := lw_g (lw_at lw_ms 98 rfl) rfl
theorem qs99 : (Cond.selects "WornSkinModel" ⟨"WornSkinModel", "scrapes", "(II)V"⟩ ⟨"WornSkinModel", "scrapes", "(II)V"⟩) ∈ lw_all := lw_g (lw_at lw_ms 99 rfl) rfl
theorem qs100 : (Cond.selects "WornSkinModel" ⟨"WornSkinModel", "gones", "()I"⟩ ⟨"WornSkinModel", "gones", "()I"⟩) ∈ lw_all := lw_g (lw_at lw_ms 100 rfl) rfl
theorem qs101 : (Cond.selects "WornSkinModel" ⟨"WornSkinModel", "goes", "(I)Z"⟩ ⟨"WornSkinModel", "goes", "(I)Z"⟩) ∈ lw_all := lw_g (lw_at lw_ms 101 rfl) rfl
theorem qs102 : (Cond.selects "WornSkinModel" ⟨"WornSkinModel", "placeOf", "(II)I"⟩ ⟨"WornSkinModel", "placeOf", "(II)I"⟩) ∈ lw_all := lw_g (lw_at lw_ms 102 rfl) rfl
theorem qs103 : (Cond.selects "WornSkinModel" ⟨"WornSkinModel", "costBy", "(III)I"⟩ ⟨"WornSkinModel", "costBy", "(III)I"⟩) ∈ lw_all := lw_g (lw_at lw_ms 103 rfl) rfl
theorem qs104 : (Cond.selects "WornSkinModel" ⟨"WornSkinModel", "writesAll", "(II)V"⟩ ⟨"WornSkinModel", "writesAll", "(II)V"⟩) ∈ lw_all := lw_g (lw_at lw_ms 104 rfl) rfl
theorem qs105 : (Cond.selects "WornSkinModel" ⟨"WornSkinModel", "unwrites", "(III)V"⟩ ⟨"WornSkinModel", "unwrites", "(III)V"⟩) ∈ lw_all := lw_g (lw_at lw_ms 105 rfl) rfl
theorem qs106 : (Cond.selects "WornSkinModel" ⟨"WornSkinModel", "livesWeek", "()Z"⟩ ⟨"WornSkinModel", "livesWeek", "()Z"⟩) ∈ lw_all := lw_g (lw_at lw_ms 106 rfl) rfl
theorem qs107 : (Cond.selects "WornSkinModel" ⟨"WornSkinModel", "draws", "(I)I"⟩ ⟨"WornSkinModel", "draws", "(I)I"⟩) ∈ lw_all := lw_g (lw_at lw_ms 107 rfl) rfl
theorem qs108 : (Cond.selects "WornSkinModel" ⟨"WornSkinModel", "allThick", "()I"⟩ ⟨"WornSkinModel", "allThick", "()I"⟩) ∈ lw_all := lw_g (lw_at lw_ms 108 rfl) rfl
theorem qs109 : (Cond.selects "WornSkinModel" ⟨"WornSkinModel", "laysSeen", "(II)V"⟩ ⟨"WornSkinModel", "laysSeen", "(II)V"⟩) ∈ lw_all := lw_g (lw_at lw_ms 109 rfl) rfl
theorem qs110 : (Cond.selects "WornSkinModel" ⟨"WornSkinModel", "allLayers", "()I"⟩ ⟨"WornSkinModel", "allLayers", "()I"⟩) ∈ lw_all := lw_g (lw_at lw_ms 110 rfl) rfl
-- ===== end of PART A; then your names; then what follows =====
