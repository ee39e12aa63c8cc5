-- ===== PART A: goes FIRST, ahead of the names: the tables' words, and 'selects' of the private methods out of them =====
/-- a private method of a class that the tables say can be made, by its rows of tables_1 -/
def lw_okq (q : MethodName × Nat) : Prop := (q.1.cls ≠ "java/lang/invoke/MethodHandle" ∧ q.1.cls ≠ "java/lang/invoke/VarHandle") ∧ Cond.instantiable q.1.cls q.2 ∈ tables_1 ∧ Cond.privateMethod q.1 ∈ tables_1 ∧ Cond.instanceMethod q.1 ∈ tables_1
set_option maxRecDepth 100000
theorem lw_t1 {w : Cond} (h : w ∈ tables_1_1) : w ∈ tables_1 := List.mem_append_left _ h
theorem lw_t2 {w : Cond} (h : w ∈ tables_1_2) : w ∈ tables_1 := List.mem_append_right _ (List.mem_append_left _ h)
theorem lw_t3 {w : Cond} (h : w ∈ tables_1_3) : w ∈ tables_1 := List.mem_append_right _ (List.mem_append_right _ (List.mem_append_left _ h))
theorem lw_t4 {w : Cond} (h : w ∈ tables_1_4) : w ∈ tables_1 := List.mem_append_right _ (List.mem_append_right _ (List.mem_append_right _ (List.mem_append_left _ h)))
theorem lw_t5 {w : Cond} (h : w ∈ tables_1_5) : w ∈ tables_1 := List.mem_append_right _ (List.mem_append_right _ (List.mem_append_right _ (List.mem_append_right _ (List.mem_append_left _ h))))
theorem lw_t6 {w : Cond} (h : w ∈ tables_1_6) : w ∈ tables_1 := List.mem_append_right _ (List.mem_append_right _ (List.mem_append_right _ (List.mem_append_right _ (List.mem_append_right _ (List.mem_append_left _ h)))))
theorem lw_t7 {w : Cond} (h : w ∈ tables_1_7) : w ∈ tables_1 := List.mem_append_right _ (List.mem_append_right _ (List.mem_append_right _ (List.mem_append_right _ (List.mem_append_right _ (List.mem_append_right _ (List.mem_append_left _ h))))))
theorem lw_t8 {w : Cond} (h : w ∈ tables_1_8) : w ∈ tables_1 := List.mem_append_right _ (List.mem_append_right _ (List.mem_append_right _ (List.mem_append_right _ (List.mem_append_right _ (List.mem_append_right _ (List.mem_append_right _ (List.mem_append_left _ h)))))))
theorem lw_t9 {w : Cond} (h : w ∈ tables_1_9) : w ∈ tables_1 := List.mem_append_right _ (List.mem_append_right _ (List.mem_append_right _ (List.mem_append_right _ (List.mem_append_right _ (List.mem_append_right _ (List.mem_append_right _ (List.mem_append_right _ h)))))))
theorem lw_p0 : lw_okq (⟨"java/lang/Throwable", "fillInStackTrace", "(I)Ljava/lang/Throwable;"⟩, 6) := ⟨⟨by decide +kernel, by decide +kernel⟩, lw_t1 (List.mem_of_getElem? (i := 84) rfl), lw_t1 (List.mem_of_getElem? (i := 82) rfl), lw_t1 (List.mem_of_getElem? (i := 83) rfl)⟩
theorem lw_p1 : lw_okq (⟨"NailedByWord", "isOne", "(J)Z"⟩, 47) := ⟨⟨by decide +kernel, by decide +kernel⟩, lw_t1 (List.mem_of_getElem? (i := 37) rfl), lw_t2 (List.mem_of_getElem? (i := 105) rfl), lw_t2 (List.mem_of_getElem? (i := 106) rfl)⟩
theorem lw_p2 : lw_okq (⟨"NailedByWord", "mayBe", "(IIIII)Z"⟩, 47) := ⟨⟨by decide +kernel, by decide +kernel⟩, lw_t1 (List.mem_of_getElem? (i := 37) rfl), lw_t2 (List.mem_of_getElem? (i := 109) rfl), lw_t2 (List.mem_of_getElem? (i := 110) rfl)⟩
theorem lw_p3 : lw_okq (⟨"NailedByWord", "add", "(IIIII)I"⟩, 47) := ⟨⟨by decide +kernel, by decide +kernel⟩, lw_t1 (List.mem_of_getElem? (i := 37) rfl), lw_t2 (List.mem_of_getElem? (i := 118) rfl), lw_t2 (List.mem_of_getElem? (i := 119) rfl)⟩
theorem lw_p4 : lw_okq (⟨"NailedByWord", "toldIn", "(Ljava/lang/Object;J)I"⟩, 47) := ⟨⟨by decide +kernel, by decide +kernel⟩, lw_t1 (List.mem_of_getElem? (i := 37) rfl), lw_t2 (List.mem_of_getElem? (i := 160) rfl), lw_t2 (List.mem_of_getElem? (i := 161) rfl)⟩
theorem lw_p5 : lw_okq (⟨"NailedByWord", "numberOf", "(II)LNailedByWord$Held;"⟩, 47) := ⟨⟨by decide +kernel, by decide +kernel⟩, lw_t1 (List.mem_of_getElem? (i := 37) rfl), lw_t2 (List.mem_of_getElem? (i := 171) rfl), lw_t2 (List.mem_of_getElem? (i := 172) rfl)⟩
theorem lw_p6 : lw_okq (⟨"NailedByWord", "isPromise", "(J)Z"⟩, 47) := ⟨⟨by decide +kernel, by decide +kernel⟩, lw_t1 (List.mem_of_getElem? (i := 37) rfl), lw_t2 (List.mem_of_getElem? (i := 176) rfl), lw_t2 (List.mem_of_getElem? (i := 177) rfl)⟩
theorem lw_p7 : lw_okq (⟨"NailedByWord", "become", "(LNailedByWord$Held;I)I"⟩, 47) := ⟨⟨by decide +kernel, by decide +kernel⟩, lw_t1 (List.mem_of_getElem? (i := 37) rfl), lw_t2 (List.mem_of_getElem? (i := 183) rfl), lw_t2 (List.mem_of_getElem? (i := 184) rfl)⟩
theorem lw_p8 : lw_okq (⟨"NailedByWord", "readLaw", "()LNailedByWord$Line;"⟩, 47) := ⟨⟨by decide +kernel, by decide +kernel⟩, lw_t1 (List.mem_of_getElem? (i := 37) rfl), lw_t2 (List.mem_of_getElem? (i := 195) rfl), lw_t2 (List.mem_of_getElem? (i := 196) rfl)⟩
theorem lw_p9 : lw_okq (⟨"NailedByWord", "readLine", "()LNailedByWord$Line;"⟩, 47) := ⟨⟨by decide +kernel, by decide +kernel⟩, lw_t1 (List.mem_of_getElem? (i := 37) rfl), lw_t2 (List.mem_of_getElem? (i := 199) rfl), lw_t2 (List.mem_of_getElem? (i := 200) rfl)⟩
theorem lw_p10 : lw_okq (⟨"NailedByWord", "readEither", "()LNailedByWord$Term;"⟩, 47) := ⟨⟨by decide +kernel, by decide +kernel⟩, lw_t1 (List.mem_of_getElem? (i := 37) rfl), lw_t2 (List.mem_of_getElem? (i := 219) rfl), lw_t2 (List.mem_of_getElem? (i := 220) rfl)⟩
theorem lw_p11 : lw_okq (⟨"NailedByWord", "readAll", "()LNailedByWord$Term;"⟩, 47) := ⟨⟨by decide +kernel, by decide +kernel⟩, lw_t1 (List.mem_of_getElem? (i := 37) rfl), lw_t2 (List.mem_of_getElem? (i := 223) rfl), lw_t2 (List.mem_of_getElem? (i := 224) rfl)⟩
theorem lw_p12 : lw_okq (⟨"NailedByWord", "readLike", "()LNailedByWord$Term;"⟩, 47) := ⟨⟨by decide +kernel, by decide +kernel⟩, lw_t1 (List.mem_of_getElem? (i := 37) rfl), lw_t2 (List.mem_of_getElem? (i := 227) rfl), lw_t2 (List.mem_of_getElem? (i := 228) rfl)⟩
theorem lw_p13 : lw_okq (⟨"NailedByWord", "readPlus", "()LNailedByWord$Term;"⟩, 47) := ⟨⟨by decide +kernel, by decide +kernel⟩, lw_t1 (List.mem_of_getElem? (i := 37) rfl), lw_t2 (List.mem_of_getElem? (i := 231) rfl), lw_t2 (List.mem_of_getElem? (i := 232) rfl)⟩
theorem lw_p14 : lw_okq (⟨"NailedByWord", "readTimes", "()LNailedByWord$Term;"⟩, 47) := ⟨⟨by decide +kernel, by decide +kernel⟩, lw_t1 (List.mem_of_getElem? (i := 37) rfl), lw_t2 (List.mem_of_getElem? (i := 235) rfl), lw_t2 (List.mem_of_getElem? (i := 236) rfl)⟩
theorem lw_p15 : lw_okq (⟨"NailedByWord", "readOne", "()LNailedByWord$Term;"⟩, 47) := ⟨⟨by decide +kernel, by decide +kernel⟩, lw_t1 (List.mem_of_getElem? (i := 37) rfl), lw_t2 (List.mem_of_getElem? (i := 239) rfl), lw_t3 (List.mem_of_getElem? (i := 0) rfl)⟩
def lw_privs_1 : List (MethodName × Nat) := [(⟨"java/lang/Throwable", "fillInStackTrace", "(I)Ljava/lang/Throwable;"⟩, 6), (⟨"NailedByWord", "isOne", "(J)Z"⟩, 47), (⟨"NailedByWord", "mayBe", "(IIIII)Z"⟩, 47), (⟨"NailedByWord", "add", "(IIIII)I"⟩, 47), (⟨"NailedByWord", "toldIn", "(Ljava/lang/Object;J)I"⟩, 47), (⟨"NailedByWord", "numberOf", "(II)LNailedByWord$Held;"⟩, 47), (⟨"NailedByWord", "isPromise", "(J)Z"⟩, 47), (⟨"NailedByWord", "become", "(LNailedByWord$Held;I)I"⟩, 47), (⟨"NailedByWord", "readLaw", "()LNailedByWord$Line;"⟩, 47), (⟨"NailedByWord", "readLine", "()LNailedByWord$Line;"⟩, 47), (⟨"NailedByWord", "readEither", "()LNailedByWord$Term;"⟩, 47), (⟨"NailedByWord", "readAll", "()LNailedByWord$Term;"⟩, 47), (⟨"NailedByWord", "readLike", "()LNailedByWord$Term;"⟩, 47), (⟨"NailedByWord", "readPlus", "()LNailedByWord$Term;"⟩, 47), (⟨"NailedByWord", "readTimes", "()LNailedByWord$Term;"⟩, 47), (⟨"NailedByWord", "readOne", "()LNailedByWord$Term;"⟩, 47)]
theorem lw_r1 : ∀ q ∈ lw_privs_1, lw_okq q := List.forall_mem_cons.mpr ⟨lw_p0, List.forall_mem_cons.mpr ⟨lw_p1, List.forall_mem_cons.mpr ⟨lw_p2, List.forall_mem_cons.mpr ⟨lw_p3, List.forall_mem_cons.mpr ⟨lw_p4, List.forall_mem_cons.mpr ⟨lw_p5, List.forall_mem_cons.mpr ⟨lw_p6, List.forall_mem_cons.mpr ⟨lw_p7, List.forall_mem_cons.mpr ⟨lw_p8, List.forall_mem_cons.mpr ⟨lw_p9, List.forall_mem_cons.mpr ⟨lw_p10, List.forall_mem_cons.mpr ⟨lw_p11, List.forall_mem_cons.mpr ⟨lw_p12, List.forall_mem_cons.mpr ⟨lw_p13, List.forall_mem_cons.mpr ⟨lw_p14, List.forall_mem_cons.mpr ⟨lw_p15, fun _ h => absurd h List.not_mem_nil⟩⟩⟩⟩⟩⟩⟩⟩⟩⟩⟩⟩⟩⟩⟩⟩
theorem lw_p16 : lw_okq (⟨"NailedByWord", "isDigit", "()Z"⟩, 47) := ⟨⟨by decide +kernel, by decide +kernel⟩, lw_t1 (List.mem_of_getElem? (i := 37) rfl), lw_t3 (List.mem_of_getElem? (i := 3) rfl), lw_t3 (List.mem_of_getElem? (i := 4) rfl)⟩
theorem lw_p17 : lw_okq (⟨"NailedByWord", "peek", "()I"⟩, 47) := ⟨⟨by decide +kernel, by decide +kernel⟩, lw_t1 (List.mem_of_getElem? (i := 37) rfl), lw_t3 (List.mem_of_getElem? (i := 7) rfl), lw_t3 (List.mem_of_getElem? (i := 8) rfl)⟩
theorem lw_p18 : lw_okq (⟨"NailedByWord", "expect", "(I)V"⟩, 47) := ⟨⟨by decide +kernel, by decide +kernel⟩, lw_t1 (List.mem_of_getElem? (i := 37) rfl), lw_t3 (List.mem_of_getElem? (i := 55) rfl), lw_t3 (List.mem_of_getElem? (i := 56) rfl)⟩
theorem lw_p19 : lw_okq (⟨"NailedByWord", "take", "(I)Z"⟩, 47) := ⟨⟨by decide +kernel, by decide +kernel⟩, lw_t1 (List.mem_of_getElem? (i := 37) rfl), lw_t3 (List.mem_of_getElem? (i := 59) rfl), lw_t3 (List.mem_of_getElem? (i := 60) rfl)⟩
theorem lw_p20 : lw_okq (⟨"NailedByWord", "beginAll", "()V"⟩, 47) := ⟨⟨by decide +kernel, by decide +kernel⟩, lw_t1 (List.mem_of_getElem? (i := 37) rfl), lw_t3 (List.mem_of_getElem? (i := 83) rfl), lw_t3 (List.mem_of_getElem? (i := 84) rfl)⟩
theorem lw_p21 : lw_okq (⟨"NailedByWord", "hardBy", "(II)I"⟩, 47) := ⟨⟨by decide +kernel, by decide +kernel⟩, lw_t1 (List.mem_of_getElem? (i := 37) rfl), lw_t3 (List.mem_of_getElem? (i := 91) rfl), lw_t3 (List.mem_of_getElem? (i := 92) rfl)⟩
theorem lw_p22 : lw_okq (⟨"NailedByWord", "isOnAt", "(IIII)Z"⟩, 47) := ⟨⟨by decide +kernel, by decide +kernel⟩, lw_t1 (List.mem_of_getElem? (i := 37) rfl), lw_t3 (List.mem_of_getElem? (i := 104) rfl), lw_t3 (List.mem_of_getElem? (i := 105) rfl)⟩
theorem lw_p23 : lw_okq (⟨"NailedByWord", "isOn", "(II)Z"⟩, 47) := ⟨⟨by decide +kernel, by decide +kernel⟩, lw_t1 (List.mem_of_getElem? (i := 37) rfl), lw_t3 (List.mem_of_getElem? (i := 108) rfl), lw_t3 (List.mem_of_getElem? (i := 109) rfl)⟩
theorem lw_p24 : lw_okq (⟨"NailedByWord", "ruled", "()I"⟩, 47) := ⟨⟨by decide +kernel, by decide +kernel⟩, lw_t1 (List.mem_of_getElem? (i := 37) rfl), lw_t3 (List.mem_of_getElem? (i := 112) rfl), lw_t3 (List.mem_of_getElem? (i := 113) rfl)⟩
theorem lw_p25 : lw_okq (⟨"NailedByWord", "holdsAt", "(IIII)Z"⟩, 47) := ⟨⟨by decide +kernel, by decide +kernel⟩, lw_t1 (List.mem_of_getElem? (i := 37) rfl), lw_t3 (List.mem_of_getElem? (i := 142) rfl), lw_t3 (List.mem_of_getElem? (i := 143) rfl)⟩
theorem lw_p26 : lw_okq (⟨"NailedByWord", "lookAt", "(I)I"⟩, 47) := ⟨⟨by decide +kernel, by decide +kernel⟩, lw_t1 (List.mem_of_getElem? (i := 37) rfl), lw_t3 (List.mem_of_getElem? (i := 151) rfl), lw_t3 (List.mem_of_getElem? (i := 152) rfl)⟩
theorem lw_p27 : lw_okq (⟨"NailedByWord", "stepMany", "([B)I"⟩, 47) := ⟨⟨by decide +kernel, by decide +kernel⟩, lw_t1 (List.mem_of_getElem? (i := 37) rfl), lw_t3 (List.mem_of_getElem? (i := 155) rfl), lw_t3 (List.mem_of_getElem? (i := 156) rfl)⟩
theorem lw_p28 : lw_okq (⟨"NailedByWord", "beginRoute", "(I)V"⟩, 47) := ⟨⟨by decide +kernel, by decide +kernel⟩, lw_t1 (List.mem_of_getElem? (i := 37) rfl), lw_t3 (List.mem_of_getElem? (i := 159) rfl), lw_t3 (List.mem_of_getElem? (i := 160) rfl)⟩
theorem lw_p29 : lw_okq (⟨"NailedByWord", "keepHere", "(I)V"⟩, 47) := ⟨⟨by decide +kernel, by decide +kernel⟩, lw_t1 (List.mem_of_getElem? (i := 37) rfl), lw_t3 (List.mem_of_getElem? (i := 163) rfl), lw_t3 (List.mem_of_getElem? (i := 164) rfl)⟩
theorem lw_p30 : lw_okq (⟨"NailedByWord", "goStep", "(II)V"⟩, 47) := ⟨⟨by decide +kernel, by decide +kernel⟩, lw_t1 (List.mem_of_getElem? (i := 37) rfl), lw_t3 (List.mem_of_getElem? (i := 167) rfl), lw_t3 (List.mem_of_getElem? (i := 168) rfl)⟩
theorem lw_p31 : lw_okq (⟨"NailedByWord", "isHeld", "(III)Z"⟩, 47) := ⟨⟨by decide +kernel, by decide +kernel⟩, lw_t1 (List.mem_of_getElem? (i := 37) rfl), lw_t3 (List.mem_of_getElem? (i := 171) rfl), lw_t3 (List.mem_of_getElem? (i := 172) rfl)⟩
def lw_privs_2 : List (MethodName × Nat) := [(⟨"NailedByWord", "isDigit", "()Z"⟩, 47), (⟨"NailedByWord", "peek", "()I"⟩, 47), (⟨"NailedByWord", "expect", "(I)V"⟩, 47), (⟨"NailedByWord", "take", "(I)Z"⟩, 47), (⟨"NailedByWord", "beginAll", "()V"⟩, 47), (⟨"NailedByWord", "hardBy", "(II)I"⟩, 47), (⟨"NailedByWord", "isOnAt", "(IIII)Z"⟩, 47), (⟨"NailedByWord", "isOn", "(II)Z"⟩, 47), (⟨"NailedByWord", "ruled", "()I"⟩, 47), (⟨"NailedByWord", "holdsAt", "(IIII)Z"⟩, 47), (⟨"NailedByWord", "lookAt", "(I)I"⟩, 47), (⟨"NailedByWord", "stepMany", "([B)I"⟩, 47), (⟨"NailedByWord", "beginRoute", "(I)V"⟩, 47), (⟨"NailedByWord", "keepHere", "(I)V"⟩, 47), (⟨"NailedByWord", "goStep", "(II)V"⟩, 47), (⟨"NailedByWord", "isHeld", "(III)Z"⟩, 47)]
theorem lw_r2 : ∀ q ∈ lw_privs_2, lw_okq q := List.forall_mem_cons.mpr ⟨lw_p16, List.forall_mem_cons.mpr ⟨lw_p17, List.forall_mem_cons.mpr ⟨lw_p18, List.forall_mem_cons.mpr ⟨lw_p19, List.forall_mem_cons.mpr ⟨lw_p20, List.forall_mem_cons.mpr ⟨lw_p21, List.forall_mem_cons.mpr ⟨lw_p22, List.forall_mem_cons.mpr ⟨lw_p23, List.forall_mem_cons.mpr ⟨lw_p24, List.forall_mem_cons.mpr ⟨lw_p25, List.forall_mem_cons.mpr ⟨lw_p26, List.forall_mem_cons.mpr ⟨lw_p27, List.forall_mem_cons.mpr ⟨lw_p28, List.forall_mem_cons.mpr ⟨lw_p29, List.forall_mem_cons.mpr ⟨lw_p30, List.forall_mem_cons.mpr ⟨lw_p31, fun _ h => absurd h List.not_mem_nil⟩⟩⟩⟩⟩⟩⟩⟩⟩⟩⟩⟩⟩⟩⟩⟩
theorem lw_p32 : lw_okq (⟨"NailedByWord", "weightOf", "(I)I"⟩, 47) := ⟨⟨by decide +kernel, by decide +kernel⟩, lw_t1 (List.mem_of_getElem? (i := 37) rfl), lw_t3 (List.mem_of_getElem? (i := 181) rfl), lw_t3 (List.mem_of_getElem? (i := 182) rfl)⟩
theorem lw_p33 : lw_okq (⟨"NailedByWord", "spread", "(III)I"⟩, 47) := ⟨⟨by decide +kernel, by decide +kernel⟩, lw_t1 (List.mem_of_getElem? (i := 37) rfl), lw_t3 (List.mem_of_getElem? (i := 194) rfl), lw_t3 (List.mem_of_getElem? (i := 195) rfl)⟩
theorem lw_p34 : lw_okq (⟨"NailedByWord", "onHere", "(I)I"⟩, 47) := ⟨⟨by decide +kernel, by decide +kernel⟩, lw_t1 (List.mem_of_getElem? (i := 37) rfl), lw_t3 (List.mem_of_getElem? (i := 206) rfl), lw_t3 (List.mem_of_getElem? (i := 207) rfl)⟩
theorem lw_p35 : lw_okq (⟨"NailedByWord", "isHeldNow", "(I)Z"⟩, 47) := ⟨⟨by decide +kernel, by decide +kernel⟩, lw_t1 (List.mem_of_getElem? (i := 37) rfl), lw_t3 (List.mem_of_getElem? (i := 213) rfl), lw_t3 (List.mem_of_getElem? (i := 214) rfl)⟩
theorem lw_p36 : lw_okq (⟨"NailedByWord", "isNobodyHeld", "()Z"⟩, 47) := ⟨⟨by decide +kernel, by decide +kernel⟩, lw_t1 (List.mem_of_getElem? (i := 37) rfl), lw_t3 (List.mem_of_getElem? (i := 221) rfl), lw_t3 (List.mem_of_getElem? (i := 222) rfl)⟩
theorem lw_p37 : lw_okq (⟨"NailedByWord", "followed", "(II)I"⟩, 47) := ⟨⟨by decide +kernel, by decide +kernel⟩, lw_t1 (List.mem_of_getElem? (i := 37) rfl), lw_t3 (List.mem_of_getElem? (i := 229) rfl), lw_t3 (List.mem_of_getElem? (i := 230) rfl)⟩
theorem lw_p38 : lw_okq (⟨"NailedByWord", "lookAtBoth", "(I)I"⟩, 47) := ⟨⟨by decide +kernel, by decide +kernel⟩, lw_t1 (List.mem_of_getElem? (i := 37) rfl), lw_t4 (List.mem_of_getElem? (i := 1) rfl), lw_t4 (List.mem_of_getElem? (i := 2) rfl)⟩
theorem lw_p39 : lw_okq (⟨"NailedByWord", "canBe", "([BI)Z"⟩, 47) := ⟨⟨by decide +kernel, by decide +kernel⟩, lw_t1 (List.mem_of_getElem? (i := 37) rfl), lw_t4 (List.mem_of_getElem? (i := 9) rfl), lw_t4 (List.mem_of_getElem? (i := 10) rfl)⟩
theorem lw_p40 : lw_okq (⟨"NailedByWord", "goRound", "(IIIII)V"⟩, 47) := ⟨⟨by decide +kernel, by decide +kernel⟩, lw_t1 (List.mem_of_getElem? (i := 37) rfl), lw_t4 (List.mem_of_getElem? (i := 22) rfl), lw_t4 (List.mem_of_getElem? (i := 23) rfl)⟩
theorem lw_p41 : lw_okq (⟨"NailedByWord", "playFrom", "(IIII)I"⟩, 47) := ⟨⟨by decide +kernel, by decide +kernel⟩, lw_t1 (List.mem_of_getElem? (i := 37) rfl), lw_t4 (List.mem_of_getElem? (i := 52) rfl), lw_t4 (List.mem_of_getElem? (i := 53) rfl)⟩
theorem lw_p42 : lw_okq (⟨"NailedByWord", "stepTurn", "(IIIII)I"⟩, 47) := ⟨⟨by decide +kernel, by decide +kernel⟩, lw_t1 (List.mem_of_getElem? (i := 37) rfl), lw_t4 (List.mem_of_getElem? (i := 56) rfl), lw_t4 (List.mem_of_getElem? (i := 57) rfl)⟩
theorem lw_p43 : lw_okq (⟨"NailedByWord", "leastToForget", "()I"⟩, 47) := ⟨⟨by decide +kernel, by decide +kernel⟩, lw_t1 (List.mem_of_getElem? (i := 37) rfl), lw_t4 (List.mem_of_getElem? (i := 60) rfl), lw_t4 (List.mem_of_getElem? (i := 61) rfl)⟩
theorem lw_p44 : lw_okq (⟨"NailedByWord", "made", "(I)LNailedByWord$Body;"⟩, 47) := ⟨⟨by decide +kernel, by decide +kernel⟩, lw_t1 (List.mem_of_getElem? (i := 37) rfl), lw_t4 (List.mem_of_getElem? (i := 106) rfl), lw_t4 (List.mem_of_getElem? (i := 107) rfl)⟩
theorem lw_p45 : lw_okq (⟨"NailedByWord", "isBody", "(I)Z"⟩, 47) := ⟨⟨by decide +kernel, by decide +kernel⟩, lw_t1 (List.mem_of_getElem? (i := 37) rfl), lw_t4 (List.mem_of_getElem? (i := 215) rfl), lw_t4 (List.mem_of_getElem? (i := 216) rfl)⟩
theorem lw_p46 : lw_okq (⟨"NailedByWord", "refusal", "(II)I"⟩, 47) := ⟨⟨by decide +kernel, by decide +kernel⟩, lw_t1 (List.mem_of_getElem? (i := 37) rfl), lw_t5 (List.mem_of_getElem? (i := 220) rfl), lw_t5 (List.mem_of_getElem? (i := 221) rfl)⟩
theorem lw_p47 : lw_okq (⟨"NailedByWordModel", "areTwo", "(II)Z"⟩, 67) := ⟨⟨by decide +kernel, by decide +kernel⟩, lw_t6 (List.mem_of_getElem? (i := 62) rfl), lw_t7 (List.mem_of_getElem? (i := 43) rfl), lw_t7 (List.mem_of_getElem? (i := 44) rfl)⟩
def lw_privs_3 : List (MethodName × Nat) := [(⟨"NailedByWord", "weightOf", "(I)I"⟩, 47), (⟨"NailedByWord", "spread", "(III)I"⟩, 47), (⟨"NailedByWord", "onHere", "(I)I"⟩, 47), (⟨"NailedByWord", "isHeldNow", "(I)Z"⟩, 47), (⟨"NailedByWord", "isNobodyHeld", "()Z"⟩, 47), (⟨"NailedByWord", "followed", "(II)I"⟩, 47), (⟨"NailedByWord", "lookAtBoth", "(I)I"⟩, 47), (⟨"NailedByWord", "canBe", "([BI)Z"⟩, 47), (⟨"NailedByWord", "goRound", "(IIIII)V"⟩, 47), (⟨"NailedByWord", "playFrom", "(IIII)I"⟩, 47), (⟨"NailedByWord", "stepTurn", "(IIIII)I"⟩, 47), (⟨"NailedByWord", "leastToForget", "()I"⟩, 47), (⟨"NailedByWord", "made", "(I)LNailedByWord$Body;"⟩, 47), (⟨"NailedByWord", "isBody", "(I)Z"⟩, 47), (⟨"NailedByWord", "refusal", "(II)I"⟩, 47), (⟨"NailedByWordModel", "areTwo", "(II)Z"⟩, 67)]
theorem lw_r3 : ∀ q ∈ lw_privs_3, lw_okq q := List.forall_mem_cons.mpr ⟨lw_p32, List.forall_mem_cons.mpr ⟨lw_p33, List.forall_mem_cons.mpr ⟨lw_p34, List.forall_mem_cons.mpr ⟨lw_p35, List.forall_mem_cons.mpr ⟨lw_p36, List.forall_mem_cons.mpr ⟨lw_p37, List.forall_mem_cons.mpr ⟨lw_p38, List.forall_mem_cons.mpr ⟨lw_p39, List.forall_mem_cons.mpr ⟨lw_p40, List.forall_mem_cons.mpr ⟨lw_p41, List.forall_mem_cons.mpr ⟨lw_p42, List.forall_mem_cons.mpr ⟨lw_p43, List.forall_mem_cons.mpr ⟨lw_p44, List.forall_mem_cons.mpr ⟨lw_p45, List.forall_mem_cons.mpr ⟨lw_p46, List.forall_mem_cons.mpr ⟨lw_p47, fun _ h => absurd h List.not_mem_nil⟩⟩⟩⟩⟩⟩⟩⟩⟩⟩⟩⟩⟩⟩⟩⟩
theorem lw_p48 : lw_okq (⟨"NailedByWordModel", "isOne", "(I)Z"⟩, 67) := ⟨⟨by decide +kernel, by decide +kernel⟩, lw_t6 (List.mem_of_getElem? (i := 62) rfl), lw_t7 (List.mem_of_getElem? (i := 47) rfl), lw_t7 (List.mem_of_getElem? (i := 48) rfl)⟩
theorem lw_p49 : lw_okq (⟨"NailedByWordModel", "addPromise", "(IIIII)I"⟩, 67) := ⟨⟨by decide +kernel, by decide +kernel⟩, lw_t6 (List.mem_of_getElem? (i := 62) rfl), lw_t7 (List.mem_of_getElem? (i := 51) rfl), lw_t7 (List.mem_of_getElem? (i := 52) rfl)⟩
theorem lw_p50 : lw_okq (⟨"NailedByWordModel", "lays", "(III)V"⟩, 67) := ⟨⟨by decide +kernel, by decide +kernel⟩, lw_t6 (List.mem_of_getElem? (i := 62) rfl), lw_t7 (List.mem_of_getElem? (i := 67) rfl), lw_t7 (List.mem_of_getElem? (i := 68) rfl)⟩
theorem lw_p51 : lw_okq (⟨"NailedByWordModel", "isPlace", "(II)Z"⟩, 67) := ⟨⟨by decide +kernel, by decide +kernel⟩, lw_t6 (List.mem_of_getElem? (i := 62) rfl), lw_t7 (List.mem_of_getElem? (i := 79) rfl), lw_t7 (List.mem_of_getElem? (i := 80) rfl)⟩
theorem lw_p52 : lw_okq (⟨"NailedByWordModel", "isPromise", "(I)Z"⟩, 67) := ⟨⟨by decide +kernel, by decide +kernel⟩, lw_t6 (List.mem_of_getElem? (i := 62) rfl), lw_t7 (List.mem_of_getElem? (i := 83) rfl), lw_t7 (List.mem_of_getElem? (i := 84) rfl)⟩
theorem lw_p53 : lw_okq (⟨"NailedByWordModel", "changes", "(III)I"⟩, 67) := ⟨⟨by decide +kernel, by decide +kernel⟩, lw_t6 (List.mem_of_getElem? (i := 62) rfl), lw_t7 (List.mem_of_getElem? (i := 90) rfl), lw_t7 (List.mem_of_getElem? (i := 91) rfl)⟩
theorem lw_p54 : lw_okq (⟨"NailedByWordModel", "valueAt", "(II)I"⟩, 67) := ⟨⟨by decide +kernel, by decide +kernel⟩, lw_t6 (List.mem_of_getElem? (i := 62) rfl), lw_t7 (List.mem_of_getElem? (i := 94) rfl), lw_t7 (List.mem_of_getElem? (i := 95) rfl)⟩
theorem lw_p55 : lw_okq (⟨"NailedByWordModel", "readText", "(I)I"⟩, 67) := ⟨⟨by decide +kernel, by decide +kernel⟩, lw_t6 (List.mem_of_getElem? (i := 62) rfl), lw_t7 (List.mem_of_getElem? (i := 110) rfl), lw_t7 (List.mem_of_getElem? (i := 111) rfl)⟩
theorem lw_p56 : lw_okq (⟨"NailedByWordModel", "line", "()V"⟩, 67) := ⟨⟨by decide +kernel, by decide +kernel⟩, lw_t6 (List.mem_of_getElem? (i := 62) rfl), lw_t7 (List.mem_of_getElem? (i := 114) rfl), lw_t7 (List.mem_of_getElem? (i := 115) rfl)⟩
theorem lw_p57 : lw_okq (⟨"NailedByWordModel", "either", "()V"⟩, 67) := ⟨⟨by decide +kernel, by decide +kernel⟩, lw_t6 (List.mem_of_getElem? (i := 62) rfl), lw_t7 (List.mem_of_getElem? (i := 118) rfl), lw_t7 (List.mem_of_getElem? (i := 119) rfl)⟩
theorem lw_p58 : lw_okq (⟨"NailedByWordModel", "both", "()V"⟩, 67) := ⟨⟨by decide +kernel, by decide +kernel⟩, lw_t6 (List.mem_of_getElem? (i := 62) rfl), lw_t7 (List.mem_of_getElem? (i := 122) rfl), lw_t7 (List.mem_of_getElem? (i := 123) rfl)⟩
theorem lw_p59 : lw_okq (⟨"NailedByWordModel", "compared", "()V"⟩, 67) := ⟨⟨by decide +kernel, by decide +kernel⟩, lw_t6 (List.mem_of_getElem? (i := 62) rfl), lw_t7 (List.mem_of_getElem? (i := 126) rfl), lw_t7 (List.mem_of_getElem? (i := 127) rfl)⟩
theorem lw_p60 : lw_okq (⟨"NailedByWordModel", "sum", "()V"⟩, 67) := ⟨⟨by decide +kernel, by decide +kernel⟩, lw_t6 (List.mem_of_getElem? (i := 62) rfl), lw_t7 (List.mem_of_getElem? (i := 130) rfl), lw_t7 (List.mem_of_getElem? (i := 131) rfl)⟩
theorem lw_p61 : lw_okq (⟨"NailedByWordModel", "product", "()V"⟩, 67) := ⟨⟨by decide +kernel, by decide +kernel⟩, lw_t6 (List.mem_of_getElem? (i := 62) rfl), lw_t7 (List.mem_of_getElem? (i := 134) rfl), lw_t7 (List.mem_of_getElem? (i := 135) rfl)⟩
theorem lw_p62 : lw_okq (⟨"NailedByWordModel", "operand", "()V"⟩, 67) := ⟨⟨by decide +kernel, by decide +kernel⟩, lw_t6 (List.mem_of_getElem? (i := 62) rfl), lw_t7 (List.mem_of_getElem? (i := 138) rfl), lw_t7 (List.mem_of_getElem? (i := 139) rfl)⟩
theorem lw_p63 : lw_okq (⟨"NailedByWordModel", "look", "()I"⟩, 67) := ⟨⟨by decide +kernel, by decide +kernel⟩, lw_t6 (List.mem_of_getElem? (i := 62) rfl), lw_t7 (List.mem_of_getElem? (i := 142) rfl), lw_t7 (List.mem_of_getElem? (i := 143) rfl)⟩
def lw_privs_4 : List (MethodName × Nat) := [(⟨"NailedByWordModel", "isOne", "(I)Z"⟩, 67), (⟨"NailedByWordModel", "addPromise", "(IIIII)I"⟩, 67), (⟨"NailedByWordModel", "lays", "(III)V"⟩, 67), (⟨"NailedByWordModel", "isPlace", "(II)Z"⟩, 67), (⟨"NailedByWordModel", "isPromise", "(I)Z"⟩, 67), (⟨"NailedByWordModel", "changes", "(III)I"⟩, 67), (⟨"NailedByWordModel", "valueAt", "(II)I"⟩, 67), (⟨"NailedByWordModel", "readText", "(I)I"⟩, 67), (⟨"NailedByWordModel", "line", "()V"⟩, 67), (⟨"NailedByWordModel", "either", "()V"⟩, 67), (⟨"NailedByWordModel", "both", "()V"⟩, 67), (⟨"NailedByWordModel", "compared", "()V"⟩, 67), (⟨"NailedByWordModel", "sum", "()V"⟩, 67), (⟨"NailedByWordModel", "product", "()V"⟩, 67), (⟨"NailedByWordModel", "operand", "()V"⟩, 67), (⟨"NailedByWordModel", "look", "()I"⟩, 67)]
theorem lw_r4 : ∀ q ∈ lw_privs_4, lw_okq q := List.forall_mem_cons.mpr ⟨lw_p48, List.forall_mem_cons.mpr ⟨lw_p49, List.forall_mem_cons.mpr ⟨lw_p50, List.forall_mem_cons.mpr ⟨lw_p51, List.forall_mem_cons.mpr ⟨lw_p52, List.forall_mem_cons.mpr ⟨lw_p53, List.forall_mem_cons.mpr ⟨lw_p54, List.forall_mem_cons.mpr ⟨lw_p55, List.forall_mem_cons.mpr ⟨lw_p56, List.forall_mem_cons.mpr ⟨lw_p57, List.forall_mem_cons.mpr ⟨lw_p58, List.forall_mem_cons.mpr ⟨lw_p59, List.forall_mem_cons.mpr ⟨lw_p60, List.forall_mem_cons.mpr ⟨lw_p61, List.forall_mem_cons.mpr ⟨lw_p62, List.forall_mem_cons.mpr ⟨lw_p63, fun _ h => absurd h List.not_mem_nil⟩⟩⟩⟩⟩⟩⟩⟩⟩⟩⟩⟩⟩⟩⟩⟩
theorem lw_p64 : lw_okq (⟨"NailedByWordModel", "addStep", "(II)V"⟩, 67) := ⟨⟨by decide +kernel, by decide +kernel⟩, lw_t6 (List.mem_of_getElem? (i := 62) rfl), lw_t7 (List.mem_of_getElem? (i := 149) rfl), lw_t7 (List.mem_of_getElem? (i := 150) rfl)⟩
theorem lw_p65 : lw_okq (⟨"NailedByWordModel", "opens", "()Z"⟩, 67) := ⟨⟨by decide +kernel, by decide +kernel⟩, lw_t6 (List.mem_of_getElem? (i := 62) rfl), lw_t7 (List.mem_of_getElem? (i := 153) rfl), lw_t7 (List.mem_of_getElem? (i := 154) rfl)⟩
theorem lw_p66 : lw_okq (⟨"NailedByWordModel", "wrong", "()V"⟩, 67) := ⟨⟨by decide +kernel, by decide +kernel⟩, lw_t6 (List.mem_of_getElem? (i := 62) rfl), lw_t7 (List.mem_of_getElem? (i := 157) rfl), lw_t7 (List.mem_of_getElem? (i := 158) rfl)⟩
theorem lw_p67 : lw_okq (⟨"NailedByWordModel", "figure", "()V"⟩, 67) := ⟨⟨by decide +kernel, by decide +kernel⟩, lw_t6 (List.mem_of_getElem? (i := 62) rfl), lw_t7 (List.mem_of_getElem? (i := 161) rfl), lw_t7 (List.mem_of_getElem? (i := 162) rfl)⟩
theorem lw_p68 : lw_okq (⟨"NailedByWordModel", "hardOn", "(II)I"⟩, 67) := ⟨⟨by decide +kernel, by decide +kernel⟩, lw_t6 (List.mem_of_getElem? (i := 62) rfl), lw_t7 (List.mem_of_getElem? (i := 169) rfl), lw_t7 (List.mem_of_getElem? (i := 170) rfl)⟩
theorem lw_p69 : lw_okq (⟨"NailedByWordModel", "othersWith", "(II)I"⟩, 67) := ⟨⟨by decide +kernel, by decide +kernel⟩, lw_t6 (List.mem_of_getElem? (i := 62) rfl), lw_t7 (List.mem_of_getElem? (i := 173) rfl), lw_t7 (List.mem_of_getElem? (i := 174) rfl)⟩
theorem lw_p70 : lw_okq (⟨"NailedByWordModel", "isOn", "(II)Z"⟩, 67) := ⟨⟨by decide +kernel, by decide +kernel⟩, lw_t6 (List.mem_of_getElem? (i := 62) rfl), lw_t7 (List.mem_of_getElem? (i := 177) rfl), lw_t7 (List.mem_of_getElem? (i := 178) rfl)⟩
theorem lw_p71 : lw_okq (⟨"NailedByWordModel", "gives", "(I)I"⟩, 67) := ⟨⟨by decide +kernel, by decide +kernel⟩, lw_t6 (List.mem_of_getElem? (i := 62) rfl), lw_t7 (List.mem_of_getElem? (i := 181) rfl), lw_t7 (List.mem_of_getElem? (i := 182) rfl)⟩
theorem lw_p72 : lw_okq (⟨"NailedByWordModel", "worked", "(III)I"⟩, 67) := ⟨⟨by decide +kernel, by decide +kernel⟩, lw_t6 (List.mem_of_getElem? (i := 62) rfl), lw_t7 (List.mem_of_getElem? (i := 185) rfl), lw_t7 (List.mem_of_getElem? (i := 186) rfl)⟩
theorem lw_p73 : lw_okq (⟨"NailedByWordModel", "heldBy", "(III)I"⟩, 67) := ⟨⟨by decide +kernel, by decide +kernel⟩, lw_t6 (List.mem_of_getElem? (i := 62) rfl), lw_t7 (List.mem_of_getElem? (i := 196) rfl), lw_t7 (List.mem_of_getElem? (i := 197) rfl)⟩
theorem lw_p74 : lw_okq (⟨"NailedByWordModel", "holdsAt", "(III)Z"⟩, 67) := ⟨⟨by decide +kernel, by decide +kernel⟩, lw_t6 (List.mem_of_getElem? (i := 62) rfl), lw_t7 (List.mem_of_getElem? (i := 200) rfl), lw_t7 (List.mem_of_getElem? (i := 201) rfl)⟩
theorem lw_p75 : lw_okq (⟨"NailedByWordModel", "hardestNow", "(I)I"⟩, 67) := ⟨⟨by decide +kernel, by decide +kernel⟩, lw_t6 (List.mem_of_getElem? (i := 62) rfl), lw_t7 (List.mem_of_getElem? (i := 204) rfl), lw_t7 (List.mem_of_getElem? (i := 205) rfl)⟩
theorem lw_p76 : lw_okq (⟨"NailedByWordModel", "rowFault", "(I)I"⟩, 67) := ⟨⟨by decide +kernel, by decide +kernel⟩, lw_t6 (List.mem_of_getElem? (i := 62) rfl), lw_t7 (List.mem_of_getElem? (i := 212) rfl), lw_t7 (List.mem_of_getElem? (i := 213) rfl)⟩
theorem lw_p77 : lw_okq (⟨"NailedByWordModel", "stepsOf", "(I)I"⟩, 67) := ⟨⟨by decide +kernel, by decide +kernel⟩, lw_t6 (List.mem_of_getElem? (i := 62) rfl), lw_t7 (List.mem_of_getElem? (i := 216) rfl), lw_t7 (List.mem_of_getElem? (i := 217) rfl)⟩
theorem lw_p78 : lw_okq (⟨"NailedByWordModel", "at", "(II)I"⟩, 67) := ⟨⟨by decide +kernel, by decide +kernel⟩, lw_t6 (List.mem_of_getElem? (i := 62) rfl), lw_t7 (List.mem_of_getElem? (i := 220) rfl), lw_t7 (List.mem_of_getElem? (i := 221) rfl)⟩
theorem lw_p79 : lw_okq (⟨"NailedByWordModel", "keptAt", "(III)I"⟩, 67) := ⟨⟨by decide +kernel, by decide +kernel⟩, lw_t6 (List.mem_of_getElem? (i := 62) rfl), lw_t7 (List.mem_of_getElem? (i := 224) rfl), lw_t7 (List.mem_of_getElem? (i := 225) rfl)⟩
def lw_privs_5 : List (MethodName × Nat) := [(⟨"NailedByWordModel", "addStep", "(II)V"⟩, 67), (⟨"NailedByWordModel", "opens", "()Z"⟩, 67), (⟨"NailedByWordModel", "wrong", "()V"⟩, 67), (⟨"NailedByWordModel", "figure", "()V"⟩, 67), (⟨"NailedByWordModel", "hardOn", "(II)I"⟩, 67), (⟨"NailedByWordModel", "othersWith", "(II)I"⟩, 67), (⟨"NailedByWordModel", "isOn", "(II)Z"⟩, 67), (⟨"NailedByWordModel", "gives", "(I)I"⟩, 67), (⟨"NailedByWordModel", "worked", "(III)I"⟩, 67), (⟨"NailedByWordModel", "heldBy", "(III)I"⟩, 67), (⟨"NailedByWordModel", "holdsAt", "(III)Z"⟩, 67), (⟨"NailedByWordModel", "hardestNow", "(I)I"⟩, 67), (⟨"NailedByWordModel", "rowFault", "(I)I"⟩, 67), (⟨"NailedByWordModel", "stepsOf", "(I)I"⟩, 67), (⟨"NailedByWordModel", "at", "(II)I"⟩, 67), (⟨"NailedByWordModel", "keptAt", "(III)I"⟩, 67)]
theorem lw_r5 : ∀ q ∈ lw_privs_5, lw_okq q := List.forall_mem_cons.mpr ⟨lw_p64, List.forall_mem_cons.mpr ⟨lw_p65, List.forall_mem_cons.mpr ⟨lw_p66, List.forall_mem_cons.mpr ⟨lw_p67, List.forall_mem_cons.mpr ⟨lw_p68, List.forall_mem_cons.mpr ⟨lw_p69, List.forall_mem_cons.mpr ⟨lw_p70, List.forall_mem_cons.mpr ⟨lw_p71, List.forall_mem_cons.mpr ⟨lw_p72, List.forall_mem_cons.mpr ⟨lw_p73, List.forall_mem_cons.mpr ⟨lw_p74, List.forall_mem_cons.mpr ⟨lw_p75, List.forall_mem_cons.mpr ⟨lw_p76, List.forall_mem_cons.mpr ⟨lw_p77, List.forall_mem_cons.mpr ⟨lw_p78, List.forall_mem_cons.mpr ⟨lw_p79, fun _ h => absurd h List.not_mem_nil⟩⟩⟩⟩⟩⟩⟩⟩⟩⟩⟩⟩⟩⟩⟩⟩
theorem lw_p80 : lw_okq (⟨"NailedByWordModel", "dayOn", "(I)I"⟩, 67) := ⟨⟨by decide +kernel, by decide +kernel⟩, lw_t6 (List.mem_of_getElem? (i := 62) rfl), lw_t7 (List.mem_of_getElem? (i := 228) rfl), lw_t7 (List.mem_of_getElem? (i := 229) rfl)⟩
theorem lw_p81 : lw_okq (⟨"NailedByWordModel", "isHeld", "(III)Z"⟩, 67) := ⟨⟨by decide +kernel, by decide +kernel⟩, lw_t6 (List.mem_of_getElem? (i := 62) rfl), lw_t7 (List.mem_of_getElem? (i := 232) rfl), lw_t7 (List.mem_of_getElem? (i := 233) rfl)⟩
theorem lw_p82 : lw_okq (⟨"NailedByWordModel", "weightsOf", "(I)I"⟩, 67) := ⟨⟨by decide +kernel, by decide +kernel⟩, lw_t6 (List.mem_of_getElem? (i := 62) rfl), lw_t7 (List.mem_of_getElem? (i := 239) rfl), lw_t8 (List.mem_of_getElem? (i := 0) rfl)⟩
theorem lw_p83 : lw_okq (⟨"NailedByWordModel", "goBest", "(IIIII)V"⟩, 67) := ⟨⟨by decide +kernel, by decide +kernel⟩, lw_t6 (List.mem_of_getElem? (i := 62) rfl), lw_t8 (List.mem_of_getElem? (i := 10) rfl), lw_t8 (List.mem_of_getElem? (i := 11) rfl)⟩
theorem lw_p84 : lw_okq (⟨"NailedByWordModel", "dayFrom", "(III)I"⟩, 67) := ⟨⟨by decide +kernel, by decide +kernel⟩, lw_t6 (List.mem_of_getElem? (i := 62) rfl), lw_t8 (List.mem_of_getElem? (i := 18) rfl), lw_t8 (List.mem_of_getElem? (i := 19) rfl)⟩
theorem lw_p85 : lw_okq (⟨"NailedByWordModel", "hereOf", "(I)I"⟩, 67) := ⟨⟨by decide +kernel, by decide +kernel⟩, lw_t6 (List.mem_of_getElem? (i := 62) rfl), lw_t8 (List.mem_of_getElem? (i := 30) rfl), lw_t8 (List.mem_of_getElem? (i := 31) rfl)⟩
theorem lw_p86 : lw_okq (⟨"NailedByWordModel", "freesBy", "(III)Z"⟩, 67) := ⟨⟨by decide +kernel, by decide +kernel⟩, lw_t6 (List.mem_of_getElem? (i := 62) rfl), lw_t8 (List.mem_of_getElem? (i := 37) rfl), lw_t8 (List.mem_of_getElem? (i := 38) rfl)⟩
theorem lw_p87 : lw_okq (⟨"NailedByWordModel", "allFree", "(I)Z"⟩, 67) := ⟨⟨by decide +kernel, by decide +kernel⟩, lw_t6 (List.mem_of_getElem? (i := 62) rfl), lw_t8 (List.mem_of_getElem? (i := 49) rfl), lw_t8 (List.mem_of_getElem? (i := 50) rfl)⟩
theorem lw_p88 : lw_okq (⟨"NailedByWordModel", "promisedTo", "(I)I"⟩, 67) := ⟨⟨by decide +kernel, by decide +kernel⟩, lw_t6 (List.mem_of_getElem? (i := 62) rfl), lw_t8 (List.mem_of_getElem? (i := 53) rfl), lw_t8 (List.mem_of_getElem? (i := 54) rfl)⟩
theorem lw_p89 : lw_okq (⟨"NailedByWordModel", "nobodyHeld", "()Z"⟩, 67) := ⟨⟨by decide +kernel, by decide +kernel⟩, lw_t6 (List.mem_of_getElem? (i := 62) rfl), lw_t8 (List.mem_of_getElem? (i := 57) rfl), lw_t8 (List.mem_of_getElem? (i := 58) rfl)⟩
theorem lw_p90 : lw_okq (⟨"NailedByWordModel", "heldToward", "(I)I"⟩, 67) := ⟨⟨by decide +kernel, by decide +kernel⟩, lw_t6 (List.mem_of_getElem? (i := 62) rfl), lw_t8 (List.mem_of_getElem? (i := 65) rfl), lw_t8 (List.mem_of_getElem? (i := 66) rfl)⟩
theorem lw_p91 : lw_okq (⟨"NailedByWordModel", "canBe", "(II)Z"⟩, 67) := ⟨⟨by decide +kernel, by decide +kernel⟩, lw_t6 (List.mem_of_getElem? (i := 62) rfl), lw_t8 (List.mem_of_getElem? (i := 80) rfl), lw_t8 (List.mem_of_getElem? (i := 81) rfl)⟩
theorem lw_p92 : lw_okq (⟨"NailedByWordModel", "goRound", "(IIIII)V"⟩, 67) := ⟨⟨by decide +kernel, by decide +kernel⟩, lw_t6 (List.mem_of_getElem? (i := 62) rfl), lw_t8 (List.mem_of_getElem? (i := 92) rfl), lw_t8 (List.mem_of_getElem? (i := 93) rfl)⟩
theorem lw_p93 : lw_okq (⟨"NailedByWordModel", "goForgot", "(III)V"⟩, 67) := ⟨⟨by decide +kernel, by decide +kernel⟩, lw_t6 (List.mem_of_getElem? (i := 62) rfl), lw_t8 (List.mem_of_getElem? (i := 104) rfl), lw_t8 (List.mem_of_getElem? (i := 105) rfl)⟩
theorem lw_p94 : lw_okq (⟨"NailedByWordModel", "manBest", "(III)I"⟩, 67) := ⟨⟨by decide +kernel, by decide +kernel⟩, lw_t6 (List.mem_of_getElem? (i := 62) rfl), lw_t8 (List.mem_of_getElem? (i := 119) rfl), lw_t8 (List.mem_of_getElem? (i := 120) rfl)⟩
theorem lw_p95 : lw_okq (⟨"NailedByWordModel", "byStep", "(IIII)I"⟩, 67) := ⟨⟨by decide +kernel, by decide +kernel⟩, lw_t6 (List.mem_of_getElem? (i := 62) rfl), lw_t8 (List.mem_of_getElem? (i := 123) rfl), lw_t8 (List.mem_of_getElem? (i := 124) rfl)⟩
def lw_privs_6 : List (MethodName × Nat) := [(⟨"NailedByWordModel", "dayOn", "(I)I"⟩, 67), (⟨"NailedByWordModel", "isHeld", "(III)Z"⟩, 67), (⟨"NailedByWordModel", "weightsOf", "(I)I"⟩, 67), (⟨"NailedByWordModel", "goBest", "(IIIII)V"⟩, 67), (⟨"NailedByWordModel", "dayFrom", "(III)I"⟩, 67), (⟨"NailedByWordModel", "hereOf", "(I)I"⟩, 67), (⟨"NailedByWordModel", "freesBy", "(III)Z"⟩, 67), (⟨"NailedByWordModel", "allFree", "(I)Z"⟩, 67), (⟨"NailedByWordModel", "promisedTo", "(I)I"⟩, 67), (⟨"NailedByWordModel", "nobodyHeld", "()Z"⟩, 67), (⟨"NailedByWordModel", "heldToward", "(I)I"⟩, 67), (⟨"NailedByWordModel", "canBe", "(II)Z"⟩, 67), (⟨"NailedByWordModel", "goRound", "(IIIII)V"⟩, 67), (⟨"NailedByWordModel", "goForgot", "(III)V"⟩, 67), (⟨"NailedByWordModel", "manBest", "(III)I"⟩, 67), (⟨"NailedByWordModel", "byStep", "(IIII)I"⟩, 67)]
theorem lw_r6 : ∀ q ∈ lw_privs_6, lw_okq q := List.forall_mem_cons.mpr ⟨lw_p80, List.forall_mem_cons.mpr ⟨lw_p81, List.forall_mem_cons.mpr ⟨lw_p82, List.forall_mem_cons.mpr ⟨lw_p83, List.forall_mem_cons.mpr ⟨lw_p84, List.forall_mem_cons.mpr ⟨lw_p85, List.forall_mem_cons.mpr ⟨lw_p86, List.forall_mem_cons.mpr ⟨lw_p87, List.forall_mem_cons.mpr ⟨lw_p88, List.forall_mem_cons.mpr ⟨lw_p89, List.forall_mem_cons.mpr ⟨lw_p90, List.forall_mem_cons.mpr ⟨lw_p91, List.forall_mem_cons.mpr ⟨lw_p92, List.forall_mem_cons.mpr ⟨lw_p93, List.forall_mem_cons.mpr ⟨lw_p94, List.forall_mem_cons.mpr ⟨lw_p95, fun _ h => absurd h List.not_mem_nil⟩⟩⟩⟩⟩⟩⟩⟩⟩⟩⟩⟩⟩⟩⟩⟩
theorem lw_p96 : lw_okq (⟨"NailedByWordModel", "childBest", "(III)I"⟩, 67) := ⟨⟨by decide +kernel, by decide +kernel⟩, lw_t6 (List.mem_of_getElem? (i := 62) rfl), lw_t8 (List.mem_of_getElem? (i := 127) rfl), lw_t8 (List.mem_of_getElem? (i := 128) rfl)⟩
theorem lw_p97 : lw_okq (⟨"NailedByWordModel", "leastToForget", "()I"⟩, 67) := ⟨⟨by decide +kernel, by decide +kernel⟩, lw_t6 (List.mem_of_getElem? (i := 62) rfl), lw_t8 (List.mem_of_getElem? (i := 131) rfl), lw_t8 (List.mem_of_getElem? (i := 132) rfl)⟩
theorem lw_p98 : lw_okq (⟨"NailedByWordModel", "isBody", "(I)Z"⟩, 67) := ⟨⟨by decide +kernel, by decide +kernel⟩, lw_t6 (List.mem_of_getElem? (i := 62) rfl), lw_t8 (List.mem_of_getElem? (i := 184) rfl), lw_t8 (List.mem_of_getElem? (i := 185) rfl)⟩
theorem lw_p99 : lw_okq (⟨"NailedByWordModel", "holding", "(II)I"⟩, 67) := ⟨⟨by decide +kernel, by decide +kernel⟩, lw_t6 (List.mem_of_getElem? (i := 62) rfl), lw_t8 (List.mem_of_getElem? (i := 188) rfl), lw_t8 (List.mem_of_getElem? (i := 189) rfl)⟩
theorem lw_p100 : lw_okq (⟨"NailedByWordModel", "ran", "(I)V"⟩, 67) := ⟨⟨by decide +kernel, by decide +kernel⟩, lw_t6 (List.mem_of_getElem? (i := 62) rfl), lw_t8 (List.mem_of_getElem? (i := 195) rfl), lw_t8 (List.mem_of_getElem? (i := 196) rfl)⟩
theorem lw_p101 : lw_okq (⟨"NailedByWordModel", "plainHolds", "(II)I"⟩, 67) := ⟨⟨by decide +kernel, by decide +kernel⟩, lw_t6 (List.mem_of_getElem? (i := 62) rfl), lw_t8 (List.mem_of_getElem? (i := 199) rfl), lw_t8 (List.mem_of_getElem? (i := 200) rfl)⟩
theorem lw_p102 : lw_okq (⟨"NailedByWordModel", "pittHolds", "(II)I"⟩, 67) := ⟨⟨by decide +kernel, by decide +kernel⟩, lw_t6 (List.mem_of_getElem? (i := 62) rfl), lw_t8 (List.mem_of_getElem? (i := 203) rfl), lw_t8 (List.mem_of_getElem? (i := 204) rfl)⟩
theorem lw_p103 : lw_okq (⟨"NailedByWordModel", "pulling", "(II)I"⟩, 67) := ⟨⟨by decide +kernel, by decide +kernel⟩, lw_t6 (List.mem_of_getElem? (i := 62) rfl), lw_t8 (List.mem_of_getElem? (i := 207) rfl), lw_t8 (List.mem_of_getElem? (i := 208) rfl)⟩
theorem lw_p104 : lw_okq (⟨"NailedByWordModel", "lacePulls", "(II)I"⟩, 67) := ⟨⟨by decide +kernel, by decide +kernel⟩, lw_t6 (List.mem_of_getElem? (i := 62) rfl), lw_t8 (List.mem_of_getElem? (i := 211) rfl), lw_t8 (List.mem_of_getElem? (i := 212) rfl)⟩
theorem lw_p105 : lw_okq (⟨"NailedByWordModel", "plainPulls", "(II)I"⟩, 67) := ⟨⟨by decide +kernel, by decide +kernel⟩, lw_t6 (List.mem_of_getElem? (i := 62) rfl), lw_t8 (List.mem_of_getElem? (i := 215) rfl), lw_t8 (List.mem_of_getElem? (i := 216) rfl)⟩
theorem lw_p106 : lw_okq (⟨"NailedByWordModel", "freeing", "(II)I"⟩, 67) := ⟨⟨by decide +kernel, by decide +kernel⟩, lw_t6 (List.mem_of_getElem? (i := 62) rfl), lw_t8 (List.mem_of_getElem? (i := 219) rfl), lw_t8 (List.mem_of_getElem? (i := 220) rfl)⟩
theorem lw_p107 : lw_okq (⟨"NailedByWordModel", "heelFrees", "(II)I"⟩, 67) := ⟨⟨by decide +kernel, by decide +kernel⟩, lw_t6 (List.mem_of_getElem? (i := 62) rfl), lw_t8 (List.mem_of_getElem? (i := 223) rfl), lw_t8 (List.mem_of_getElem? (i := 224) rfl)⟩
theorem lw_p108 : lw_okq (⟨"NailedByWordModel", "plainFrees", "(II)I"⟩, 67) := ⟨⟨by decide +kernel, by decide +kernel⟩, lw_t6 (List.mem_of_getElem? (i := 62) rfl), lw_t8 (List.mem_of_getElem? (i := 227) rfl), lw_t8 (List.mem_of_getElem? (i := 228) rfl)⟩
theorem lw_p109 : lw_okq (⟨"NailedByWordModel", "telling", "(II)I"⟩, 67) := ⟨⟨by decide +kernel, by decide +kernel⟩, lw_t6 (List.mem_of_getElem? (i := 62) rfl), lw_t8 (List.mem_of_getElem? (i := 231) rfl), lw_t8 (List.mem_of_getElem? (i := 232) rfl)⟩
theorem lw_p110 : lw_okq (⟨"NailedByWordModel", "plainTells", "(II)I"⟩, 67) := ⟨⟨by decide +kernel, by decide +kernel⟩, lw_t6 (List.mem_of_getElem? (i := 62) rfl), lw_t8 (List.mem_of_getElem? (i := 235) rfl), lw_t8 (List.mem_of_getElem? (i := 236) rfl)⟩
theorem lw_p111 : lw_okq (⟨"NailedByWordModel", "whyNoPlace", "(II)I"⟩, 67) := ⟨⟨by decide +kernel, by decide +kernel⟩, lw_t6 (List.mem_of_getElem? (i := 62) rfl), lw_t9 (List.mem_of_getElem? (i := 15) rfl), lw_t9 (List.mem_of_getElem? (i := 16) rfl)⟩
def lw_privs_7 : List (MethodName × Nat) := [(⟨"NailedByWordModel", "childBest", "(III)I"⟩, 67), (⟨"NailedByWordModel", "leastToForget", "()I"⟩, 67), (⟨"NailedByWordModel", "isBody", "(I)Z"⟩, 67), (⟨"NailedByWordModel", "holding", "(II)I"⟩, 67), (⟨"NailedByWordModel", "ran", "(I)V"⟩, 67), (⟨"NailedByWordModel", "plainHolds", "(II)I"⟩, 67), (⟨"NailedByWordModel", "pittHolds", "(II)I"⟩, 67), (⟨"NailedByWordModel", "pulling", "(II)I"⟩, 67), (⟨"NailedByWordModel", "lacePulls", "(II)I"⟩, 67), (⟨"NailedByWordModel", "plainPulls", "(II)I"⟩, 67), (⟨"NailedByWordModel", "freeing", "(II)I"⟩, 67), (⟨"NailedByWordModel", "heelFrees", "(II)I"⟩, 67), (⟨"NailedByWordModel", "plainFrees", "(II)I"⟩, 67), (⟨"NailedByWordModel", "telling", "(II)I"⟩, 67), (⟨"NailedByWordModel", "plainTells", "(II)I"⟩, 67), (⟨"NailedByWordModel", "whyNoPlace", "(II)I"⟩, 67)]
theorem lw_r7 : ∀ q ∈ lw_privs_7, lw_okq q := List.forall_mem_cons.mpr ⟨lw_p96, List.forall_mem_cons.mpr ⟨lw_p97, List.forall_mem_cons.mpr ⟨lw_p98, List.forall_mem_cons.mpr ⟨lw_p99, List.forall_mem_cons.mpr ⟨lw_p100, List.forall_mem_cons.mpr ⟨lw_p101, List.forall_mem_cons.mpr ⟨lw_p102, List.forall_mem_cons.mpr ⟨lw_p103, List.forall_mem_cons.mpr ⟨lw_p104, List.forall_mem_cons.mpr ⟨lw_p105, List.forall_mem_cons.mpr ⟨lw_p106, List.forall_mem_cons.mpr ⟨lw_p107, List.forall_mem_cons.mpr ⟨lw_p108, List.forall_mem_cons.mpr ⟨lw_p109, List.forall_mem_cons.mpr ⟨lw_p110, List.forall_mem_cons.mpr ⟨lw_p111, fun _ h => absurd h List.not_mem_nil⟩⟩⟩⟩⟩⟩⟩⟩⟩⟩⟩⟩⟩⟩⟩⟩
def lw_privs : List (MethodName × Nat) := lw_privs_1 ++ (lw_privs_2 ++ (lw_privs_3 ++ (lw_privs_4 ++ (lw_privs_5 ++ (lw_privs_6 ++ (lw_privs_7))))))
def lw_tbl : List Cond := k2_sels lw_privs ++ tables_1
theorem lw_privs_ok : ∀ q ∈ lw_privs, lw_okq q := by
  show ∀ q ∈ lw_privs_1 ++ (lw_privs_2 ++ (lw_privs_3 ++ (lw_privs_4 ++ (lw_privs_5 ++ (lw_privs_6 ++ (lw_privs_7)))))), lw_okq q
  exact List.forall_mem_append.mpr ⟨lw_r1, List.forall_mem_append.mpr ⟨lw_r2, List.forall_mem_append.mpr ⟨lw_r3, List.forall_mem_append.mpr ⟨lw_r4, List.forall_mem_append.mpr ⟨lw_r5, List.forall_mem_append.mpr ⟨lw_r6, lw_r7⟩⟩⟩⟩⟩⟩
-- ===== ONE list of words for every method: the tables' words that hold all through a run =====
def lw_all : List Cond := lw_tbl.filter goodWord
/-- a word of the tables by its place: claim/WORDS.tsv -/
theorem lw_w {w : Cond} (i : Nat) (h : lw_tbl[i]? = some w) (g : goodWord w = true) : w ∈ lw_all := List.mem_filter.mpr ⟨List.mem_of_getElem? h, g⟩
theorem lw_all_tbl {w : Cond} (h : w ∈ lw_all) : w ∈ lw_tbl := (List.mem_filter.mp h).1
theorem lw_self : GoodIn lw_all lw_all := fun w h => ⟨h, good_of_word (List.mem_filter.mp h).2⟩
/-- a class's field words, by their places -/
theorem lw_in (ws : List Cond) (ps : List Nat) (hp : ws = ps.filterMap (fun i => lw_tbl[i]?)) (hg : ws.all goodWord = true) : ∀ w ∈ ws, w ∈ lw_all := by
  intro w h
  have h1 := List.all_eq_true.mp hg w h
  rw [hp] at h
  obtain ⟨i, -, hi⟩ := List.mem_filterMap.mp h
  exact lw_w i hi h1
/-- the words of a contract for the method y with code b, L locals, answer r -/
abbrev ws_ (y : MethodName) (b : ByteArray) (L : Nat) (r : Option FieldType) : List Cond := Cond.code y b L r :: lw_all
theorem lw_meth {y : MethodName} {b : ByteArray} {L : Nat} {r : Option FieldType} (h : Cond.code y b L r ∈ lw_all) : GoodIn lw_all (ws_ y b L r) := by
  intro w hw
  rcases List.mem_cons.mp hw with e | e
  · rw [e]
    exact lw_self _ h
  · exact lw_self _ e
theorem lw_app {a c : List Cond} (ha : ∀ w ∈ a, w ∈ lw_all) (hc : GoodIn lw_all c) : GoodIn lw_all (a ++ c) := by
  intro w hw
  rcases List.mem_append.mp hw with e | e
  · exact lw_self w (ha w e)
  · exact hc w e
/-- what a call through an object asks: cwV n hts (lw_V ..) -/
theorem lw_V {own : String} {idx : Nat} {C : String} {y : MethodName} {b : ByteArray} {L : Nat} {r : Option FieldType} (h1 : Cond.methodLink own idx y ∈ lw_all) (h2 : Cond.instanceMethod y ∈ lw_all) (h3 : Cond.selects C y y ∈ lw_all) (h4 : Cond.initialized C ∈ lw_all) (h5 : Cond.code y b L r ∈ lw_all) : GoodIn lw_all (wsV own idx C y (ws_ y b L r)) := by
  refine lw_app ?_ (lw_meth h5)
  intro w hw
  simp only [List.mem_cons, List.not_mem_nil, or_false] at hw
  rcases hw with e | e | e | e
  · rw [e]; exact h1
  · rw [e]; exact h2
  · rw [e]; exact h3
  · rw [e]; exact h4
/-- what a static call asks: va_cwS n hts (lw_S ..) -/
theorem lw_S {own : String} {idx : Nat} {y : MethodName} {b : ByteArray} {L : Nat} {r : Option FieldType} (h1 : Cond.methodLink own idx y ∈ lw_all) (h2 : Cond.static y ∈ lw_all) (h3 : Cond.initialized y.cls ∈ lw_all) (h4 : Cond.code y b L r ∈ lw_all) : GoodIn lw_all (va_wsS own idx y (ws_ y b L r)) := by
  refine lw_app ?_ (lw_meth h4)
  intro w hw
  simp only [List.mem_cons, List.not_mem_nil, or_false] at hw
  rcases hw with e | e | e
  · rw [e]; exact h1
  · rw [e]; exact h2
  · rw [e]; exact h3
/-- the words of a contract for a method WITH HANDLERS (hh: its table) -/
abbrev wsW_ (y : MethodName) (b : ByteArray) (L : Nat) (r : Option FieldType) (hh : List (Nat × Nat × Nat × Nat)) : List Cond := Cond.codeWith y b L r hh :: lw_all
theorem lw_methW {y : MethodName} {b : ByteArray} {L : Nat} {r : Option FieldType} {hh : List (Nat × Nat × Nat × Nat)} (h : Cond.codeWith y b L r hh ∈ lw_all) : GoodIn lw_all (wsW_ y b L r hh) := by
  intro w hw
  rcases List.mem_cons.mp hw with e | e
  · rw [e]
    exact lw_self _ h
  · exact lw_self _ e
/-- any list of words by their places (lw_in), good -/
theorem lw_good {ws : List Cond} (h : ∀ w ∈ ws, w ∈ lw_all) : GoodIn lw_all ws := fun w hw => lw_self w (h w hw)
/-- what a call of a method with handlers asks: vx_cwVW n hts (lw_VW ..), vx_cwSW n hts (lw_SW ..) -/
theorem lw_VW {own : String} {idx : Nat} {C : String} {y : MethodName} {b : ByteArray} {L : Nat} {r : Option FieldType} {hh : List (Nat × Nat × Nat × Nat)} (h1 : Cond.methodLink own idx y ∈ lw_all) (h2 : Cond.instanceMethod y ∈ lw_all) (h3 : Cond.selects C y y ∈ lw_all) (h4 : Cond.initialized C ∈ lw_all) (h5 : Cond.codeWith y b L r hh ∈ lw_all) : GoodIn lw_all (wsV own idx C y (wsW_ y b L r hh)) := by
  refine lw_app ?_ (lw_methW h5)
  intro w hw
  simp only [List.mem_cons, List.not_mem_nil, or_false] at hw
  rcases hw with e | e | e | e
  · rw [e]; exact h1
  · rw [e]; exact h2
  · rw [e]; exact h3
  · rw [e]; exact h4
theorem lw_SW {own : String} {idx : Nat} {y : MethodName} {b : ByteArray} {L : Nat} {r : Option FieldType} {hh : List (Nat × Nat × Nat × Nat)} (h1 : Cond.methodLink own idx y ∈ lw_all) (h2 : Cond.static y ∈ lw_all) (h3 : Cond.initialized y.cls ∈ lw_all) (h4 : Cond.codeWith y b L r hh ∈ lw_all) : GoodIn lw_all (va_wsS own idx y (wsW_ y b L r hh)) := by
  refine lw_app ?_ (lw_methW h4)
  intro w hw
  simp only [List.mem_cons, List.not_mem_nil, or_false] at hw
  rcases hw with e | e | e
  · rw [e]; exact h1
  · rw [e]; exact h2
  · rw [e]; exact h3
/-- a word by its place in its run of the tables -/
theorem lw_at {r : List Cond} (hr : ∀ w ∈ r, w ∈ lw_tbl) {w : Cond} (i : Nat) (h : r[i]? = some w) : w ∈ lw_tbl := hr w (List.mem_of_getElem? h)
theorem lw_g {w : Cond} (h : w ∈ lw_tbl) (g : goodWord w = true) : w ∈ lw_all := List.mem_filter.mpr ⟨h, g⟩
theorem lw_ms : ∀ w ∈ k2_sels lw_privs, w ∈ lw_tbl := fun w h => show w ∈ k2_sels lw_privs ++ tables_1 from List.mem_append_left _ h
theorem lw_m1 : ∀ w ∈ tables_1_1, w ∈ lw_tbl := fun w h => show w ∈ k2_sels lw_privs ++ tables_1 from List.mem_append_right (k2_sels lw_privs) (show w ∈ tables_1 from List.mem_append_left _ h)
theorem lw_m2 : ∀ w ∈ tables_1_2, w ∈ lw_tbl := fun w h => show w ∈ k2_sels lw_privs ++ tables_1 from List.mem_append_right (k2_sels lw_privs) (show w ∈ tables_1 from List.mem_append_right _ (List.mem_append_left _ h))
theorem lw_m3 : ∀ w ∈ tables_1_3, w ∈ lw_tbl := fun w h => show w ∈ k2_sels lw_privs ++ tables_1 from List.mem_append_right (k2_sels lw_privs) (show w ∈ tables_1 from List.mem_append_right _ (List.mem_append_right _ (List.mem_append_left _ h)))
theorem lw_m4 : ∀ w ∈ tables_1_4, w ∈ lw_tbl := fun w h => show w ∈ k2_sels lw_privs ++ tables_1 from List.mem_append_right (k2_sels lw_privs) (show w ∈ tables_1 from List.mem_append_right _ (List.mem_append_right _ (List.mem_append_right _ (List.mem_append_left _ h))))
theorem lw_m5 : ∀ w ∈ tables_1_5, w ∈ lw_tbl := fun w h => show w ∈ k2_sels lw_privs ++ tables_1 from List.mem_append_right (k2_sels lw_privs) (show w ∈ tables_1 from List.mem_append_right _ (List.mem_append_right _ (List.mem_append_right _ (List.mem_append_right _ (List.mem_append_left _ h)))))
theorem lw_m6 : ∀ w ∈ tables_1_6, w ∈ lw_tbl := fun w h => show w ∈ k2_sels lw_privs ++ tables_1 from List.mem_append_right (k2_sels lw_privs) (show w ∈ tables_1 from List.mem_append_right _ (List.mem_append_right _ (List.mem_append_right _ (List.mem_append_right _ (List.mem_append_right _ (List.mem_append_left _ h))))))
theorem lw_m7 : ∀ w ∈ tables_1_7, w ∈ lw_tbl := fun w h => show w ∈ k2_sels lw_privs ++ tables_1 from List.mem_append_right (k2_sels lw_privs) (show w ∈ tables_1 from List.mem_append_right _ (List.mem_append_right _ (List.mem_append_right _ (List.mem_append_right _ (List.mem_append_right _ (List.mem_append_right _ (List.mem_append_left _ h)))))))
theorem lw_m8 : ∀ w ∈ tables_1_8, w ∈ lw_tbl := fun w h => show w ∈ k2_sels lw_privs ++ tables_1 from List.mem_append_right (k2_sels lw_privs) (show w ∈ tables_1 from List.mem_append_right _ (List.mem_append_right _ (List.mem_append_right _ (List.mem_append_right _ (List.mem_append_right _ (List.mem_append_right _ (List.mem_append_right _ (List.mem_append_left _ h))))))))
theorem lw_m9 : ∀ w ∈ tables_1_9, w ∈ lw_tbl := fun w h => show w ∈ k2_sels lw_privs ++ tables_1 from List.mem_append_right (k2_sels lw_privs) (show w ∈ tables_1 from List.mem_append_right _ (List.mem_append_right _ (List.mem_append_right _ (List.mem_append_right _ (List.mem_append_right _ (List.mem_append_right _ (List.mem_append_right _ (List.mem_append_right _ h))))))))
theorem qs0 : (Cond.selects "java/lang/Throwable" ⟨"java/lang/Throwable", "fillInStackTrace", "(I)Ljava/lang/Throwable;"⟩ ⟨"java/lang/Throwable", "fillInStackTrace", "(I)Ljava/lang/Throwable;"⟩) ∈ lw_all := lw_g (lw_at lw_ms 0 rfl) rfl
theorem qs1 : (Cond.selects "NailedByWord" ⟨"NailedByWord", "isOne", "(J)Z"⟩ ⟨"NailedByWord", "isOne", "(J)Z"⟩) ∈ lw_all := lw_g (lw_at lw_ms 1 rfl) rfl
theorem qs2 : (Cond.selects "NailedByWord" ⟨"NailedByWord", "mayBe", "(IIIII)Z"⟩ ⟨"NailedByWord", "mayBe", "(IIIII)Z"⟩) ∈ lw_all := lw_g (lw_at lw_ms 2 rfl) rfl
theorem qs3 : (Cond.selects "NailedByWord" ⟨"NailedByWord", "add", "(IIIII)I"⟩ ⟨"NailedByWord", "add", "(IIIII)I"⟩) ∈ lw_all := lw_g (lw_at lw_ms 3 rfl) rfl
theorem qs4 : (Cond.selects "NailedByWord" ⟨"NailedByWord", "toldIn", "(Ljava/lang/Object;J)I"⟩ ⟨"NailedByWord", "toldIn", "(Ljava/lang/Object;J)I"⟩) ∈ lw_all := lw_g (lw_at lw_ms 4 rfl) rfl
theorem qs5 : (Cond.selects "NailedByWord" ⟨"NailedByWord", "numberOf", "(II)LNailedByWord$Held;"⟩ ⟨"NailedByWord", "numberOf", "(II)LNailedByWord$Held;"⟩) ∈ lw_all := lw_g (lw_at lw_ms 5 rfl) rfl
theorem qs6 : (Cond.selects "NailedByWord" ⟨"NailedByWord", "isPromise", "(J)Z"⟩ ⟨"NailedByWord", "isPromise", "(J)Z"⟩) ∈ lw_all := lw_g (lw_at lw_ms 6 rfl) rfl
theorem qs7 : (Cond.selects "NailedByWord" ⟨"NailedByWord", "become", "(LNailedByWord$Held;I)I"⟩ ⟨"NailedByWord", "become", "(LNailedByWord$Held;I)I"⟩) ∈ lw_all := lw_g (lw_at lw_ms 7 rfl) rfl
theorem qs8 : (Cond.selects "NailedByWord" ⟨"NailedByWord", "readLaw", "()LNailedByWord$Line;"⟩ ⟨"NailedByWord", "readLaw", "()LNailedByWord$Line;"⟩) ∈ lw_all := lw_g (lw_at lw_ms 8 rfl) rfl
theorem qs9 : (Cond.selects "NailedByWord" ⟨"NailedByWord", "readLine", "()LNailedByWord$Line;"⟩ ⟨"NailedByWord", "readLine", "()LNailedByWord$Line;"⟩) ∈ lw_all := lw_g (lw_at lw_ms 9 rfl) rfl
theorem qs10 : (Cond.selects "NailedByWord" ⟨"NailedByWord", "readEither", "()LNailedByWord$Term;"⟩ ⟨"NailedByWord", "readEither", "()LNailedByWord$Term;"⟩) ∈ lw_all := lw_g (lw_at lw_ms 10 rfl) rfl
theorem qs11 : (Cond.selects "NailedByWord" ⟨"NailedByWord", "readAll", "()LNailedByWord$Term;"⟩ ⟨"NailedByWord", "readAll", "()LNailedByWord$Term;"⟩) ∈ lw_all := lw_g (lw_at lw_ms 11 rfl) rfl
theorem qs12 : (Cond.selects "NailedByWord" ⟨"NailedByWord", "readLike", "()LNailedByWord$Term;"⟩ ⟨"NailedByWord", "readLike", "()LNailedByWord$Term;"⟩) ∈ lw_all := lw_g (lw_at lw_ms 12 rfl) rfl
theorem qs13 : (Cond.selects "NailedByWord" ⟨"NailedByWord", "readPlus", "()LNailedByWord$Term;"⟩ ⟨"NailedByWord", "readPlus", "()LNailedByWord$Term;"⟩) ∈ lw_all := lw_g (lw_at lw_ms 13 rfl) rfl
theorem qs14 : (Cond.selects "NailedByWord" ⟨"NailedByWord", "readTimes", "()LNailedByWord$Term;"⟩ ⟨"NailedByWord", "readTimes", "()LNailedByWord$Term;"⟩) ∈ lw_all := lw_g (lw_at lw_ms 14 rfl) rfl
theorem qs15 : (Cond.selects "NailedByWord" ⟨"NailedByWord", "readOne", "()LNailedByWord$Term;"⟩ ⟨"NailedByWord", "readOne", "()LNailedByWord$Term;"⟩) ∈ lw_all := lw_g (lw_at lw_ms 15 rfl) rfl
theorem qs16 : (Cond.selects "NailedByWord" ⟨"NailedByWord", "isDigit", "()Z"⟩ ⟨"NailedByWord", "isDigit", "()Z"⟩) ∈ lw_all := lw_g (lw_at lw_ms 16 rfl) rfl
theorem qs17 : (Cond.selects "NailedByWord" ⟨"NailedByWord", "peek", "()I"⟩ ⟨"NailedByWord", "peek", "()I"⟩) ∈ lw_all := lw_g (lw_at lw_ms 17 rfl) rfl
theorem qs18 : (Cond.selects "NailedByWord" ⟨"NailedByWord", "expect", "(I)V"⟩ ⟨"NailedByWord", "expect", "(I)V"⟩) ∈ lw_all := lw_g (lw_at lw_ms 18 rfl) rfl
theorem qs19 : (Cond.selects "NailedByWord" ⟨"NailedByWord", "take", "(I)Z"⟩ ⟨"NailedByWord", "take", "(I)Z"⟩) ∈ lw_all := lw_g (lw_at lw_ms 19 rfl) rfl
theorem qs20 : (Cond.selects "NailedByWord" ⟨"NailedByWord", "beginAll", "()V"⟩ ⟨"NailedByWord", "beginAll", "()V"⟩) ∈ lw_all := lw_g (lw_at lw_ms 20 rfl) rfl
theorem qs21 : (Cond.selects "NailedByWord" ⟨"NailedByWord", "hardBy", "(II)I"⟩ ⟨"NailedByWord", "hardBy", "(II)I"⟩) ∈ lw_all := lw_g (lw_at lw_ms 21 rfl) rfl
theorem qs22 : (Cond.selects "NailedByWord" ⟨"NailedByWord", "isOnAt", "(IIII)Z"⟩ ⟨"NailedByWord", "isOnAt", "(IIII)Z"⟩) ∈ lw_all := lw_g (lw_at lw_ms 22 rfl) rfl
theorem qs23 : (Cond.selects "NailedByWord" ⟨"NailedByWord", "isOn", "(II)Z"⟩ ⟨"NailedByWord", "isOn", "(II)Z"⟩) ∈ lw_all := lw_g (lw_at lw_ms 23 rfl) rfl
theorem qs24 : (Cond.selects "NailedByWord" ⟨"NailedByWord", "ruled", "()I"⟩ ⟨"NailedByWord", "ruled", "()I"⟩) ∈ lw_all := lw_g (lw_at lw_ms 24 rfl) rfl
theorem qs25 : (Cond.selects "NailedByWord" ⟨"NailedByWord", "holdsAt", "(IIII)Z"⟩ ⟨"NailedByWord", "holdsAt", "(IIII)Z"⟩) ∈ lw_all := lw_g (lw_at lw_ms 25 rfl) rfl
theorem qs26 : (Cond.selects "NailedByWord" ⟨"NailedByWord", "lookAt", "(I)I"⟩ ⟨"NailedByWord", "lookAt", "(I)I"⟩) ∈ lw_all := lw_g (lw_at lw_ms 26 rfl) rfl
theorem qs27 : (Cond.selects "NailedByWord" ⟨"NailedByWord", "stepMany", "([B)I"⟩ ⟨"NailedByWord", "stepMany", "([B)I"⟩) ∈ lw_all := lw_g (lw_at lw_ms 27 rfl) rfl
theorem qs28 : (Cond.selects "NailedByWord" ⟨"NailedByWord", "beginRoute", "(I)V"⟩ ⟨"NailedByWord", "beginRoute", "(I)V"⟩) ∈ lw_all := lw_g (lw_at lw_ms 28 rfl) rfl
theorem qs29 : (Cond.selects "NailedByWord" ⟨"NailedByWord", "keepHere", "(I)V"⟩ ⟨"NailedByWord", "keepHere", "(I)V"⟩) ∈ lw_all := lw_g (lw_at lw_ms 29 rfl) rfl
theorem qs30 : (Cond.selects "NailedByWord" ⟨"NailedByWord", "goStep", "(II)V"⟩ ⟨"NailedByWord", "goStep", "(II)V"⟩) ∈ lw_all := lw_g (lw_at lw_ms 30 rfl) rfl
theorem qs31 : (Cond.selects "NailedByWord" ⟨"NailedByWord", "isHeld", "(III)Z"⟩ ⟨"NailedByWord", "isHeld", "(III)Z"⟩) ∈ lw_all := lw_g (lw_at lw_ms 31 rfl) rfl
theorem qs32 : (Cond.selects "NailedByWord" ⟨"NailedByWord", "weightOf", "(I)I"⟩ ⟨"NailedByWord", "weightOf", "(I)I"⟩) ∈ lw_all := lw_g (lw_at lw_ms 32 rfl) rfl
theorem qs33 : (Cond.selects "NailedByWord" ⟨"NailedByWord", "spread", "(III)I"⟩ ⟨"NailedByWord", "spread", "(III)I"⟩) ∈ lw_all := lw_g (lw_at lw_ms 33 rfl) rfl
theorem qs34 : (Cond.selects "NailedByWord" ⟨"NailedByWord", "onHere", "(I)I"⟩ ⟨"NailedByWord", "onHere", "(I)I"⟩) ∈ lw_all := lw_g (lw_at lw_ms 34 rfl) rfl
theorem qs35 : (Cond.selects "NailedByWord" ⟨"NailedByWord", "isHeldNow", "(I)Z"⟩ ⟨"NailedByWord", "isHeldNow", "(I)Z"⟩) ∈ lw_all := lw_g (lw_at lw_ms 35 rfl) rfl
theorem qs36 : (Cond.selects "NailedByWord" ⟨"NailedByWord", "isNobodyHeld", "()Z"⟩ ⟨"NailedByWord", "isNobodyHeld", "()Z"⟩) ∈ lw_all := lw_g (lw_at lw_ms 36 rfl) rfl
theorem qs37 : (Cond.selects "NailedByWord" ⟨"NailedByWord", "followed", "(II)I"⟩ ⟨"NailedByWord", "followed", "(II)I"⟩) ∈ lw_all := lw_g (lw_at lw_ms 37 rfl) rfl
theorem qs38 : (Cond.selects "NailedByWord" ⟨"NailedByWord", "lookAtBoth", "(I)I"⟩ ⟨"NailedByWord", "lookAtBoth", "(I)I"⟩) ∈ lw_all := lw_g (lw_at lw_ms 38 rfl) rfl
theorem qs39 : (Cond.selects "NailedByWord" ⟨"NailedByWord", "canBe", "([BI)Z"⟩ ⟨"NailedByWord", "canBe", "([BI)Z"⟩) ∈ lw_all := lw_g (lw_at lw_ms 39 rfl) rfl
theorem qs40 : (Cond.selects "NailedByWord" ⟨"NailedByWord", "goRound", "(IIIII)V"⟩ ⟨"NailedByWord", "goRound", "(IIIII)V"⟩) ∈ lw_all := lw_g (lw_at lw_ms 40 rfl) rfl
theorem qs41 : (Cond.selects "NailedByWord" ⟨"NailedByWord", "playFrom", "(IIII)I"⟩ ⟨"NailedByWord", "playFrom", "(IIII)I"⟩) ∈ lw_all := lw_g (lw_at lw_ms 41 rfl) rfl
theorem qs42 : (Cond.selects "NailedByWord" ⟨"NailedByWord", "stepTurn", "(IIIII)I"⟩ ⟨"NailedByWord", "stepTurn", "(IIIII)I"⟩) ∈ lw_all := lw_g (lw_at lw_ms 42 rfl) rfl
theorem qs43 : (Cond.selects "NailedByWord" ⟨"NailedByWord", "leastToForget", "()I"⟩ ⟨"NailedByWord", "leastToForget", "()I"⟩) ∈ lw_all := lw_g (lw_at lw_ms 43 rfl) rfl
theorem qs44 : (Cond.selects "NailedByWord" ⟨"NailedByWord", "made", "(I)LNailedByWord$Body;"⟩ ⟨"NailedByWord", "made", "(I)LNailedByWord$Body;"⟩) ∈ lw_all := lw_g (lw_at lw_ms 44 rfl) rfl
theorem qs45 : (Cond.selects "NailedByWord" ⟨"NailedByWord", "isBody", "(I)Z"⟩ ⟨"NailedByWord", "isBody", "(I)Z"⟩) ∈ lw_all := lw_g (lw_at lw_ms 45 rfl) rfl
theorem qs46 : (Cond.selects "NailedByWord" ⟨"NailedByWord", "refusal", "(II)I"⟩ ⟨"NailedByWord", "refusal", "(II)I"⟩) ∈ lw_all := lw_g (lw_at lw_ms 46 rfl) rfl
theorem qs47 : (Cond.selects "NailedByWordModel" ⟨"NailedByWordModel", "areTwo", "(II)Z"⟩ ⟨"NailedByWordModel", "areTwo", "(II)Z"⟩) ∈ lw_all := lw_g (lw_at lw_ms 47 rfl) rfl
theorem qs48 : (Cond.selects "NailedByWordModel" ⟨"NailedByWordModel", "isOne", "(I)Z"⟩ ⟨"NailedByWordModel", "isOne", "(I)Z"⟩) ∈ lw_all := lw_g (lw_at lw_ms 48 rfl) rfl
theorem qs49 : (Cond.selects "NailedByWordModel" ⟨"NailedByWordModel", "addPromise", "(IIIII)I"⟩ ⟨"NailedByWordModel", "addPromise", "(IIIII)I"⟩) ∈ lw_all := lw_g (lw_at lw_ms 49 rfl) rfl
theorem qs50 : (Cond.selects "NailedByWordModel" ⟨"NailedByWordModel", "lays", "(III)V"⟩ ⟨"NailedByWordModel", "lays", "(III)V"⟩) ∈ lw_all := lw_g (lw_at lw_ms 50 rfl) rfl
theorem qs51 : (Cond.selects "NailedByWordModel" ⟨"NailedByWordModel", "isPlace", "(II)Z"⟩ ⟨"NailedByWordModel", "isPlace", "(II)Z"⟩) ∈ lw_all := lw_g (lw_at lw_ms 51 rfl) rfl
theorem qs52 : (Cond.selects "NailedByWordModel" ⟨"NailedByWordModel", "isPromise", "(I)Z"⟩ ⟨"NailedByWordModel", "isPromise", "(I)Z"⟩) ∈ lw_all := lw_g (lw_at lw_ms 52 rfl) rfl
theorem qs53 : (Cond.selects "NailedByWordModel" ⟨"NailedByWordModel", "changes", "(III)I"⟩ ⟨"NailedByWordModel", "changes", "(III)I"⟩) ∈ lw_all := lw_g (lw_at lw_ms 53 rfl) rfl
theorem qs54 : (Cond.selects "NailedByWordModel" ⟨"NailedByWordModel", "valueAt", "(II)I"⟩ ⟨"NailedByWordModel", "valueAt", "(II)I"⟩) ∈ lw_all := lw_g (lw_at lw_ms 54 rfl) rfl
theorem qs55 : (Cond.selects "NailedByWordModel" ⟨"NailedByWordModel", "readText", "(I)I"⟩ ⟨"NailedByWordModel", "readText", "(I)I"⟩) ∈ lw_all := lw_g (lw_at lw_ms 55 rfl) rfl
theorem qs56 : (Cond.selects "NailedByWordModel" ⟨"NailedByWordModel", "line", "()V"⟩ ⟨"NailedByWordModel", "line", "()V"⟩) ∈ lw_all := lw_g (lw_at lw_ms 56 rfl) rfl
theorem qs57 : (Cond.selects "NailedByWordModel" ⟨"NailedByWordModel", "either", "()V"⟩ ⟨"NailedByWordModel", "either", "()V"⟩) ∈ lw_all := lw_g (lw_at lw_ms 57 rfl) rfl
theorem qs58 : (Cond.selects "NailedByWordModel" ⟨"NailedByWordModel", "both", "()V"⟩ ⟨"NailedByWordModel", "both", "()V"⟩) ∈ lw_all := lw_g (lw_at lw_ms 58 rfl) rfl
theorem qs59 : (Cond.selects "NailedByWordModel" ⟨"NailedByWordModel", "compared", "()V"⟩ ⟨"NailedByWordModel", "compared", "()V"⟩) ∈ lw_all := lw_g (lw_at lw_ms 59 rfl) rfl
theorem qs60 : (Cond.selects "NailedByWordModel" ⟨"NailedByWordModel", "sum", "()V"⟩ ⟨"NailedByWordModel", "sum", "()V"⟩) ∈ lw_all := lw_g (lw_at lw_ms 60 rfl) rfl
theorem qs61 : (Cond.selects "NailedByWordModel" ⟨"NailedByWordModel", "product", "()V"⟩ ⟨"NailedByWordModel", "product", "()V"⟩) ∈ lw_all := lw_g (lw_at lw_ms 61 rfl) rfl
theorem qs62 : (Cond.selects "NailedByWordModel" ⟨"NailedByWordModel", "operand", "()V"⟩ ⟨"NailedByWordModel", "operand", "()V"⟩) ∈ lw_all := lw_g (lw_at lw_ms 62 rfl) rfl
theorem qs63 : (Cond.selects "NailedByWordModel" ⟨"NailedByWordModel", "look", "()I"⟩ ⟨"NailedByWordModel", "look", "()I"⟩) ∈ lw_all := lw_g (lw_at lw_ms 63 rfl) rfl
theorem qs64 : (Cond.selects "NailedByWordModel" ⟨"NailedByWordModel", "addStep", "(II)V"⟩ ⟨"NailedByWordModel", "addStep", "(II)V"⟩) ∈ lw_all := lw_g (lw_at lw_ms 64 rfl) rfl
theorem qs65 : (Cond.selects "NailedByWordModel" ⟨"NailedByWordModel", "opens", "()Z"⟩ ⟨"NailedByWordModel", "opens", "()Z"⟩) ∈ lw_all := lw_g (lw_at lw_ms 65 rfl) rfl
theorem qs66 : (Cond.selects "NailedByWordModel" ⟨"NailedByWordModel", "wrong", "()V"⟩ ⟨"NailedByWordModel", "wrong", "()V"⟩) ∈ lw_all := lw_g (lw_at lw_ms 66 rfl) rfl
theorem qs67 : (Cond.selects "NailedByWordModel" ⟨"NailedByWordModel", "figure", "()V"⟩ ⟨"NailedByWordModel", "figure", "()V"⟩) ∈ lw_all := lw_g (lw_at lw_ms 67 rfl) rfl
theorem qs68 : (Cond.selects "NailedByWordModel" ⟨"NailedByWordModel", "hardOn", "(II)I"⟩ ⟨"NailedByWordModel", "hardOn", "(II)I"⟩) ∈ lw_all := lw_g (lw_at lw_ms 68 rfl) rfl
theorem qs69 : (Cond.selects "NailedByWordModel" ⟨"NailedByWordModel", "othersWith", "(II)I"⟩ ⟨"NailedByWordModel", "othersWith", "(II)I"⟩) ∈ lw_all := lw_g (lw_at lw_ms 69 rfl) rfl
theorem qs70 : (Cond.selects "NailedByWordModel" ⟨"NailedByWordModel", "isOn", "(II)Z"⟩ ⟨"NailedByWordModel", "isOn", "(II)Z"⟩) ∈ lw_all := lw_g (lw_at lw_ms 70 rfl) rfl
theorem qs71 : (Cond.selects "NailedByWordModel" ⟨"NailedByWordModel", "gives", "(I)I"⟩ ⟨"NailedByWordModel", "gives", "(I)I"⟩) ∈ lw_all := lw_g (lw_at lw_ms 71 rfl) rfl
theorem qs72 : (Cond.selects "NailedByWordModel" ⟨"NailedByWordModel", "worked", "(III)I"⟩ ⟨"NailedByWordModel", "worked", "(III)I"⟩) ∈ lw_all := lw_g (lw_at lw_ms 72 rfl) rfl
theorem qs73 : (Cond.selects "NailedByWordModel" ⟨"NailedByWordModel", "heldBy", "(III)I"⟩ ⟨"NailedByWordModel", "heldBy", "(III)I"⟩) ∈ lw_all := lw_g (lw_at lw_ms 73 rfl) rfl
theorem qs74 : (Cond.selects "NailedByWordModel" ⟨"NailedByWordModel", "holdsAt", "(III)Z"⟩ ⟨"NailedByWordModel", "holdsAt", "(III)Z"⟩) ∈ lw_all := lw_g (lw_at lw_ms 74 rfl) rfl
theorem qs75 : (Cond.selects "NailedByWordModel" ⟨"NailedByWordModel", "hardestNow", "(I)I"⟩ ⟨"NailedByWordModel", "hardestNow", "(I)I"⟩) ∈ lw_all := lw_g (lw_at lw_ms 75 rfl) rfl
theorem qs76 : (Cond.selects "NailedByWordModel" ⟨"NailedByWordModel", "rowFault", "(I)I"⟩ ⟨"NailedByWordModel", "rowFault", "(I)I"⟩) ∈ lw_all := lw_g (lw_at lw_ms 76 rfl) rfl
theorem qs77 : (Cond.selects "NailedByWordModel" ⟨"NailedByWordModel", "stepsOf", "(I)I"⟩ ⟨"NailedByWordModel", "stepsOf", "(I)I"⟩) ∈ lw_all := lw_g (lw_at lw_ms 77 rfl) rfl
theorem qs78 : (Cond.selects "NailedByWordModel" ⟨"NailedByWordModel", "at", "(II)I"⟩ ⟨"NailedByWordModel", "at", "(II)I"⟩) ∈ lw_all := lw_g (lw_at lw_ms 78 rfl) rfl
theorem qs79 : (Cond.selects "NailedByWordModel" ⟨"NailedByWordModel", "keptAt", "(III)I"⟩ ⟨"NailedByWordModel", "keptAt", "(III)I"⟩) ∈ lw_all := lw_g (lw_at lw_ms 79 rfl) rfl
theorem qs80 : (Cond.selects "NailedByWordModel" ⟨"NailedByWordModel", "dayOn", "(I)I"⟩ ⟨"NailedByWordModel", "dayOn", "(I)I"⟩) ∈ lw_all := lw_g (lw_at lw_ms 80 rfl) rfl
theorem qs81 : (Cond.selects "NailedByWordModel" ⟨"NailedByWordModel", "isHeld", "(III)Z"⟩ ⟨"NailedByWordModel", "isHeld", "(III)Z"⟩) ∈ lw_all := lw_g (lw_at lw_ms 81 rfl) rfl
theorem qs82 : (Cond.selects "NailedByWordModel" ⟨"NailedByWordModel", "weightsOf", "(I)I"⟩ ⟨"NailedByWordModel", "weightsOf", "(I)I"⟩) ∈ lw_all := lw_g (lw_at lw_ms 82 rfl) rfl
theorem qs83 : (Cond.selects "NailedByWordModel" ⟨"NailedByWordModel", "goBest", "(IIIII)V"⟩ ⟨"NailedByWordModel", "goBest", "(IIIII)V"⟩) ∈ lw_all := lw_g (lw_at lw_ms 83 rfl) rfl
theorem qs84 : (Cond.selects "NailedByWordModel" ⟨"NailedByWordModel", "dayFrom", "(III)I"⟩ ⟨"NailedByWordModel", "dayFrom", "(III)I"⟩) ∈ lw_all := lw_g (lw_at lw_ms 84 rfl) rfl
theorem qs85 : (Cond.selects "NailedByWordModel" ⟨"NailedByWordModel", "hereOf", "(I)I"⟩ ⟨"NailedByWordModel", "hereOf", "(I)I"⟩) ∈ lw_all := lw_g (lw_at lw_ms 85 rfl) rfl
theorem qs86 : (Cond.selects "NailedByWordModel" ⟨"NailedByWordModel", "freesBy", "(III)Z"⟩ ⟨"NailedByWordModel", "freesBy", "(III)Z"⟩) ∈ lw_all := lw_g (lw_at lw_ms 86 rfl) rfl
theorem qs87 : (Cond.selects "NailedByWordModel" ⟨"NailedByWordModel", "allFree", "(I)Z"⟩ ⟨"NailedByWordModel", "allFree", "(I)Z"⟩) ∈ lw_all := lw_g (lw_at lw_ms 87 rfl) rfl
theorem qs88 : (Cond.selects "NailedByWordModel" ⟨"NailedByWordModel", "promisedTo", "(I)I"⟩ ⟨"NailedByWordModel", "promisedTo", "(I)I"⟩) ∈ lw_all := lw_g (lw_at lw_ms 88 rfl) rfl
theorem qs89 : (Cond.selects "NailedByWordModel" ⟨"NailedByWordModel", "nobodyHeld", "()Z"⟩ ⟨"NailedByWordModel", "nobodyHeld", "()Z"⟩) ∈ lw_all := lw_g (lw_at lw_ms 89 rfl) rfl
theorem qs90 : (Cond.selects "NailedByWordModel" ⟨"NailedByWordModel", "heldToward", "(I)I"⟩ ⟨"NailedByWordModel", "heldToward", "(I)I"⟩) ∈ lw_all := lw_g (lw_at lw_ms 90 rfl) rfl
theorem qs91 : (Cond.selects "NailedByWordModel" ⟨"NailedByWordModel", "canBe", "(II)Z"⟩ ⟨"NailedByWordModel", "canBe", "(II)Z"⟩) ∈ lw_all := lw_g (lw_at lw_ms 91 rfl) rfl
theorem qs92 : (Cond.selects "NailedByWordModel" ⟨"NailedByWordModel", "goRound", "(IIIII)V"⟩ ⟨"NailedByWordModel", "goRound", "(IIIII)V"⟩) ∈ lw_all := lw_g (lw_at lw_ms 92 rfl) rfl
theorem qs93 : (Cond.selects "NailedByWordModel" ⟨"NailedByWordModel", "goForgot", "(III)V"⟩ ⟨"NailedByWordModel", "goForgot", "(III)V"⟩) ∈ lw_all := lw_g (lw_at lw_ms 93 rfl) rfl
theorem qs94 : (Cond.selects "NailedByWordModel" ⟨"NailedByWordModel", "manBest", "(III)I"⟩ ⟨"NailedByWordModel", "manBest", "(III)I"⟩) ∈ lw_all := lw_g (lw_at lw_ms 94 rfl) rfl
theorem qs95 : (Cond.selects "NailedByWordModel" ⟨"NailedByWordModel", "byStep", "(IIII)I"⟩ ⟨"NailedByWordModel", "byStep", "(IIII)I"⟩) ∈ lw_all := lw_g (lw_at lw_ms 95 rfl) rfl
theorem qs96 : (Cond.selects "NailedByWordModel" ⟨"NailedByWordModel", "childBest", "(III)I"⟩ ⟨"NailedByWordModel", "childBest", "(III)I"⟩) ∈ lw_all := lw_g (lw_at lw_ms 96 rfl) rfl
theorem qs97 : (Cond.selects "NailedByWordModel" ⟨"NailedByWordModel", "leastToForget", "()I"⟩ ⟨"NailedByWordModel", "leastToForget", "()I"⟩) ∈ lw_all := lw_g (lw_at lw_ms 97 rfl) rfl
theorem qs98 : (Cond.selects "NailedByWordModel" ⟨"NailedByWordModel", "isBody", "(I)Z"⟩ ⟨"NailedByWordModel", "isBody", "(I)Z"⟩) ∈ lw_all := lw_g (lw_at lw_ms 98 rfl) rfl
theorem qs99 : (Cond.selects "NailedByWordModel" ⟨"NailedByWordModel", "holding", "(II)I"⟩ ⟨"NailedByWordModel", "holding", "(II)I"⟩) ∈ lw_all := lw_g (lw_at lw_ms 99 rfl) rfl
theorem qs100 : (Cond.selects "NailedByWordModel" ⟨"NailedByWordModel", "ran", "(I)V"⟩ ⟨"NailedByWordModel", "ran", "(I)V"⟩) ∈ lw_all := lw_g (lw_at lw_ms 100 rfl) rfl
theorem qs101 : (Cond.selects "NailedByWordModel" ⟨"NailedByWordModel", "plainHolds", "(II)I"⟩ ⟨"NailedByWordModel", "plainHolds", "(II)I"⟩) ∈ lw_all := lw_g (lw_at lw_ms 101 rfl) rfl
theorem qs102 : (Cond.selects "NailedByWordModel" ⟨"NailedByWordModel", "pittHolds", "(II)I"⟩ ⟨"NailedByWordModel", "pittHolds", "(II)I"⟩) ∈ lw_all := lw_g (lw_at lw_ms 102 rfl) rfl
theorem qs103 : (Cond.selects "NailedByWordModel" ⟨"NailedByWordModel", "pulling", "(II)I"⟩ ⟨"NailedByWordModel", "pulling", "(II)I"⟩) ∈ lw_all := lw_g (lw_at lw_ms 103 rfl) rfl
theorem qs104 : (Cond.selects "NailedByWordModel" ⟨"NailedByWordModel", "lacePulls", "(II)I"⟩ ⟨"NailedByWordModel", "lacePulls", "(II)I"⟩) ∈ lw_all := lw_g (lw_at lw_ms 104 rfl) rfl
theorem qs105 : (Cond.selects "NailedByWordModel" ⟨"NailedByWordModel", "plainPulls", "(II)I"⟩ ⟨"NailedByWordModel", "plainPulls", "(II)I"⟩) ∈ lw_all := lw_g (lw_at lw_ms 105 rfl) rfl
theorem qs106 : (Cond.selects "NailedByWordModel" ⟨"NailedByWordModel", "freeing", "(II)I"⟩ ⟨"NailedByWordModel", "freeing", "(II)I"⟩) ∈ lw_all := lw_g (lw_at lw_ms 106 rfl) rfl
theorem qs107 : (Cond.selects "NailedByWordModel" ⟨"NailedByWordModel", "heelFrees", "(II)I"⟩ ⟨"NailedByWordModel", "heelFrees", "(II)I"⟩) ∈ lw_all := lw_g (lw_at lw_ms 107 rfl) rfl
theorem qs108 : (Cond.selects "NailedByWordModel" ⟨"NailedByWordModel", "plainFrees", "(II)I"⟩ ⟨"NailedByWordModel", "plainFrees", "(II)I"⟩) ∈ lw_all := lw_g (lw_at lw_ms 108 rfl) rfl
theorem qs109 : (Cond.selects "NailedByWordModel" ⟨"NailedByWordModel", "telling", "(II)I"⟩ ⟨"NailedByWordModel", "telling", "(II)I"⟩) ∈ lw_all := lw_g (lw_at lw_ms 109 rfl) rfl
theorem qs110 : (Cond.selects "NailedByWordModel" ⟨"NailedByWordModel", "plainTells", "(II)I"⟩ ⟨"NailedByWordModel", "plainTells", "(II)I"⟩) ∈ lw_all := lw_g (lw_at lw_ms 110 rfl) rfl
theorem qs111 : (Cond.selects "NailedByWordModel" ⟨"NailedByWordModel", "whyNoPlace", "(II)I"⟩ ⟨"NailedByWordModel", "whyNoPlace", "(II)I"⟩) ∈ lw_all := lw_g (lw_at lw_ms 111 rfl) rfl
