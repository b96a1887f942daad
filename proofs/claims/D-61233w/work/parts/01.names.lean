-- ===== PART A: goes FIRST, ahead of the names: the tables' words, and 'selects' of the private methods out of them =====
/-- a private method of a class that the tables say can be made, by its rows of tables_1 -/
def lw_okq (q : MethodName × Nat) : Prop := (q.1.cls ≠ "java/lang/invoke/MethodHandle" ∧ q.1.cls ≠ "java/lang/invoke/VarHandle") ∧ Cond.instantiable q.1.cls q.2 ∈ tables_1 ∧ Cond.privateMethod q.1 ∈ tables_1 ∧ Cond.instanceMethod q.1 ∈ tables_1
theorem lw_p0 : lw_okq (⟨"RoomFills", "best", "(I)LRoomFills$Plan;"⟩, 14) := ⟨⟨by decide +kernel, by decide +kernel⟩, List.mem_of_getElem? (i := 16) (by decide +kernel), List.mem_of_getElem? (i := 87) (by decide +kernel), List.mem_of_getElem? (i := 88) (by decide +kernel)⟩
theorem lw_p1 : lw_okq (⟨"RoomFills", "isUnlike", "(II)Z"⟩, 14) := ⟨⟨by decide +kernel, by decide +kernel⟩, List.mem_of_getElem? (i := 16) (by decide +kernel), List.mem_of_getElem? (i := 91) (by decide +kernel), List.mem_of_getElem? (i := 92) (by decide +kernel)⟩
theorem lw_p2 : lw_okq (⟨"RoomFills", "hasRoom", "(I)Z"⟩, 14) := ⟨⟨by decide +kernel, by decide +kernel⟩, List.mem_of_getElem? (i := 16) (by decide +kernel), List.mem_of_getElem? (i := 101) (by decide +kernel), List.mem_of_getElem? (i := 102) (by decide +kernel)⟩
theorem lw_p3 : lw_okq (⟨"RoomFills", "atMost", "(I)J"⟩, 14) := ⟨⟨by decide +kernel, by decide +kernel⟩, List.mem_of_getElem? (i := 16) (by decide +kernel), List.mem_of_getElem? (i := 105) (by decide +kernel), List.mem_of_getElem? (i := 106) (by decide +kernel)⟩
theorem lw_p4 : lw_okq (⟨"RoomFills", "fill", "(I)V"⟩, 14) := ⟨⟨by decide +kernel, by decide +kernel⟩, List.mem_of_getElem? (i := 16) (by decide +kernel), List.mem_of_getElem? (i := 109) (by decide +kernel), List.mem_of_getElem? (i := 110) (by decide +kernel)⟩
theorem lw_p5 : lw_okq (⟨"RoomFills", "reckon", "(IIIII)J"⟩, 14) := ⟨⟨by decide +kernel, by decide +kernel⟩, List.mem_of_getElem? (i := 16) (by decide +kernel), List.mem_of_getElem? (i := 119) (by decide +kernel), List.mem_of_getElem? (i := 120) (by decide +kernel)⟩
theorem lw_p6 : lw_okq (⟨"RoomFills", "behindFree", "(I)I"⟩, 14) := ⟨⟨by decide +kernel, by decide +kernel⟩, List.mem_of_getElem? (i := 16) (by decide +kernel), List.mem_of_getElem? (i := 124) (by decide +kernel), List.mem_of_getElem? (i := 125) (by decide +kernel)⟩
theorem lw_p7 : lw_okq (⟨"RoomFills", "may", "(IIIII)Z"⟩, 14) := ⟨⟨by decide +kernel, by decide +kernel⟩, List.mem_of_getElem? (i := 16) (by decide +kernel), List.mem_of_getElem? (i := 128) (by decide +kernel), List.mem_of_getElem? (i := 129) (by decide +kernel)⟩
theorem lw_p8 : lw_okq (⟨"RoomFills", "isOpen", "(II)Z"⟩, 14) := ⟨⟨by decide +kernel, by decide +kernel⟩, List.mem_of_getElem? (i := 16) (by decide +kernel), List.mem_of_getElem? (i := 132) (by decide +kernel), List.mem_of_getElem? (i := 133) (by decide +kernel)⟩
theorem lw_p9 : lw_okq (⟨"RoomFills", "isMet", "(LRoomFills$Item;I)Z"⟩, 14) := ⟨⟨by decide +kernel, by decide +kernel⟩, List.mem_of_getElem? (i := 16) (by decide +kernel), List.mem_of_getElem? (i := 136) (by decide +kernel), List.mem_of_getElem? (i := 137) (by decide +kernel)⟩
theorem lw_p10 : lw_okq (⟨"RoomFills", "withItem", "(IIII)J"⟩, 14) := ⟨⟨by decide +kernel, by decide +kernel⟩, List.mem_of_getElem? (i := 16) (by decide +kernel), List.mem_of_getElem? (i := 140) (by decide +kernel), List.mem_of_getElem? (i := 141) (by decide +kernel)⟩
theorem lw_p11 : lw_okq (⟨"RoomFills", "walk", "(I)LRoomFills$Plan;"⟩, 14) := ⟨⟨by decide +kernel, by decide +kernel⟩, List.mem_of_getElem? (i := 16) (by decide +kernel), List.mem_of_getElem? (i := 147) (by decide +kernel), List.mem_of_getElem? (i := 148) (by decide +kernel)⟩
theorem lw_p12 : lw_okq (⟨"RoomFills", "tell", "(LRoomFills$Plan;)I"⟩, 14) := ⟨⟨by decide +kernel, by decide +kernel⟩, List.mem_of_getElem? (i := 16) (by decide +kernel), List.mem_of_getElem? (i := 193) (by decide +kernel), List.mem_of_getElem? (i := 194) (by decide +kernel)⟩
theorem lw_p13 : lw_okq (⟨"RoomFills", "isBeyond", "(I)Z"⟩, 14) := ⟨⟨by decide +kernel, by decide +kernel⟩, List.mem_of_getElem? (i := 16) (by decide +kernel), List.mem_of_getElem? (i := 201) (by decide +kernel), List.mem_of_getElem? (i := 202) (by decide +kernel)⟩
theorem lw_p14 : lw_okq (⟨"RoomFills", "isPut", "(I)Z"⟩, 14) := ⟨⟨by decide +kernel, by decide +kernel⟩, List.mem_of_getElem? (i := 16) (by decide +kernel), List.mem_of_getElem? (i := 205) (by decide +kernel), List.mem_of_getElem? (i := 206) (by decide +kernel)⟩
theorem lw_p15 : lw_okq (⟨"RoomFills", "pairsBroken", "(Z)I"⟩, 14) := ⟨⟨by decide +kernel, by decide +kernel⟩, List.mem_of_getElem? (i := 16) (by decide +kernel), List.mem_of_getElem? (i := 209) (by decide +kernel), List.mem_of_getElem? (i := 210) (by decide +kernel)⟩
def lw_privs_1 : List (MethodName × Nat) := [(⟨"RoomFills", "best", "(I)LRoomFills$Plan;"⟩, 14), (⟨"RoomFills", "isUnlike", "(II)Z"⟩, 14), (⟨"RoomFills", "hasRoom", "(I)Z"⟩, 14), (⟨"RoomFills", "atMost", "(I)J"⟩, 14), (⟨"RoomFills", "fill", "(I)V"⟩, 14), (⟨"RoomFills", "reckon", "(IIIII)J"⟩, 14), (⟨"RoomFills", "behindFree", "(I)I"⟩, 14), (⟨"RoomFills", "may", "(IIIII)Z"⟩, 14), (⟨"RoomFills", "isOpen", "(II)Z"⟩, 14), (⟨"RoomFills", "isMet", "(LRoomFills$Item;I)Z"⟩, 14), (⟨"RoomFills", "withItem", "(IIII)J"⟩, 14), (⟨"RoomFills", "walk", "(I)LRoomFills$Plan;"⟩, 14), (⟨"RoomFills", "tell", "(LRoomFills$Plan;)I"⟩, 14), (⟨"RoomFills", "isBeyond", "(I)Z"⟩, 14), (⟨"RoomFills", "isPut", "(I)Z"⟩, 14), (⟨"RoomFills", "pairsBroken", "(Z)I"⟩, 14)]
theorem lw_r1 : ∀ q ∈ lw_privs_1, lw_okq q := List.forall_mem_cons.mpr ⟨lw_p0, List.forall_mem_cons.mpr ⟨lw_p1, List.forall_mem_cons.mpr ⟨lw_p2, List.forall_mem_cons.mpr ⟨lw_p3, List.forall_mem_cons.mpr ⟨lw_p4, List.forall_mem_cons.mpr ⟨lw_p5, List.forall_mem_cons.mpr ⟨lw_p6, List.forall_mem_cons.mpr ⟨lw_p7, List.forall_mem_cons.mpr ⟨lw_p8, List.forall_mem_cons.mpr ⟨lw_p9, List.forall_mem_cons.mpr ⟨lw_p10, List.forall_mem_cons.mpr ⟨lw_p11, List.forall_mem_cons.mpr ⟨lw_p12, List.forall_mem_cons.mpr ⟨lw_p13, List.forall_mem_cons.mpr ⟨lw_p14, List.forall_mem_cons.mpr ⟨lw_p15, fun _ h => absurd h List.not_mem_nil⟩⟩⟩⟩⟩⟩⟩⟩⟩⟩⟩⟩⟩⟩⟩⟩
theorem lw_p16 : lw_okq (⟨"RoomFills", "share", "(II)Z"⟩, 14) := ⟨⟨by decide +kernel, by decide +kernel⟩, List.mem_of_getElem? (i := 16) (by decide +kernel), List.mem_of_getElem? (i := 213) (by decide +kernel), List.mem_of_getElem? (i := 214) (by decide +kernel)⟩
theorem lw_p17 : lw_okq (⟨"RoomFills", "touches", "(II)Z"⟩, 14) := ⟨⟨by decide +kernel, by decide +kernel⟩, List.mem_of_getElem? (i := 16) (by decide +kernel), List.mem_of_getElem? (i := 217) (by decide +kernel), List.mem_of_getElem? (i := 218) (by decide +kernel)⟩
theorem lw_p18 : lw_okq (⟨"RoomFills", "isFull", "()Z"⟩, 14) := ⟨⟨by decide +kernel, by decide +kernel⟩, List.mem_of_getElem? (i := 16) (by decide +kernel), List.mem_of_getElem? (i := 221) (by decide +kernel), List.mem_of_getElem? (i := 222) (by decide +kernel)⟩
theorem lw_p19 : lw_okq (⟨"java/lang/Throwable", "fillInStackTrace", "(I)Ljava/lang/Throwable;"⟩, 6) := ⟨⟨by decide +kernel, by decide +kernel⟩, List.mem_of_getElem? (i := 285) (by decide +kernel), List.mem_of_getElem? (i := 283) (by decide +kernel), List.mem_of_getElem? (i := 284) (by decide +kernel)⟩
theorem lw_p20 : lw_okq (⟨"RoomFills", "told", "(Z)Z"⟩, 14) := ⟨⟨by decide +kernel, by decide +kernel⟩, List.mem_of_getElem? (i := 16) (by decide +kernel), List.mem_of_getElem? (i := 311) (by decide +kernel), List.mem_of_getElem? (i := 312) (by decide +kernel)⟩
theorem lw_p21 : lw_okq (⟨"RoomFills", "itemAt", "(I)LRoomFills$Item;"⟩, 14) := ⟨⟨by decide +kernel, by decide +kernel⟩, List.mem_of_getElem? (i := 16) (by decide +kernel), List.mem_of_getElem? (i := 419) (by decide +kernel), List.mem_of_getElem? (i := 420) (by decide +kernel)⟩
theorem lw_p22 : lw_okq (⟨"RoomFills", "pairThere", "(II)V"⟩, 14) := ⟨⟨by decide +kernel, by decide +kernel⟩, List.mem_of_getElem? (i := 16) (by decide +kernel), List.mem_of_getElem? (i := 449) (by decide +kernel), List.mem_of_getElem? (i := 450) (by decide +kernel)⟩
theorem lw_p23 : lw_okq (⟨"RoomFills", "wide", "(I)I"⟩, 14) := ⟨⟨by decide +kernel, by decide +kernel⟩, List.mem_of_getElem? (i := 16) (by decide +kernel), List.mem_of_getElem? (i := 497) (by decide +kernel), List.mem_of_getElem? (i := 498) (by decide +kernel)⟩
theorem lw_p24 : lw_okq (⟨"RoomFills", "begins", "(I)Z"⟩, 14) := ⟨⟨by decide +kernel, by decide +kernel⟩, List.mem_of_getElem? (i := 16) (by decide +kernel), List.mem_of_getElem? (i := 515) (by decide +kernel), List.mem_of_getElem? (i := 516) (by decide +kernel)⟩
theorem lw_p25 : lw_okq (⟨"RoomFillsModel", "change", "()V"⟩, 30) := ⟨⟨by decide +kernel, by decide +kernel⟩, List.mem_of_getElem? (i := 528) (by decide +kernel), List.mem_of_getElem? (i := 633) (by decide +kernel), List.mem_of_getElem? (i := 634) (by decide +kernel)⟩
theorem lw_p26 : lw_okq (⟨"RoomFillsModel", "isItem", "(I)Z"⟩, 30) := ⟨⟨by decide +kernel, by decide +kernel⟩, List.mem_of_getElem? (i := 528) (by decide +kernel), List.mem_of_getElem? (i := 654) (by decide +kernel), List.mem_of_getElem? (i := 655) (by decide +kernel)⟩
theorem lw_p27 : lw_okq (⟨"RoomFillsModel", "pairCode", "(II)I"⟩, 30) := ⟨⟨by decide +kernel, by decide +kernel⟩, List.mem_of_getElem? (i := 528) (by decide +kernel), List.mem_of_getElem? (i := 664) (by decide +kernel), List.mem_of_getElem? (i := 665) (by decide +kernel)⟩
theorem lw_p28 : lw_okq (⟨"RoomFillsModel", "find", "(I)Z"⟩, 30) := ⟨⟨by decide +kernel, by decide +kernel⟩, List.mem_of_getElem? (i := 528) (by decide +kernel), List.mem_of_getElem? (i := 684) (by decide +kernel), List.mem_of_getElem? (i := 685) (by decide +kernel)⟩
theorem lw_p29 : lw_okq (⟨"RoomFillsModel", "fill", "()V"⟩, 30) := ⟨⟨by decide +kernel, by decide +kernel⟩, List.mem_of_getElem? (i := 528) (by decide +kernel), List.mem_of_getElem? (i := 691) (by decide +kernel), List.mem_of_getElem? (i := 692) (by decide +kernel)⟩
theorem lw_p30 : lw_okq (⟨"RoomFillsModel", "look", "()V"⟩, 30) := ⟨⟨by decide +kernel, by decide +kernel⟩, List.mem_of_getElem? (i := 528) (by decide +kernel), List.mem_of_getElem? (i := 695) (by decide +kernel), List.mem_of_getElem? (i := 696) (by decide +kernel)⟩
theorem lw_p31 : lw_okq (⟨"RoomFillsModel", "isNeeded", "(II)Z"⟩, 30) := ⟨⟨by decide +kernel, by decide +kernel⟩, List.mem_of_getElem? (i := 528) (by decide +kernel), List.mem_of_getElem? (i := 699) (by decide +kernel), List.mem_of_getElem? (i := 700) (by decide +kernel)⟩
def lw_privs_2 : List (MethodName × Nat) := [(⟨"RoomFills", "share", "(II)Z"⟩, 14), (⟨"RoomFills", "touches", "(II)Z"⟩, 14), (⟨"RoomFills", "isFull", "()Z"⟩, 14), (⟨"java/lang/Throwable", "fillInStackTrace", "(I)Ljava/lang/Throwable;"⟩, 6), (⟨"RoomFills", "told", "(Z)Z"⟩, 14), (⟨"RoomFills", "itemAt", "(I)LRoomFills$Item;"⟩, 14), (⟨"RoomFills", "pairThere", "(II)V"⟩, 14), (⟨"RoomFills", "wide", "(I)I"⟩, 14), (⟨"RoomFills", "begins", "(I)Z"⟩, 14), (⟨"RoomFillsModel", "change", "()V"⟩, 30), (⟨"RoomFillsModel", "isItem", "(I)Z"⟩, 30), (⟨"RoomFillsModel", "pairCode", "(II)I"⟩, 30), (⟨"RoomFillsModel", "find", "(I)Z"⟩, 30), (⟨"RoomFillsModel", "fill", "()V"⟩, 30), (⟨"RoomFillsModel", "look", "()V"⟩, 30), (⟨"RoomFillsModel", "isNeeded", "(II)Z"⟩, 30)]
theorem lw_r2 : ∀ q ∈ lw_privs_2, lw_okq q := List.forall_mem_cons.mpr ⟨lw_p16, List.forall_mem_cons.mpr ⟨lw_p17, List.forall_mem_cons.mpr ⟨lw_p18, List.forall_mem_cons.mpr ⟨lw_p19, List.forall_mem_cons.mpr ⟨lw_p20, List.forall_mem_cons.mpr ⟨lw_p21, List.forall_mem_cons.mpr ⟨lw_p22, List.forall_mem_cons.mpr ⟨lw_p23, List.forall_mem_cons.mpr ⟨lw_p24, List.forall_mem_cons.mpr ⟨lw_p25, List.forall_mem_cons.mpr ⟨lw_p26, List.forall_mem_cons.mpr ⟨lw_p27, List.forall_mem_cons.mpr ⟨lw_p28, List.forall_mem_cons.mpr ⟨lw_p29, List.forall_mem_cons.mpr ⟨lw_p30, List.forall_mem_cons.mpr ⟨lw_p31, fun _ h => absurd h List.not_mem_nil⟩⟩⟩⟩⟩⟩⟩⟩⟩⟩⟩⟩⟩⟩⟩⟩
theorem lw_p32 : lw_okq (⟨"RoomFillsModel", "fillAt", "(III)V"⟩, 30) := ⟨⟨by decide +kernel, by decide +kernel⟩, List.mem_of_getElem? (i := 528) (by decide +kernel), List.mem_of_getElem? (i := 703) (by decide +kernel), List.mem_of_getElem? (i := 704) (by decide +kernel)⟩
theorem lw_p33 : lw_okq (⟨"RoomFillsModel", "behindFree", "(I)I"⟩, 30) := ⟨⟨by decide +kernel, by decide +kernel⟩, List.mem_of_getElem? (i := 528) (by decide +kernel), List.mem_of_getElem? (i := 710) (by decide +kernel), List.mem_of_getElem? (i := 711) (by decide +kernel)⟩
theorem lw_p34 : lw_okq (⟨"RoomFillsModel", "choose", "(IIJJ)V"⟩, 30) := ⟨⟨by decide +kernel, by decide +kernel⟩, List.mem_of_getElem? (i := 528) (by decide +kernel), List.mem_of_getElem? (i := 714) (by decide +kernel), List.mem_of_getElem? (i := 715) (by decide +kernel)⟩
theorem lw_p35 : lw_okq (⟨"RoomFillsModel", "mayStand", "(IIII)Z"⟩, 30) := ⟨⟨by decide +kernel, by decide +kernel⟩, List.mem_of_getElem? (i := 528) (by decide +kernel), List.mem_of_getElem? (i := 718) (by decide +kernel), List.mem_of_getElem? (i := 719) (by decide +kernel)⟩
theorem lw_p36 : lw_okq (⟨"RoomFillsModel", "isClear", "(II)Z"⟩, 30) := ⟨⟨by decide +kernel, by decide +kernel⟩, List.mem_of_getElem? (i := 528) (by decide +kernel), List.mem_of_getElem? (i := 722) (by decide +kernel), List.mem_of_getElem? (i := 723) (by decide +kernel)⟩
theorem lw_p37 : lw_okq (⟨"RoomFillsModel", "worthBehind", "(II)J"⟩, 30) := ⟨⟨by decide +kernel, by decide +kernel⟩, List.mem_of_getElem? (i := 528) (by decide +kernel), List.mem_of_getElem? (i := 726) (by decide +kernel), List.mem_of_getElem? (i := 727) (by decide +kernel)⟩
theorem lw_p38 : lw_okq (⟨"RoomFillsModel", "walk", "()I"⟩, 30) := ⟨⟨by decide +kernel, by decide +kernel⟩, List.mem_of_getElem? (i := 528) (by decide +kernel), List.mem_of_getElem? (i := 730) (by decide +kernel), List.mem_of_getElem? (i := 731) (by decide +kernel)⟩
theorem lw_p39 : lw_okq (⟨"RoomFillsModel", "goesOn", "(IIJJ)Z"⟩, 30) := ⟨⟨by decide +kernel, by decide +kernel⟩, List.mem_of_getElem? (i := 528) (by decide +kernel), List.mem_of_getElem? (i := 734) (by decide +kernel), List.mem_of_getElem? (i := 735) (by decide +kernel)⟩
theorem lw_p40 : lw_okq (⟨"RoomFillsModel", "add", "(III)V"⟩, 30) := ⟨⟨by decide +kernel, by decide +kernel⟩, List.mem_of_getElem? (i := 528) (by decide +kernel), List.mem_of_getElem? (i := 738) (by decide +kernel), List.mem_of_getElem? (i := 739) (by decide +kernel)⟩
theorem lw_p41 : lw_okq (⟨"RoomFillsModel", "none", "()Z"⟩, 30) := ⟨⟨by decide +kernel, by decide +kernel⟩, List.mem_of_getElem? (i := 528) (by decide +kernel), List.mem_of_getElem? (i := 751) (by decide +kernel), List.mem_of_getElem? (i := 752) (by decide +kernel)⟩
theorem lw_p42 : lw_okq (⟨"RoomFillsModel", "beginsTop", "(I)Z"⟩, 30) := ⟨⟨by decide +kernel, by decide +kernel⟩, List.mem_of_getElem? (i := 528) (by decide +kernel), List.mem_of_getElem? (i := 768) (by decide +kernel), List.mem_of_getElem? (i := 769) (by decide +kernel)⟩
theorem lw_p43 : lw_okq (⟨"RoomFillsModel", "hasGap", "()Z"⟩, 30) := ⟨⟨by decide +kernel, by decide +kernel⟩, List.mem_of_getElem? (i := 528) (by decide +kernel), List.mem_of_getElem? (i := 782) (by decide +kernel), List.mem_of_getElem? (i := 783) (by decide +kernel)⟩
theorem lw_p44 : lw_okq (⟨"RoomFillsModel", "covers", "(II)Z"⟩, 30) := ⟨⟨by decide +kernel, by decide +kernel⟩, List.mem_of_getElem? (i := 528) (by decide +kernel), List.mem_of_getElem? (i := 786) (by decide +kernel), List.mem_of_getElem? (i := 787) (by decide +kernel)⟩
theorem lw_p45 : lw_okq (⟨"RoomFillsModel", "isPut", "(I)Z"⟩, 30) := ⟨⟨by decide +kernel, by decide +kernel⟩, List.mem_of_getElem? (i := 528) (by decide +kernel), List.mem_of_getElem? (i := 790) (by decide +kernel), List.mem_of_getElem? (i := 791) (by decide +kernel)⟩
theorem lw_p46 : lw_okq (⟨"RoomFillsModel", "touch", "(II)Z"⟩, 30) := ⟨⟨by decide +kernel, by decide +kernel⟩, List.mem_of_getElem? (i := 528) (by decide +kernel), List.mem_of_getElem? (i := 794) (by decide +kernel), List.mem_of_getElem? (i := 795) (by decide +kernel)⟩
def lw_privs_3 : List (MethodName × Nat) := [(⟨"RoomFillsModel", "fillAt", "(III)V"⟩, 30), (⟨"RoomFillsModel", "behindFree", "(I)I"⟩, 30), (⟨"RoomFillsModel", "choose", "(IIJJ)V"⟩, 30), (⟨"RoomFillsModel", "mayStand", "(IIII)Z"⟩, 30), (⟨"RoomFillsModel", "isClear", "(II)Z"⟩, 30), (⟨"RoomFillsModel", "worthBehind", "(II)J"⟩, 30), (⟨"RoomFillsModel", "walk", "()I"⟩, 30), (⟨"RoomFillsModel", "goesOn", "(IIJJ)Z"⟩, 30), (⟨"RoomFillsModel", "add", "(III)V"⟩, 30), (⟨"RoomFillsModel", "none", "()Z"⟩, 30), (⟨"RoomFillsModel", "beginsTop", "(I)Z"⟩, 30), (⟨"RoomFillsModel", "hasGap", "()Z"⟩, 30), (⟨"RoomFillsModel", "covers", "(II)Z"⟩, 30), (⟨"RoomFillsModel", "isPut", "(I)Z"⟩, 30), (⟨"RoomFillsModel", "touch", "(II)Z"⟩, 30)]
theorem lw_r3 : ∀ q ∈ lw_privs_3, lw_okq q := List.forall_mem_cons.mpr ⟨lw_p32, List.forall_mem_cons.mpr ⟨lw_p33, List.forall_mem_cons.mpr ⟨lw_p34, List.forall_mem_cons.mpr ⟨lw_p35, List.forall_mem_cons.mpr ⟨lw_p36, List.forall_mem_cons.mpr ⟨lw_p37, List.forall_mem_cons.mpr ⟨lw_p38, List.forall_mem_cons.mpr ⟨lw_p39, List.forall_mem_cons.mpr ⟨lw_p40, List.forall_mem_cons.mpr ⟨lw_p41, List.forall_mem_cons.mpr ⟨lw_p42, List.forall_mem_cons.mpr ⟨lw_p43, List.forall_mem_cons.mpr ⟨lw_p44, List.forall_mem_cons.mpr ⟨lw_p45, List.forall_mem_cons.mpr ⟨lw_p46, fun _ h => absurd h List.not_mem_nil⟩⟩⟩⟩⟩⟩⟩⟩⟩⟩⟩⟩⟩⟩⟩
def lw_privs : List (MethodName × Nat) := lw_privs_1 ++ (lw_privs_2 ++ (lw_privs_3))
def lw_tbl : List Cond := k2_sels lw_privs ++ tables_1
theorem lw_privs_ok : ∀ q ∈ lw_privs, lw_okq q := by
  show ∀ q ∈ lw_privs_1 ++ (lw_privs_2 ++ (lw_privs_3)), lw_okq q
  exact List.forall_mem_append.mpr ⟨lw_r1, List.forall_mem_append.mpr ⟨lw_r2, lw_r3⟩⟩
-- ===== end of PART A; then your names; then what follows =====
def R_X : String := "RoomFills"
def F_X : u_T := fun k => match k with
  | 0 => ("RoomFills", "steps", "I", true)
  | 1 => ("RoomFills", "free", "[Z", true)
  | 2 => ("RoomFills", "pipes", "[I", true)
  | 3 => ("RoomFills", "pipeCount", "I", false)
  | 4 => ("RoomFills", "items", "[LRoomFills$Item;", true)
  | 5 => ("RoomFills", "many", "I", false)
  | 6 => ("RoomFills", "nears", "[[J", true)
  | 7 => ("RoomFills", "bars", "[[Z", true)
  | 8 => ("RoomFills", "least", "I", false)
  | 9 => ("RoomFills", "most", "I", false)
  | 10 => ("RoomFills", "table", "[J", true)
  | 11 => ("RoomFills", "told", "[I", true)
  | 12 => ("RoomFills", "tellings", "I", false)
  | _ => ("RoomFills", "latest", "LRoomFills$Plan;", false)
def t_X : Nat → FieldType := fun k => match k with
  | 0 => .int
  | 1 => .array .boolean
  | 2 => .array .int
  | 3 => .int
  | 4 => .array (.object "RoomFills$Item")
  | 5 => .int
  | 6 => .array (.array .long)
  | 7 => .array (.array .boolean)
  | 8 => .int
  | 9 => .int
  | 10 => .array .long
  | 11 => .array .int
  | 12 => .int
  | _ => .object "RoomFills$Plan"
def R_I : String := "RoomFills$Item"
def F_I : u_T := fun k => match k with
  | 0 => ("RoomFills$Item", "width", "I", true)
  | 1 => ("RoomFills$Item", "worth", "J", true)
  | 2 => ("RoomFills$Item", "cents", "J", true)
  | 3 => ("RoomFills$Item", "need", "I", false)
  | 4 => ("RoomFills$Item", "must", "Z", false)
  | _ => ("RoomFills$Item", "put", "I", false)
def t_I : Nat → FieldType := fun k => match k with
  | 0 => .int
  | 1 => .long
  | 2 => .long
  | 3 => .int
  | 4 => .boolean
  | _ => .int
def R_P : String := "RoomFills$Plan"
def F_P : u_T := fun k => match k with
  | 0 => ("RoomFills$Plan", "codes", "[I", true)
  | 1 => ("RoomFills$Plan", "begins", "[I", true)
  | 2 => ("RoomFills$Plan", "many", "I", false)
  | 3 => ("RoomFills$Plan", "set", "I", false)
  | 4 => ("RoomFills$Plan", "worth", "J", false)
  | _ => ("RoomFills$Plan", "cents", "J", false)
def t_P : Nat → FieldType := fun k => match k with
  | 0 => .array .int
  | 1 => .array .int
  | 2 => .int
  | 3 => .int
  | 4 => .long
  | _ => .long
def R_M : String := "RoomFillsModel"
def F_M : u_T := fun k => match k with
  | 0 => ("RoomFillsModel", "code", "I", false)
  | 1 => ("RoomFillsModel", "steps", "I", true)
  | 2 => ("RoomFillsModel", "free", "[Z", true)
  | 3 => ("RoomFillsModel", "pipes", "I", false)
  | 4 => ("RoomFillsModel", "pipeAt", "[I", true)
  | 5 => ("RoomFillsModel", "items", "I", false)
  | 6 => ("RoomFillsModel", "widths", "[I", true)
  | 7 => ("RoomFillsModel", "worths", "[J", true)
  | 8 => ("RoomFillsModel", "cents", "[J", true)
  | 9 => ("RoomFillsModel", "needs", "[I", true)
  | 10 => ("RoomFillsModel", "musts", "[Z", true)
  | 11 => ("RoomFillsModel", "nears", "[J", true)
  | 12 => ("RoomFillsModel", "bars", "[Z", true)
  | 13 => ("RoomFillsModel", "least", "I", false)
  | 14 => ("RoomFillsModel", "most", "I", false)
  | 15 => ("RoomFillsModel", "put", "[I", true)
  | 16 => ("RoomFillsModel", "bestWorth", "[J", true)
  | 17 => ("RoomFillsModel", "bestCents", "[J", true)
  | 18 => ("RoomFillsModel", "mayEnd", "[Z", true)
  | 19 => ("RoomFillsModel", "clearFrom", "[I", true)
  | 20 => ("RoomFillsModel", "met", "[Z", true)
  | 21 => ("RoomFillsModel", "hasPlan", "Z", false)
  | 22 => ("RoomFillsModel", "told", "I", false)
  | 23 => ("RoomFillsModel", "toldSets", "[I", true)
  | 24 => ("RoomFillsModel", "pieces", "I", false)
  | 25 => ("RoomFillsModel", "pieceItem", "[I", true)
  | 26 => ("RoomFillsModel", "pieceAt", "[I", true)
  | 27 => ("RoomFillsModel", "pieceSize", "[I", true)
  | 28 => ("RoomFillsModel", "planWorth", "J", false)
  | _ => ("RoomFillsModel", "planCents", "J", false)
def t_M : Nat → FieldType := fun k => match k with
  | 0 => .int
  | 1 => .int
  | 2 => .array .boolean
  | 3 => .int
  | 4 => .array .int
  | 5 => .int
  | 6 => .array .int
  | 7 => .array .long
  | 8 => .array .long
  | 9 => .array .int
  | 10 => .array .boolean
  | 11 => .array .long
  | 12 => .array .boolean
  | 13 => .int
  | 14 => .int
  | 15 => .array .int
  | 16 => .array .long
  | 17 => .array .long
  | 18 => .array .boolean
  | 19 => .array .int
  | 20 => .array .boolean
  | 21 => .boolean
  | 22 => .int
  | 23 => .array .int
  | 24 => .int
  | 25 => .array .int
  | 26 => .array .int
  | 27 => .array .int
  | 28 => .long
  | _ => .long
def R_E0 : String := "java/lang/IllegalArgumentException"
def R_E1 : String := "java/lang/IllegalStateException"
def R_E2 : String := "java/lang/IndexOutOfBoundsException"
def R_law : String := "RoomFillsLaw"
def F_E : u_T := fun _ => ("", "", "", false)
def classes : List vw_C := [(R_X, F_X, 14), (R_I, F_I, 6), (R_P, F_P, 6), (R_M, F_M, 30), (R_E0, F_E, 0), (R_E1, F_E, 0), (R_E2, F_E, 0)]
theorem n_X : ∀ a, a < 14 → ∀ b, b < 14 → a ≠ b → (F_X a).2.1 ≠ (F_X b).2.1 := by decide +kernel
theorem t_X_ok : ∀ k, k < 14 → parseFieldDescriptor (F_X k).2.2.1 = some (t_X k) := by decide +kernel
theorem i_X : ∀ w ∈ u_ws R_X F_X 14, w ∈ lw_tbl := by decide +kernel
theorem n_I : ∀ a, a < 6 → ∀ b, b < 6 → a ≠ b → (F_I a).2.1 ≠ (F_I b).2.1 := by decide +kernel
theorem t_I_ok : ∀ k, k < 6 → parseFieldDescriptor (F_I k).2.2.1 = some (t_I k) := by decide +kernel
theorem i_I : ∀ w ∈ u_ws R_I F_I 6, w ∈ lw_tbl := by decide +kernel
theorem n_P : ∀ a, a < 6 → ∀ b, b < 6 → a ≠ b → (F_P a).2.1 ≠ (F_P b).2.1 := by decide +kernel
theorem t_P_ok : ∀ k, k < 6 → parseFieldDescriptor (F_P k).2.2.1 = some (t_P k) := by decide +kernel
theorem i_P : ∀ w ∈ u_ws R_P F_P 6, w ∈ lw_tbl := by decide +kernel
theorem n_M : ∀ a, a < 30 → ∀ b, b < 30 → a ≠ b → (F_M a).2.1 ≠ (F_M b).2.1 := by decide +kernel
theorem t_M_ok : ∀ k, k < 30 → parseFieldDescriptor (F_M k).2.2.1 = some (t_M k) := by decide +kernel
theorem i_M : ∀ w ∈ u_ws R_M F_M 30, w ∈ lw_tbl := by decide +kernel
/-- a method: name, bytes, locals, answer, handlers -/
abbrev Mk : Type := MethodName × ByteArray × Nat × Option FieldType × List (Nat × Nat × Nat × Nat)
def k_X_init : Mk := (⟨"RoomFills", "<init>", "(I)V"⟩, prog_1_method_1_code, 2, none, [])
def k_J_min : Mk := (⟨"java/lang/Math", "min", "(II)I"⟩, prog_12_method_69_code, 2, some .int, [])
def k_J_max : Mk := (⟨"java/lang/Math", "max", "(II)I"⟩, prog_12_method_65_code, 2, some .int, [])
def k_X_run : Mk := (⟨"RoomFills", "run", "()I"⟩, prog_1_method_32_code, 1, some .int, [])
def k_X_best : Mk := (⟨"RoomFills", "best", "(I)LRoomFills$Plan;"⟩, prog_1_method_30_code, 6, some (.object "RoomFills$Plan"), [])
def k_X_isUnlike : Mk := (⟨"RoomFills", "isUnlike", "(II)Z"⟩, prog_1_method_27_code, 5, some .boolean, [])
def k_J_bitCount : Mk := (⟨"java/lang/Integer", "bitCount", "(I)I"⟩, prog_11_method_49_code, 1, some .int, [])
def k_X_hasRoom : Mk := (⟨"RoomFills", "hasRoom", "(I)Z"⟩, prog_1_method_28_code, 4, some .boolean, [])
def k_X_atMost : Mk := (⟨"RoomFills", "atMost", "(I)J"⟩, prog_1_method_29_code, 6, some .long, [])
def k_X_fill : Mk := (⟨"RoomFills", "fill", "(I)V"⟩, prog_1_method_25_code, 5, none, [])
def k_X_touching : Mk := (⟨"RoomFills", "touching", "(I)I"⟩, prog_1_method_20_code, 1, some .int, [])
def k_X_cell : Mk := (⟨"RoomFills", "cell", "(IIII)I"⟩, prog_1_method_19_code, 4, some .int, [])
def k_X_reckon : Mk := (⟨"RoomFills", "reckon", "(IIIII)J"⟩, prog_1_method_24_code, 9, some .long, [])
def k_X_behindFree : Mk := (⟨"RoomFills", "behindFree", "(I)I"⟩, prog_1_method_23_code, 3, some .int, [])
def k_X_may : Mk := (⟨"RoomFills", "may", "(IIIII)Z"⟩, prog_1_method_21_code, 6, some .boolean, [])
def k_X_isOpen : Mk := (⟨"RoomFills", "isOpen", "(II)Z"⟩, prog_1_method_17_code, 5, some .boolean, [])
def k_X_isMet : Mk := (⟨"RoomFills", "isMet", "(LRoomFills$Item;I)Z"⟩, prog_1_method_18_code, 7, some .boolean, [])
def k_X_withItem : Mk := (⟨"RoomFills", "withItem", "(IIII)J"⟩, prog_1_method_22_code, 7, some .long, [])
def k_J_lmax : Mk := (⟨"java/lang/Math", "max", "(JJ)J"⟩, prog_12_method_66_code, 4, some .long, [])
def k_X_walk : Mk := (⟨"RoomFills", "walk", "(I)LRoomFills$Plan;"⟩, prog_1_method_26_code, 11, some (.object "RoomFills$Plan"), [])
def k_P_init : Mk := (⟨"RoomFills$Plan", "<init>", "()V"⟩, prog_3_method_1_code, 1, none, [])
def k_P_add : Mk := (⟨"RoomFills$Plan", "add", "(II)V"⟩, prog_3_method_2_code, 3, none, [])
def k_P_isBetter : Mk := (⟨"RoomFills$Plan", "isBetter", "(LRoomFills$Plan;)Z"⟩, prog_3_method_4_code, 2, some .boolean, [])
def k_P_isBefore : Mk := (⟨"RoomFills$Plan", "isBefore", "(LRoomFills$Plan;)Z"⟩, prog_3_method_3_code, 3, some .boolean, [])
def k_X_tell : Mk := (⟨"RoomFills", "tell", "(LRoomFills$Plan;)I"⟩, prog_1_method_31_code, 2, some .int, [])
def k_X_check : Mk := (⟨"RoomFills", "check", "()I"⟩, prog_1_method_47_code, 8, some .int, [])
def k_X_isBeyond : Mk := (⟨"RoomFills", "isBeyond", "(I)Z"⟩, prog_1_method_44_code, 2, some .boolean, [])
def k_X_isPut : Mk := (⟨"RoomFills", "isPut", "(I)Z"⟩, prog_1_method_41_code, 2, some .boolean, [])
def k_X_pairsBroken : Mk := (⟨"RoomFills", "pairsBroken", "(Z)I"⟩, prog_1_method_45_code, 5, some .int, [])
def k_X_share : Mk := (⟨"RoomFills", "share", "(II)Z"⟩, prog_1_method_43_code, 3, some .boolean, [])
def k_X_touches : Mk := (⟨"RoomFills", "touches", "(II)Z"⟩, prog_1_method_42_code, 3, some .boolean, [])
def k_X_isFull : Mk := (⟨"RoomFills", "isFull", "()Z"⟩, prog_1_method_46_code, 5, some .boolean, [])
def k_X_row : Mk := (⟨"RoomFills", "row", "()J"⟩, prog_1_method_48_code, 5, some .long, [])
def k_L_cell : Mk := (⟨"RoomFillsLaw", "cell", "([II)I"⟩, method_2_code, 2, some .int, [])
def k_L_door : Mk := (⟨"RoomFillsLaw", "door", "(LRoomFills;II[J)I"⟩, method_3_code, 5, some .int, [(0, 17, 20, 13)])
def k_X_door : Mk := (⟨"RoomFills", "door", "(II)Z"⟩, prog_1_method_7_code, 5, some .boolean, [])
def k_X_isIn : Mk := (⟨"RoomFills", "isIn", "(JJJ)Z"⟩, prog_1_method_5_code, 6, some .boolean, [])
def k_X_proper : Mk := (⟨"RoomFills", "proper", "(Z)V"⟩, prog_1_method_2_code, 1, none, [])
def k_X_told : Mk := (⟨"RoomFills", "told", "(Z)Z"⟩, prog_1_method_6_code, 2, some .boolean, [])
def k_L_pipe : Mk := (⟨"RoomFillsLaw", "pipe", "(LRoomFills;I[J)I"⟩, method_4_code, 4, some .int, [(0, 16, 19, 13)])
def k_X_pipe : Mk := (⟨"RoomFills", "pipe", "(I)Z"⟩, prog_1_method_8_code, 4, some .boolean, [])
def k_L_item : Mk := (⟨"RoomFillsLaw", "item", "(LRoomFills;IJJ[J)I"⟩, method_5_code, 8, some .int, [(0, 13, 16, 23), (0, 13, 20, 13)])
def k_X_item : Mk := (⟨"RoomFills", "item", "(IJJ)I"⟩, prog_1_method_9_code, 7, some .int, [])
def k_X_can : Mk := (⟨"RoomFills", "can", "(Z)V"⟩, prog_1_method_4_code, 1, none, [])
def k_I_init : Mk := (⟨"RoomFills$Item", "<init>", "(IJJ)V"⟩, prog_2_method_1_code, 6, none, [])
def k_L_need : Mk := (⟨"RoomFillsLaw", "need", "(LRoomFills;II[J)I"⟩, method_6_code, 5, some .int, [(0, 17, 20, 28), (0, 17, 24, 13)])
def k_X_need : Mk := (⟨"RoomFills", "need", "(II)Z"⟩, prog_1_method_11_code, 5, some .boolean, [])
def k_X_itemAt : Mk := (⟨"RoomFills", "itemAt", "(I)LRoomFills$Item;"⟩, prog_1_method_10_code, 2, some (.object "RoomFills$Item"), [])
def k_X_there : Mk := (⟨"RoomFills", "there", "(Z)V"⟩, prog_1_method_3_code, 1, none, [])
def k_L_near : Mk := (⟨"RoomFillsLaw", "near", "(LRoomFills;IIJ[J)I"⟩, method_7_code, 7, some .int, [(0, 19, 22, 28), (0, 19, 26, 13)])
def k_X_near : Mk := (⟨"RoomFills", "near", "(IIJ)Z"⟩, prog_1_method_13_code, 6, some .boolean, [])
def k_X_pairThere : Mk := (⟨"RoomFills", "pairThere", "(II)V"⟩, prog_1_method_12_code, 3, none, [])
def k_L_bar : Mk := (⟨"RoomFillsLaw", "bar", "(LRoomFills;II[J)I"⟩, method_8_code, 5, some .int, [(0, 17, 20, 28), (0, 17, 24, 13)])
def k_X_bar : Mk := (⟨"RoomFills", "bar", "(II)Z"⟩, prog_1_method_14_code, 4, some .boolean, [])
def k_L_must : Mk := (⟨"RoomFillsLaw", "must", "(LRoomFills;IZ[J)I"⟩, method_9_code, 5, some .int, [(0, 17, 20, 28)])
def k_X_must : Mk := (⟨"RoomFills", "must", "(IZ)Z"⟩, prog_1_method_15_code, 5, some .boolean, [])
def k_L_filler : Mk := (⟨"RoomFillsLaw", "filler", "(LRoomFills;II[J)I"⟩, method_10_code, 5, some .int, [(0, 17, 20, 13)])
def k_X_filler : Mk := (⟨"RoomFills", "filler", "(II)Z"⟩, prog_1_method_16_code, 4, some .boolean, [])
def k_L_variant : Mk := (⟨"RoomFillsLaw", "variant", "(LRoomFills;I[J)I"⟩, method_11_code, 4, some .int, [(0, 9, 12, 23), (0, 9, 15, 13)])
def k_X_variant : Mk := (⟨"RoomFills", "variant", "(I)I"⟩, prog_1_method_33_code, 2, some .int, [])
def k_L_at : Mk := (⟨"RoomFillsLaw", "at", "(LRoomFills;I[J)I"⟩, method_12_code, 4, some .int, [(0, 9, 12, 23), (0, 9, 15, 28)])
def k_X_at : Mk := (⟨"RoomFills", "at", "(I)I"⟩, prog_1_method_34_code, 5, some .int, [])
def k_L_plan : Mk := (⟨"RoomFillsLaw", "plan", "(LRoomFills;II[J)I"⟩, method_13_code, 5, some .int, [(0, 10, 13, 23), (0, 10, 17, 28), (0, 10, 21, 13)])
def k_X_plan : Mk := (⟨"RoomFills", "plan", "(II)I"⟩, prog_1_method_36_code, 4, some .int, [])
def k_X_wide : Mk := (⟨"RoomFills", "wide", "(I)I"⟩, prog_1_method_35_code, 3, some .int, [])
def k_L_worth : Mk := (⟨"RoomFillsLaw", "worth", "(LRoomFills;I[J)I"⟩, method_14_code, 4, some .int, [(0, 8, 11, 23), (0, 8, 14, 28)])
def k_X_worth : Mk := (⟨"RoomFills", "worth", "(I)J"⟩, prog_1_method_37_code, 2, some .long, [])
def k_L_top : Mk := (⟨"RoomFillsLaw", "top", "(LRoomFills;II[J)I"⟩, method_15_code, 5, some .int, [(0, 10, 13, 23), (0, 10, 17, 28), (0, 10, 21, 13)])
def k_X_top : Mk := (⟨"RoomFills", "top", "(II)I"⟩, prog_1_method_39_code, 7, some .int, [])
def k_X_begins : Mk := (⟨"RoomFills", "begins", "(I)Z"⟩, prog_1_method_38_code, 2, some .boolean, [])
def k_L_place : Mk := (⟨"RoomFillsLaw", "place", "(LRoomFills;II[J)I"⟩, method_16_code, 5, some .int, [(0, 17, 20, 28), (0, 17, 24, 13)])
def k_X_place : Mk := (⟨"RoomFills", "place", "(II)Z"⟩, prog_1_method_40_code, 5, some .boolean, [])
def k_M_init : Mk := (⟨"RoomFillsModel", "<init>", "(I)V"⟩, prog_5_method_1_code, 3, none, [])
def k_M_thrown : Mk := (⟨"RoomFillsModel", "thrown", "()I"⟩, prog_5_method_2_code, 1, some .int, [])
def k_M_door : Mk := (⟨"RoomFillsModel", "door", "(II)Z"⟩, prog_5_method_5_code, 5, some .boolean, [])
def k_M_change : Mk := (⟨"RoomFillsModel", "change", "()V"⟩, prog_5_method_4_code, 1, none, [])
def k_M_pipe : Mk := (⟨"RoomFillsModel", "pipe", "(I)Z"⟩, prog_5_method_6_code, 4, some .boolean, [])
def k_M_item : Mk := (⟨"RoomFillsModel", "item", "(IJJ)I"⟩, prog_5_method_7_code, 7, some .int, [])
def k_M_isIn : Mk := (⟨"RoomFillsModel", "isIn", "(JJJ)Z"⟩, prog_5_method_3_code, 6, some .boolean, [])
def k_M_need : Mk := (⟨"RoomFillsModel", "need", "(II)Z"⟩, prog_5_method_9_code, 3, some .boolean, [])
def k_M_isItem : Mk := (⟨"RoomFillsModel", "isItem", "(I)Z"⟩, prog_5_method_8_code, 2, some .boolean, [])
def k_M_near : Mk := (⟨"RoomFillsModel", "near", "(IIJ)Z"⟩, prog_5_method_11_code, 5, some .boolean, [])
def k_M_pairCode : Mk := (⟨"RoomFillsModel", "pairCode", "(II)I"⟩, prog_5_method_10_code, 3, some .int, [])
def k_M_bar : Mk := (⟨"RoomFillsModel", "bar", "(II)Z"⟩, prog_5_method_12_code, 3, some .boolean, [])
def k_M_must : Mk := (⟨"RoomFillsModel", "must", "(IZ)Z"⟩, prog_5_method_13_code, 3, some .boolean, [])
def k_M_filler : Mk := (⟨"RoomFillsModel", "filler", "(II)Z"⟩, prog_5_method_14_code, 3, some .boolean, [])
def k_M_run : Mk := (⟨"RoomFillsModel", "run", "()I"⟩, prog_5_method_30_code, 1, some .int, [])
def k_M_find : Mk := (⟨"RoomFillsModel", "find", "(I)Z"⟩, prog_5_method_29_code, 4, some .boolean, [])
def k_M_size : Mk := (⟨"RoomFillsModel", "size", "(I)I"⟩, prog_5_method_28_code, 3, some .int, [])
def k_M_fill : Mk := (⟨"RoomFillsModel", "fill", "()V"⟩, prog_5_method_24_code, 4, none, [])
def k_M_look : Mk := (⟨"RoomFillsModel", "look", "()V"⟩, prog_5_method_17_code, 3, none, [])
def k_M_isNeeded : Mk := (⟨"RoomFillsModel", "isNeeded", "(II)Z"⟩, prog_5_method_15_code, 7, some .boolean, [])
def k_M_fillAt : Mk := (⟨"RoomFillsModel", "fillAt", "(III)V"⟩, prog_5_method_23_code, 6, none, [])
def k_M_index : Mk := (⟨"RoomFillsModel", "index", "(III)I"⟩, prog_5_method_19_code, 3, some .int, [])
def k_M_behindFree : Mk := (⟨"RoomFillsModel", "behindFree", "(I)I"⟩, prog_5_method_22_code, 3, some .int, [])
def k_M_choose : Mk := (⟨"RoomFillsModel", "choose", "(IIJJ)V"⟩, prog_5_method_20_code, 11, none, [])
def k_M_mayStand : Mk := (⟨"RoomFillsModel", "mayStand", "(IIII)Z"⟩, prog_5_method_18_code, 5, some .boolean, [])
def k_M_isClear : Mk := (⟨"RoomFillsModel", "isClear", "(II)Z"⟩, prog_5_method_16_code, 3, some .boolean, [])
def k_M_worthBehind : Mk := (⟨"RoomFillsModel", "worthBehind", "(II)J"⟩, prog_5_method_21_code, 3, some .long, [])
def k_M_walk : Mk := (⟨"RoomFillsModel", "walk", "()I"⟩, prog_5_method_27_code, 7, some .int, [])
def k_M_goesOn : Mk := (⟨"RoomFillsModel", "goesOn", "(IIJJ)Z"⟩, prog_5_method_25_code, 7, some .boolean, [])
def k_M_add : Mk := (⟨"RoomFillsModel", "add", "(III)V"⟩, prog_5_method_26_code, 4, none, [])
def k_M_variant : Mk := (⟨"RoomFillsModel", "variant", "(I)I"⟩, prog_5_method_31_code, 2, some .int, [])
def k_M_at : Mk := (⟨"RoomFillsModel", "at", "(I)I"⟩, prog_5_method_33_code, 3, some .int, [])
def k_M_none : Mk := (⟨"RoomFillsModel", "none", "()Z"⟩, prog_5_method_32_code, 1, some .boolean, [])
def k_M_plan : Mk := (⟨"RoomFillsModel", "plan", "(II)I"⟩, prog_5_method_34_code, 3, some .int, [])
def k_M_worth : Mk := (⟨"RoomFillsModel", "worth", "(I)J"⟩, prog_5_method_35_code, 2, some .long, [])
def k_M_top : Mk := (⟨"RoomFillsModel", "top", "(II)I"⟩, prog_5_method_37_code, 7, some .int, [])
def k_M_beginsTop : Mk := (⟨"RoomFillsModel", "beginsTop", "(I)Z"⟩, prog_5_method_36_code, 2, some .boolean, [])
def k_M_place : Mk := (⟨"RoomFillsModel", "place", "(II)Z"⟩, prog_5_method_38_code, 3, some .boolean, [])
def k_M_check : Mk := (⟨"RoomFillsModel", "check", "()I"⟩, prog_5_method_43_code, 4, some .int, [])
def k_M_hasGap : Mk := (⟨"RoomFillsModel", "hasGap", "()Z"⟩, prog_5_method_42_code, 6, some .boolean, [])
def k_M_covers : Mk := (⟨"RoomFillsModel", "covers", "(II)Z"⟩, prog_5_method_41_code, 3, some .boolean, [])
def k_M_isPut : Mk := (⟨"RoomFillsModel", "isPut", "(I)Z"⟩, prog_5_method_39_code, 2, some .boolean, [])
def k_M_touch : Mk := (⟨"RoomFillsModel", "touch", "(II)Z"⟩, prog_5_method_40_code, 3, some .boolean, [])
def k_M_row : Mk := (⟨"RoomFillsModel", "row", "()J"⟩, prog_5_method_44_code, 5, some .long, [])
def k_L_law : Mk := (⟨"RoomFillsLaw", "law", "([I)Z"⟩, code, 8, some .boolean, [])
