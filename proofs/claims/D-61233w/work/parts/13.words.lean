/-! ===== the words by name ===== -/
theorem iz_L : Cond.initialized "RoomFillsLaw" ∈ lw_tbl := List.mem_append_right _ (List.mem_of_getElem? (i := 0) (by decide +kernel))
theorem iz_X : Cond.initialized "RoomFills" ∈ lw_tbl := List.mem_append_right _ (List.mem_of_getElem? (i := 1) (by decide +kernel))
theorem iz_J : Cond.initialized "java/lang/Math" ∈ lw_tbl := List.mem_append_right _ (List.mem_of_getElem? (i := 2) (by decide +kernel))
theorem iz_M : Cond.initialized "RoomFillsModel" ∈ lw_tbl := List.mem_append_right _ (List.mem_of_getElem? (i := 3) (by decide +kernel))
theorem iz_I : Cond.initialized "RoomFills$Item" ∈ lw_tbl := List.mem_append_right _ (List.mem_of_getElem? (i := 9) (by decide +kernel))
theorem iz_JI : Cond.initialized "java/lang/Integer" ∈ lw_tbl := List.mem_append_right _ (List.mem_of_getElem? (i := 13) (by decide +kernel))
theorem iz_P : Cond.initialized "RoomFills$Plan" ∈ lw_tbl := List.mem_append_right _ (List.mem_of_getElem? (i := 14) (by decide +kernel))
theorem cl_L_8 : Cond.classLink "RoomFillsLaw" 8 "RoomFills" ∈ lw_tbl := List.mem_append_right _ (List.mem_of_getElem? (i := 15) (by decide +kernel))
theorem in_X : Cond.instantiable "RoomFills" 14 ∈ lw_tbl := List.mem_append_right _ (List.mem_of_getElem? (i := 16) (by decide +kernel))
theorem ml_L_71 : Cond.methodLink "RoomFillsLaw" 71 (⟨"RoomFills", "<init>", "(I)V"⟩ : MethodName) ∈ lw_tbl := List.mem_append_right _ (List.mem_of_getElem? (i := 17) (by decide +kernel))
theorem ml_X_1 : Cond.methodLink "RoomFills" 1 (⟨"java/lang/Object", "<init>", "()V"⟩ : MethodName) ∈ lw_tbl := List.mem_append_right _ (List.mem_of_getElem? (i := 20) (by decide +kernel))
theorem cl_X_17 : Cond.classLink "RoomFills" 17 "RoomFills$Item" ∈ lw_tbl := List.mem_append_right _ (List.mem_of_getElem? (i := 23) (by decide +kernel))
theorem cl_X_23 : Cond.classLink "RoomFills" 23 "[[J" ∈ lw_tbl := List.mem_append_right _ (List.mem_of_getElem? (i := 25) (by decide +kernel))
theorem cl_X_28 : Cond.classLink "RoomFills" 28 "[[Z" ∈ lw_tbl := List.mem_append_right _ (List.mem_of_getElem? (i := 27) (by decide +kernel))
theorem ck_X_33 : Cond.constant "RoomFills" 33 (36736) ∈ lw_tbl := List.mem_append_right _ (List.mem_of_getElem? (i := 29) (by decide +kernel))
theorem ml_X_41 : Cond.methodLink "RoomFills" 41 (⟨"java/lang/Math", "min", "(II)I"⟩ : MethodName) ∈ lw_tbl := List.mem_append_right _ (List.mem_of_getElem? (i := 30) (by decide +kernel))
theorem ml_X_47 : Cond.methodLink "RoomFills" 47 (⟨"java/lang/Math", "max", "(II)I"⟩ : MethodName) ∈ lw_tbl := List.mem_append_right _ (List.mem_of_getElem? (i := 33) (by decide +kernel))
theorem fl_X_50 : Cond.fieldLink "RoomFills" 50 "RoomFills" "steps" "I" ∈ lw_tbl := List.mem_append_right _ (List.mem_of_getElem? (i := 36) (by decide +kernel))
theorem fl_X_7 : Cond.fieldLink "RoomFills" 7 "RoomFills" "free" "[Z" ∈ lw_tbl := List.mem_append_right _ (List.mem_of_getElem? (i := 37) (by decide +kernel))
theorem fl_X_13 : Cond.fieldLink "RoomFills" 13 "RoomFills" "pipes" "[I" ∈ lw_tbl := List.mem_append_right _ (List.mem_of_getElem? (i := 38) (by decide +kernel))
theorem fl_X_78 : Cond.fieldLink "RoomFills" 78 "RoomFills" "pipeCount" "I" ∈ lw_tbl := List.mem_append_right _ (List.mem_of_getElem? (i := 39) (by decide +kernel))
theorem fl_X_19 : Cond.fieldLink "RoomFills" 19 "RoomFills" "items" "[LRoomFills$Item;" ∈ lw_tbl := List.mem_append_right _ (List.mem_of_getElem? (i := 40) (by decide +kernel))
theorem fl_X_81 : Cond.fieldLink "RoomFills" 81 "RoomFills" "many" "I" ∈ lw_tbl := List.mem_append_right _ (List.mem_of_getElem? (i := 41) (by decide +kernel))
theorem fl_X_25 : Cond.fieldLink "RoomFills" 25 "RoomFills" "nears" "[[J" ∈ lw_tbl := List.mem_append_right _ (List.mem_of_getElem? (i := 42) (by decide +kernel))
theorem fl_X_30 : Cond.fieldLink "RoomFills" 30 "RoomFills" "bars" "[[Z" ∈ lw_tbl := List.mem_append_right _ (List.mem_of_getElem? (i := 43) (by decide +kernel))
theorem fl_X_116 : Cond.fieldLink "RoomFills" 116 "RoomFills" "least" "I" ∈ lw_tbl := List.mem_append_right _ (List.mem_of_getElem? (i := 44) (by decide +kernel))
theorem fl_X_119 : Cond.fieldLink "RoomFills" 119 "RoomFills" "most" "I" ∈ lw_tbl := List.mem_append_right _ (List.mem_of_getElem? (i := 45) (by decide +kernel))
theorem fl_X_34 : Cond.fieldLink "RoomFills" 34 "RoomFills" "table" "[J" ∈ lw_tbl := List.mem_append_right _ (List.mem_of_getElem? (i := 46) (by decide +kernel))
theorem fl_X_38 : Cond.fieldLink "RoomFills" 38 "RoomFills" "told" "[I" ∈ lw_tbl := List.mem_append_right _ (List.mem_of_getElem? (i := 47) (by decide +kernel))
theorem fl_X_177 : Cond.fieldLink "RoomFills" 177 "RoomFills" "tellings" "I" ∈ lw_tbl := List.mem_append_right _ (List.mem_of_getElem? (i := 48) (by decide +kernel))
theorem fl_X_63 : Cond.fieldLink "RoomFills" 63 "RoomFills" "latest" "LRoomFills$Plan;" ∈ lw_tbl := List.mem_append_right _ (List.mem_of_getElem? (i := 49) (by decide +kernel))
theorem ml_L_112 : Cond.methodLink "RoomFillsLaw" 112 (⟨"RoomFills", "run", "()I"⟩ : MethodName) ∈ lw_tbl := List.mem_append_right _ (List.mem_of_getElem? (i := 82) (by decide +kernel))
theorem ml_X_209 : Cond.methodLink "RoomFills" 209 (⟨"RoomFills", "best", "(I)LRoomFills$Plan;"⟩ : MethodName) ∈ lw_tbl := List.mem_append_right _ (List.mem_of_getElem? (i := 86) (by decide +kernel))
theorem ml_X_185 : Cond.methodLink "RoomFills" 185 (⟨"RoomFills", "isUnlike", "(II)Z"⟩ : MethodName) ∈ lw_tbl := List.mem_append_right _ (List.mem_of_getElem? (i := 90) (by decide +kernel))
theorem ml_X_180 : Cond.methodLink "RoomFills" 180 (⟨"java/lang/Integer", "bitCount", "(I)I"⟩ : MethodName) ∈ lw_tbl := List.mem_append_right _ (List.mem_of_getElem? (i := 94) (by decide +kernel))
theorem ck_J_265 : Cond.constant "java/lang/Integer" 265 (1431655765) ∈ lw_tbl := List.mem_append_right _ (List.mem_of_getElem? (i := 97) (by decide +kernel))
theorem ck_J_266 : Cond.constant "java/lang/Integer" 266 (858993459) ∈ lw_tbl := List.mem_append_right _ (List.mem_of_getElem? (i := 98) (by decide +kernel))
theorem ck_J_267 : Cond.constant "java/lang/Integer" 267 (252645135) ∈ lw_tbl := List.mem_append_right _ (List.mem_of_getElem? (i := 99) (by decide +kernel))
theorem ml_X_188 : Cond.methodLink "RoomFills" 188 (⟨"RoomFills", "hasRoom", "(I)Z"⟩ : MethodName) ∈ lw_tbl := List.mem_append_right _ (List.mem_of_getElem? (i := 100) (by decide +kernel))
theorem ml_X_192 : Cond.methodLink "RoomFills" 192 (⟨"RoomFills", "atMost", "(I)J"⟩ : MethodName) ∈ lw_tbl := List.mem_append_right _ (List.mem_of_getElem? (i := 104) (by decide +kernel))
theorem ml_X_196 : Cond.methodLink "RoomFills" 196 (⟨"RoomFills", "fill", "(I)V"⟩ : MethodName) ∈ lw_tbl := List.mem_append_right _ (List.mem_of_getElem? (i := 108) (by decide +kernel))
theorem ml_X_156 : Cond.methodLink "RoomFills" 156 (⟨"RoomFills", "touching", "(I)I"⟩ : MethodName) ∈ lw_tbl := List.mem_append_right _ (List.mem_of_getElem? (i := 112) (by decide +kernel))
theorem ml_X_133 : Cond.methodLink "RoomFills" 133 (⟨"RoomFills", "cell", "(IIII)I"⟩ : MethodName) ∈ lw_tbl := List.mem_append_right _ (List.mem_of_getElem? (i := 115) (by decide +kernel))
theorem ml_X_159 : Cond.methodLink "RoomFills" 159 (⟨"RoomFills", "reckon", "(IIIII)J"⟩ : MethodName) ∈ lw_tbl := List.mem_append_right _ (List.mem_of_getElem? (i := 118) (by decide +kernel))
theorem ck_X_101 : Cond.constantLong "RoomFills" 101 (-1) ∈ lw_tbl := List.mem_append_right _ (List.mem_of_getElem? (i := 122) (by decide +kernel))
theorem ml_X_141 : Cond.methodLink "RoomFills" 141 (⟨"RoomFills", "behindFree", "(I)I"⟩ : MethodName) ∈ lw_tbl := List.mem_append_right _ (List.mem_of_getElem? (i := 123) (by decide +kernel))
theorem ml_X_145 : Cond.methodLink "RoomFills" 145 (⟨"RoomFills", "may", "(IIIII)Z"⟩ : MethodName) ∈ lw_tbl := List.mem_append_right _ (List.mem_of_getElem? (i := 127) (by decide +kernel))
theorem ml_X_125 : Cond.methodLink "RoomFills" 125 (⟨"RoomFills", "isOpen", "(II)Z"⟩ : MethodName) ∈ lw_tbl := List.mem_append_right _ (List.mem_of_getElem? (i := 131) (by decide +kernel))
theorem ml_X_129 : Cond.methodLink "RoomFills" 129 (⟨"RoomFills", "isMet", "(LRoomFills$Item;I)Z"⟩ : MethodName) ∈ lw_tbl := List.mem_append_right _ (List.mem_of_getElem? (i := 135) (by decide +kernel))
theorem ml_X_149 : Cond.methodLink "RoomFills" 149 (⟨"RoomFills", "withItem", "(IIII)J"⟩ : MethodName) ∈ lw_tbl := List.mem_append_right _ (List.mem_of_getElem? (i := 139) (by decide +kernel))
theorem ml_X_153 : Cond.methodLink "RoomFills" 153 (⟨"java/lang/Math", "max", "(JJ)J"⟩ : MethodName) ∈ lw_tbl := List.mem_append_right _ (List.mem_of_getElem? (i := 143) (by decide +kernel))
theorem ml_X_200 : Cond.methodLink "RoomFills" 200 (⟨"RoomFills", "walk", "(I)LRoomFills$Plan;"⟩ : MethodName) ∈ lw_tbl := List.mem_append_right _ (List.mem_of_getElem? (i := 146) (by decide +kernel))
theorem cl_X_163 : Cond.classLink "RoomFills" 163 "RoomFills$Plan" ∈ lw_tbl := List.mem_append_right _ (List.mem_of_getElem? (i := 150) (by decide +kernel))
theorem in_P : Cond.instantiable "RoomFills$Plan" 6 ∈ lw_tbl := List.mem_append_right _ (List.mem_of_getElem? (i := 151) (by decide +kernel))
theorem ml_X_165 : Cond.methodLinkNest "RoomFills" 165 (⟨"RoomFills$Plan", "<init>", "()V"⟩ : MethodName) "RoomFills" ∈ lw_tbl := List.mem_append_right _ (List.mem_of_getElem? (i := 152) (by decide +kernel))
theorem ml_P_1 : Cond.methodLink "RoomFills$Plan" 1 (⟨"java/lang/Object", "<init>", "()V"⟩ : MethodName) ∈ lw_tbl := List.mem_append_right _ (List.mem_of_getElem? (i := 155) (by decide +kernel))
theorem fl_P_7 : Cond.fieldLink "RoomFills$Plan" 7 "RoomFills$Plan" "codes" "[I" ∈ lw_tbl := List.mem_append_right _ (List.mem_of_getElem? (i := 156) (by decide +kernel))
theorem fl_X_218 : Cond.fieldLinkNest "RoomFills" 218 "RoomFills$Plan" "codes" "[I" "RoomFills" ∈ lw_tbl := List.mem_append_right _ (List.mem_of_getElem? (i := 157) (by decide +kernel))
theorem fl_P_13 : Cond.fieldLink "RoomFills$Plan" 13 "RoomFills$Plan" "begins" "[I" ∈ lw_tbl := List.mem_append_right _ (List.mem_of_getElem? (i := 158) (by decide +kernel))
theorem fl_X_221 : Cond.fieldLinkNest "RoomFills" 221 "RoomFills$Plan" "begins" "[I" "RoomFills" ∈ lw_tbl := List.mem_append_right _ (List.mem_of_getElem? (i := 159) (by decide +kernel))
theorem fl_P_16 : Cond.fieldLink "RoomFills$Plan" 16 "RoomFills$Plan" "many" "I" ∈ lw_tbl := List.mem_append_right _ (List.mem_of_getElem? (i := 160) (by decide +kernel))
theorem fl_X_208 : Cond.fieldLinkNest "RoomFills" 208 "RoomFills$Plan" "many" "I" "RoomFills" ∈ lw_tbl := List.mem_append_right _ (List.mem_of_getElem? (i := 161) (by decide +kernel))
theorem fl_X_166 : Cond.fieldLinkNest "RoomFills" 166 "RoomFills$Plan" "set" "I" "RoomFills" ∈ lw_tbl := List.mem_append_right _ (List.mem_of_getElem? (i := 162) (by decide +kernel))
theorem fl_P_20 : Cond.fieldLink "RoomFills$Plan" 20 "RoomFills$Plan" "worth" "J" ∈ lw_tbl := List.mem_append_right _ (List.mem_of_getElem? (i := 163) (by decide +kernel))
theorem fl_X_169 : Cond.fieldLinkNest "RoomFills" 169 "RoomFills$Plan" "worth" "J" "RoomFills" ∈ lw_tbl := List.mem_append_right _ (List.mem_of_getElem? (i := 164) (by decide +kernel))
theorem fl_P_24 : Cond.fieldLink "RoomFills$Plan" 24 "RoomFills$Plan" "cents" "J" ∈ lw_tbl := List.mem_append_right _ (List.mem_of_getElem? (i := 165) (by decide +kernel))
theorem fl_X_170 : Cond.fieldLinkNest "RoomFills" 170 "RoomFills$Plan" "cents" "J" "RoomFills" ∈ lw_tbl := List.mem_append_right _ (List.mem_of_getElem? (i := 166) (by decide +kernel))
theorem ml_X_174 : Cond.methodLink "RoomFills" 174 (⟨"RoomFills$Plan", "add", "(II)V"⟩ : MethodName) ∈ lw_tbl := List.mem_append_right _ (List.mem_of_getElem? (i := 180) (by decide +kernel))
theorem ml_X_204 : Cond.methodLink "RoomFills" 204 (⟨"RoomFills$Plan", "isBetter", "(LRoomFills$Plan;)Z"⟩ : MethodName) ∈ lw_tbl := List.mem_append_right _ (List.mem_of_getElem? (i := 184) (by decide +kernel))
theorem ml_P_27 : Cond.methodLink "RoomFills$Plan" 27 (⟨"RoomFills$Plan", "isBefore", "(LRoomFills$Plan;)Z"⟩ : MethodName) ∈ lw_tbl := List.mem_append_right _ (List.mem_of_getElem? (i := 188) (by decide +kernel))
theorem ml_X_212 : Cond.methodLink "RoomFills" 212 (⟨"RoomFills", "tell", "(LRoomFills$Plan;)I"⟩ : MethodName) ∈ lw_tbl := List.mem_append_right _ (List.mem_of_getElem? (i := 192) (by decide +kernel))
theorem ml_L_134 : Cond.methodLink "RoomFillsLaw" 134 (⟨"RoomFills", "check", "()I"⟩ : MethodName) ∈ lw_tbl := List.mem_append_right _ (List.mem_of_getElem? (i := 196) (by decide +kernel))
theorem ml_X_247 : Cond.methodLink "RoomFills" 247 (⟨"RoomFills", "isBeyond", "(I)Z"⟩ : MethodName) ∈ lw_tbl := List.mem_append_right _ (List.mem_of_getElem? (i := 200) (by decide +kernel))
theorem ml_X_238 : Cond.methodLink "RoomFills" 238 (⟨"RoomFills", "isPut", "(I)Z"⟩ : MethodName) ∈ lw_tbl := List.mem_append_right _ (List.mem_of_getElem? (i := 204) (by decide +kernel))
theorem ml_X_250 : Cond.methodLink "RoomFills" 250 (⟨"RoomFills", "pairsBroken", "(Z)I"⟩ : MethodName) ∈ lw_tbl := List.mem_append_right _ (List.mem_of_getElem? (i := 208) (by decide +kernel))
theorem ml_X_241 : Cond.methodLink "RoomFills" 241 (⟨"RoomFills", "share", "(II)Z"⟩ : MethodName) ∈ lw_tbl := List.mem_append_right _ (List.mem_of_getElem? (i := 212) (by decide +kernel))
theorem ml_X_244 : Cond.methodLink "RoomFills" 244 (⟨"RoomFills", "touches", "(II)Z"⟩ : MethodName) ∈ lw_tbl := List.mem_append_right _ (List.mem_of_getElem? (i := 216) (by decide +kernel))
theorem ml_X_254 : Cond.methodLink "RoomFills" 254 (⟨"RoomFills", "isFull", "()Z"⟩ : MethodName) ∈ lw_tbl := List.mem_append_right _ (List.mem_of_getElem? (i := 220) (by decide +kernel))
theorem ml_L_138 : Cond.methodLink "RoomFillsLaw" 138 (⟨"RoomFills", "row", "()J"⟩ : MethodName) ∈ lw_tbl := List.mem_append_right _ (List.mem_of_getElem? (i := 224) (by decide +kernel))
theorem ml_L_65 : Cond.methodLink "RoomFillsLaw" 65 (⟨"RoomFillsLaw", "cell", "([II)I"⟩ : MethodName) ∈ lw_tbl := List.mem_append_right _ (List.mem_of_getElem? (i := 228) (by decide +kernel))
theorem ml_L_77 : Cond.methodLink "RoomFillsLaw" 77 (⟨"RoomFillsLaw", "door", "(LRoomFills;II[J)I"⟩ : MethodName) ∈ lw_tbl := List.mem_append_right _ (List.mem_of_getElem? (i := 231) (by decide +kernel))
theorem cl_L_13 : Cond.classLink "RoomFillsLaw" 13 "java/lang/IllegalArgumentException" ∈ lw_tbl := List.mem_append_right _ (List.mem_of_getElem? (i := 234) (by decide +kernel))
theorem ml_L_7 : Cond.methodLink "RoomFillsLaw" 7 (⟨"RoomFills", "door", "(II)Z"⟩ : MethodName) ∈ lw_tbl := List.mem_append_right _ (List.mem_of_getElem? (i := 235) (by decide +kernel))
theorem ml_X_67 : Cond.methodLink "RoomFills" 67 (⟨"RoomFills", "isIn", "(JJJ)Z"⟩ : MethodName) ∈ lw_tbl := List.mem_append_right _ (List.mem_of_getElem? (i := 239) (by decide +kernel))
theorem ml_X_71 : Cond.methodLink "RoomFills" 71 (⟨"RoomFills", "proper", "(Z)V"⟩ : MethodName) ∈ lw_tbl := List.mem_append_right _ (List.mem_of_getElem? (i := 242) (by decide +kernel))
theorem cl_X_54 : Cond.classLink "RoomFills" 54 "java/lang/IllegalArgumentException" ∈ lw_tbl := List.mem_append_right _ (List.mem_of_getElem? (i := 245) (by decide +kernel))
theorem ml_X_56 : Cond.methodLink "RoomFills" 56 (⟨"java/lang/IllegalArgumentException", "<init>", "()V"⟩ : MethodName) ∈ lw_tbl := List.mem_append_right _ (List.mem_of_getElem? (i := 287) (by decide +kernel))
theorem ml_X_75 : Cond.methodLink "RoomFills" 75 (⟨"RoomFills", "told", "(Z)Z"⟩ : MethodName) ∈ lw_tbl := List.mem_append_right _ (List.mem_of_getElem? (i := 310) (by decide +kernel))
theorem ml_L_85 : Cond.methodLink "RoomFillsLaw" 85 (⟨"RoomFillsLaw", "pipe", "(LRoomFills;I[J)I"⟩ : MethodName) ∈ lw_tbl := List.mem_append_right _ (List.mem_of_getElem? (i := 314) (by decide +kernel))
theorem ml_L_15 : Cond.methodLink "RoomFillsLaw" 15 (⟨"RoomFills", "pipe", "(I)Z"⟩ : MethodName) ∈ lw_tbl := List.mem_append_right _ (List.mem_of_getElem? (i := 317) (by decide +kernel))
theorem ml_L_91 : Cond.methodLink "RoomFillsLaw" 91 (⟨"RoomFillsLaw", "item", "(LRoomFills;IJJ[J)I"⟩ : MethodName) ∈ lw_tbl := List.mem_append_right _ (List.mem_of_getElem? (i := 321) (by decide +kernel))
theorem cl_L_23 : Cond.classLink "RoomFillsLaw" 23 "java/lang/IllegalStateException" ∈ lw_tbl := List.mem_append_right _ (List.mem_of_getElem? (i := 324) (by decide +kernel))
theorem ml_L_19 : Cond.methodLink "RoomFillsLaw" 19 (⟨"RoomFills", "item", "(IJJ)I"⟩ : MethodName) ∈ lw_tbl := List.mem_append_right _ (List.mem_of_getElem? (i := 325) (by decide +kernel))
theorem ml_X_84 : Cond.methodLink "RoomFills" 84 (⟨"RoomFills", "can", "(Z)V"⟩ : MethodName) ∈ lw_tbl := List.mem_append_right _ (List.mem_of_getElem? (i := 329) (by decide +kernel))
theorem cl_X_60 : Cond.classLink "RoomFills" 60 "java/lang/IllegalStateException" ∈ lw_tbl := List.mem_append_right _ (List.mem_of_getElem? (i := 332) (by decide +kernel))
theorem ml_X_62 : Cond.methodLink "RoomFills" 62 (⟨"java/lang/IllegalStateException", "<init>", "()V"⟩ : MethodName) ∈ lw_tbl := List.mem_append_right _ (List.mem_of_getElem? (i := 341) (by decide +kernel))
theorem ck_X_87 : Cond.constantLong "RoomFills" 87 (20) ∈ lw_tbl := List.mem_append_right _ (List.mem_of_getElem? (i := 347) (by decide +kernel))
theorem ck_X_89 : Cond.constantLong "RoomFills" 89 (100000) ∈ lw_tbl := List.mem_append_right _ (List.mem_of_getElem? (i := 348) (by decide +kernel))
theorem in_I : Cond.instantiable "RoomFills$Item" 6 ∈ lw_tbl := List.mem_append_right _ (List.mem_of_getElem? (i := 349) (by decide +kernel))
theorem ml_X_91 : Cond.methodLink "RoomFills" 91 (⟨"RoomFills$Item", "<init>", "(IJJ)V"⟩ : MethodName) ∈ lw_tbl := List.mem_append_right _ (List.mem_of_getElem? (i := 350) (by decide +kernel))
theorem ml_I_3 : Cond.methodLink "RoomFills$Item" 3 (⟨"java/lang/Object", "<init>", "()V"⟩ : MethodName) ∈ lw_tbl := List.mem_append_right _ (List.mem_of_getElem? (i := 353) (by decide +kernel))
theorem fl_I_18 : Cond.fieldLink "RoomFills$Item" 18 "RoomFills$Item" "width" "I" ∈ lw_tbl := List.mem_append_right _ (List.mem_of_getElem? (i := 354) (by decide +kernel))
theorem fl_X_122 : Cond.fieldLinkNest "RoomFills" 122 "RoomFills$Item" "width" "I" "RoomFills" ∈ lw_tbl := List.mem_append_right _ (List.mem_of_getElem? (i := 355) (by decide +kernel))
theorem fl_I_21 : Cond.fieldLink "RoomFills$Item" 21 "RoomFills$Item" "worth" "J" ∈ lw_tbl := List.mem_append_right _ (List.mem_of_getElem? (i := 356) (by decide +kernel))
theorem fl_X_137 : Cond.fieldLinkNest "RoomFills" 137 "RoomFills$Item" "worth" "J" "RoomFills" ∈ lw_tbl := List.mem_append_right _ (List.mem_of_getElem? (i := 357) (by decide +kernel))
theorem fl_I_25 : Cond.fieldLink "RoomFills$Item" 25 "RoomFills$Item" "cents" "J" ∈ lw_tbl := List.mem_append_right _ (List.mem_of_getElem? (i := 358) (by decide +kernel))
theorem fl_X_173 : Cond.fieldLinkNest "RoomFills" 173 "RoomFills$Item" "cents" "J" "RoomFills" ∈ lw_tbl := List.mem_append_right _ (List.mem_of_getElem? (i := 359) (by decide +kernel))
theorem fl_I_9 : Cond.fieldLink "RoomFills$Item" 9 "RoomFills$Item" "need" "I" ∈ lw_tbl := List.mem_append_right _ (List.mem_of_getElem? (i := 360) (by decide +kernel))
theorem fl_X_105 : Cond.fieldLinkNest "RoomFills" 105 "RoomFills$Item" "need" "I" "RoomFills" ∈ lw_tbl := List.mem_append_right _ (List.mem_of_getElem? (i := 361) (by decide +kernel))
theorem fl_X_112 : Cond.fieldLinkNest "RoomFills" 112 "RoomFills$Item" "must" "Z" "RoomFills" ∈ lw_tbl := List.mem_append_right _ (List.mem_of_getElem? (i := 362) (by decide +kernel))
theorem fl_I_15 : Cond.fieldLink "RoomFills$Item" 15 "RoomFills$Item" "put" "I" ∈ lw_tbl := List.mem_append_right _ (List.mem_of_getElem? (i := 363) (by decide +kernel))
theorem fl_X_235 : Cond.fieldLinkNest "RoomFills" 235 "RoomFills$Item" "put" "I" "RoomFills" ∈ lw_tbl := List.mem_append_right _ (List.mem_of_getElem? (i := 364) (by decide +kernel))
theorem ml_L_95 : Cond.methodLink "RoomFillsLaw" 95 (⟨"RoomFillsLaw", "need", "(LRoomFills;II[J)I"⟩ : MethodName) ∈ lw_tbl := List.mem_append_right _ (List.mem_of_getElem? (i := 378) (by decide +kernel))
theorem cl_L_28 : Cond.classLink "RoomFillsLaw" 28 "java/lang/IndexOutOfBoundsException" ∈ lw_tbl := List.mem_append_right _ (List.mem_of_getElem? (i := 381) (by decide +kernel))
theorem ml_L_25 : Cond.methodLink "RoomFillsLaw" 25 (⟨"RoomFills", "need", "(II)Z"⟩ : MethodName) ∈ lw_tbl := List.mem_append_right _ (List.mem_of_getElem? (i := 414) (by decide +kernel))
theorem ml_X_97 : Cond.methodLink "RoomFills" 97 (⟨"RoomFills", "itemAt", "(I)LRoomFills$Item;"⟩ : MethodName) ∈ lw_tbl := List.mem_append_right _ (List.mem_of_getElem? (i := 418) (by decide +kernel))
theorem ml_X_94 : Cond.methodLink "RoomFills" 94 (⟨"RoomFills", "there", "(Z)V"⟩ : MethodName) ∈ lw_tbl := List.mem_append_right _ (List.mem_of_getElem? (i := 422) (by decide +kernel))
theorem cl_X_57 : Cond.classLink "RoomFills" 57 "java/lang/IndexOutOfBoundsException" ∈ lw_tbl := List.mem_append_right _ (List.mem_of_getElem? (i := 425) (by decide +kernel))
theorem ml_X_59 : Cond.methodLink "RoomFills" 59 (⟨"java/lang/IndexOutOfBoundsException", "<init>", "()V"⟩ : MethodName) ∈ lw_tbl := List.mem_append_right _ (List.mem_of_getElem? (i := 434) (by decide +kernel))
theorem ck_X_103 : Cond.constantLong "RoomFills" 103 (40) ∈ lw_tbl := List.mem_append_right _ (List.mem_of_getElem? (i := 440) (by decide +kernel))
theorem ml_L_98 : Cond.methodLink "RoomFillsLaw" 98 (⟨"RoomFillsLaw", "near", "(LRoomFills;IIJ[J)I"⟩ : MethodName) ∈ lw_tbl := List.mem_append_right _ (List.mem_of_getElem? (i := 441) (by decide +kernel))
theorem ml_L_30 : Cond.methodLink "RoomFillsLaw" 30 (⟨"RoomFills", "near", "(IIJ)Z"⟩ : MethodName) ∈ lw_tbl := List.mem_append_right _ (List.mem_of_getElem? (i := 444) (by decide +kernel))
theorem ml_X_108 : Cond.methodLink "RoomFills" 108 (⟨"RoomFills", "pairThere", "(II)V"⟩ : MethodName) ∈ lw_tbl := List.mem_append_right _ (List.mem_of_getElem? (i := 448) (by decide +kernel))
theorem ml_L_102 : Cond.methodLink "RoomFillsLaw" 102 (⟨"RoomFillsLaw", "bar", "(LRoomFills;II[J)I"⟩ : MethodName) ∈ lw_tbl := List.mem_append_right _ (List.mem_of_getElem? (i := 452) (by decide +kernel))
theorem ml_L_34 : Cond.methodLink "RoomFillsLaw" 34 (⟨"RoomFills", "bar", "(II)Z"⟩ : MethodName) ∈ lw_tbl := List.mem_append_right _ (List.mem_of_getElem? (i := 455) (by decide +kernel))
theorem ml_L_105 : Cond.methodLink "RoomFillsLaw" 105 (⟨"RoomFillsLaw", "must", "(LRoomFills;IZ[J)I"⟩ : MethodName) ∈ lw_tbl := List.mem_append_right _ (List.mem_of_getElem? (i := 459) (by decide +kernel))
theorem ml_L_37 : Cond.methodLink "RoomFillsLaw" 37 (⟨"RoomFills", "must", "(IZ)Z"⟩ : MethodName) ∈ lw_tbl := List.mem_append_right _ (List.mem_of_getElem? (i := 462) (by decide +kernel))
theorem ml_L_109 : Cond.methodLink "RoomFillsLaw" 109 (⟨"RoomFillsLaw", "filler", "(LRoomFills;II[J)I"⟩ : MethodName) ∈ lw_tbl := List.mem_append_right _ (List.mem_of_getElem? (i := 466) (by decide +kernel))
theorem ml_L_41 : Cond.methodLink "RoomFillsLaw" 41 (⟨"RoomFills", "filler", "(II)Z"⟩ : MethodName) ∈ lw_tbl := List.mem_append_right _ (List.mem_of_getElem? (i := 469) (by decide +kernel))
theorem ml_L_116 : Cond.methodLink "RoomFillsLaw" 116 (⟨"RoomFillsLaw", "variant", "(LRoomFills;I[J)I"⟩ : MethodName) ∈ lw_tbl := List.mem_append_right _ (List.mem_of_getElem? (i := 473) (by decide +kernel))
theorem ml_L_44 : Cond.methodLink "RoomFillsLaw" 44 (⟨"RoomFills", "variant", "(I)I"⟩ : MethodName) ∈ lw_tbl := List.mem_append_right _ (List.mem_of_getElem? (i := 476) (by decide +kernel))
theorem ck_X_216 : Cond.constantLong "RoomFills" 216 (6) ∈ lw_tbl := List.mem_append_right _ (List.mem_of_getElem? (i := 480) (by decide +kernel))
theorem ml_L_119 : Cond.methodLink "RoomFillsLaw" 119 (⟨"RoomFillsLaw", "at", "(LRoomFills;I[J)I"⟩ : MethodName) ∈ lw_tbl := List.mem_append_right _ (List.mem_of_getElem? (i := 481) (by decide +kernel))
theorem ml_L_48 : Cond.methodLink "RoomFillsLaw" 48 (⟨"RoomFills", "at", "(I)I"⟩ : MethodName) ∈ lw_tbl := List.mem_append_right _ (List.mem_of_getElem? (i := 484) (by decide +kernel))
theorem ml_L_122 : Cond.methodLink "RoomFillsLaw" 122 (⟨"RoomFillsLaw", "plan", "(LRoomFills;II[J)I"⟩ : MethodName) ∈ lw_tbl := List.mem_append_right _ (List.mem_of_getElem? (i := 488) (by decide +kernel))
theorem ml_L_51 : Cond.methodLink "RoomFillsLaw" 51 (⟨"RoomFills", "plan", "(II)I"⟩ : MethodName) ∈ lw_tbl := List.mem_append_right _ (List.mem_of_getElem? (i := 491) (by decide +kernel))
theorem ck_X_224 : Cond.constantLong "RoomFills" 224 (2) ∈ lw_tbl := List.mem_append_right _ (List.mem_of_getElem? (i := 495) (by decide +kernel))
theorem ml_X_226 : Cond.methodLink "RoomFills" 226 (⟨"RoomFills", "wide", "(I)I"⟩ : MethodName) ∈ lw_tbl := List.mem_append_right _ (List.mem_of_getElem? (i := 496) (by decide +kernel))
theorem ml_L_125 : Cond.methodLink "RoomFillsLaw" 125 (⟨"RoomFillsLaw", "worth", "(LRoomFills;I[J)I"⟩ : MethodName) ∈ lw_tbl := List.mem_append_right _ (List.mem_of_getElem? (i := 500) (by decide +kernel))
theorem ml_L_55 : Cond.methodLink "RoomFillsLaw" 55 (⟨"RoomFills", "worth", "(I)J"⟩ : MethodName) ∈ lw_tbl := List.mem_append_right _ (List.mem_of_getElem? (i := 503) (by decide +kernel))
theorem ml_L_128 : Cond.methodLink "RoomFillsLaw" 128 (⟨"RoomFillsLaw", "top", "(LRoomFills;II[J)I"⟩ : MethodName) ∈ lw_tbl := List.mem_append_right _ (List.mem_of_getElem? (i := 507) (by decide +kernel))
theorem ml_L_59 : Cond.methodLink "RoomFillsLaw" 59 (⟨"RoomFills", "top", "(II)I"⟩ : MethodName) ∈ lw_tbl := List.mem_append_right _ (List.mem_of_getElem? (i := 510) (by decide +kernel))
theorem ml_X_229 : Cond.methodLink "RoomFills" 229 (⟨"RoomFills", "begins", "(I)Z"⟩ : MethodName) ∈ lw_tbl := List.mem_append_right _ (List.mem_of_getElem? (i := 514) (by decide +kernel))
theorem ml_L_131 : Cond.methodLink "RoomFillsLaw" 131 (⟨"RoomFillsLaw", "place", "(LRoomFills;II[J)I"⟩ : MethodName) ∈ lw_tbl := List.mem_append_right _ (List.mem_of_getElem? (i := 518) (by decide +kernel))
theorem ml_L_62 : Cond.methodLink "RoomFillsLaw" 62 (⟨"RoomFills", "place", "(II)Z"⟩ : MethodName) ∈ lw_tbl := List.mem_append_right _ (List.mem_of_getElem? (i := 521) (by decide +kernel))
theorem ck_X_231 : Cond.constantLong "RoomFills" 231 (-101) ∈ lw_tbl := List.mem_append_right _ (List.mem_of_getElem? (i := 525) (by decide +kernel))
theorem ck_X_233 : Cond.constantLong "RoomFills" 233 (100) ∈ lw_tbl := List.mem_append_right _ (List.mem_of_getElem? (i := 526) (by decide +kernel))
theorem cl_L_74 : Cond.classLink "RoomFillsLaw" 74 "RoomFillsModel" ∈ lw_tbl := List.mem_append_right _ (List.mem_of_getElem? (i := 527) (by decide +kernel))
theorem in_M : Cond.instantiable "RoomFillsModel" 30 ∈ lw_tbl := List.mem_append_right _ (List.mem_of_getElem? (i := 528) (by decide +kernel))
theorem ml_L_76 : Cond.methodLink "RoomFillsLaw" 76 (⟨"RoomFillsModel", "<init>", "(I)V"⟩ : MethodName) ∈ lw_tbl := List.mem_append_right _ (List.mem_of_getElem? (i := 529) (by decide +kernel))
theorem ml_M_1 : Cond.methodLink "RoomFillsModel" 1 (⟨"java/lang/Object", "<init>", "()V"⟩ : MethodName) ∈ lw_tbl := List.mem_append_right _ (List.mem_of_getElem? (i := 532) (by decide +kernel))
theorem fl_M_76 : Cond.fieldLink "RoomFillsModel" 76 "RoomFillsModel" "code" "I" ∈ lw_tbl := List.mem_append_right _ (List.mem_of_getElem? (i := 533) (by decide +kernel))
theorem fl_M_69 : Cond.fieldLink "RoomFillsModel" 69 "RoomFillsModel" "steps" "I" ∈ lw_tbl := List.mem_append_right _ (List.mem_of_getElem? (i := 534) (by decide +kernel))
theorem fl_M_7 : Cond.fieldLink "RoomFillsModel" 7 "RoomFillsModel" "free" "[Z" ∈ lw_tbl := List.mem_append_right _ (List.mem_of_getElem? (i := 535) (by decide +kernel))
theorem fl_M_86 : Cond.fieldLink "RoomFillsModel" 86 "RoomFillsModel" "pipes" "I" ∈ lw_tbl := List.mem_append_right _ (List.mem_of_getElem? (i := 536) (by decide +kernel))
theorem fl_M_13 : Cond.fieldLink "RoomFillsModel" 13 "RoomFillsModel" "pipeAt" "[I" ∈ lw_tbl := List.mem_append_right _ (List.mem_of_getElem? (i := 537) (by decide +kernel))
theorem fl_M_97 : Cond.fieldLink "RoomFillsModel" 97 "RoomFillsModel" "items" "I" ∈ lw_tbl := List.mem_append_right _ (List.mem_of_getElem? (i := 538) (by decide +kernel))
theorem fl_M_17 : Cond.fieldLink "RoomFillsModel" 17 "RoomFillsModel" "widths" "[I" ∈ lw_tbl := List.mem_append_right _ (List.mem_of_getElem? (i := 539) (by decide +kernel))
theorem fl_M_20 : Cond.fieldLink "RoomFillsModel" 20 "RoomFillsModel" "worths" "[J" ∈ lw_tbl := List.mem_append_right _ (List.mem_of_getElem? (i := 540) (by decide +kernel))
theorem fl_M_24 : Cond.fieldLink "RoomFillsModel" 24 "RoomFillsModel" "cents" "[J" ∈ lw_tbl := List.mem_append_right _ (List.mem_of_getElem? (i := 541) (by decide +kernel))
theorem fl_M_27 : Cond.fieldLink "RoomFillsModel" 27 "RoomFillsModel" "needs" "[I" ∈ lw_tbl := List.mem_append_right _ (List.mem_of_getElem? (i := 542) (by decide +kernel))
theorem fl_M_30 : Cond.fieldLink "RoomFillsModel" 30 "RoomFillsModel" "musts" "[Z" ∈ lw_tbl := List.mem_append_right _ (List.mem_of_getElem? (i := 543) (by decide +kernel))
theorem fl_M_33 : Cond.fieldLink "RoomFillsModel" 33 "RoomFillsModel" "nears" "[J" ∈ lw_tbl := List.mem_append_right _ (List.mem_of_getElem? (i := 544) (by decide +kernel))
theorem fl_M_36 : Cond.fieldLink "RoomFillsModel" 36 "RoomFillsModel" "bars" "[Z" ∈ lw_tbl := List.mem_append_right _ (List.mem_of_getElem? (i := 545) (by decide +kernel))
theorem fl_M_73 : Cond.fieldLink "RoomFillsModel" 73 "RoomFillsModel" "least" "I" ∈ lw_tbl := List.mem_append_right _ (List.mem_of_getElem? (i := 546) (by decide +kernel))
theorem fl_M_112 : Cond.fieldLink "RoomFillsModel" 112 "RoomFillsModel" "most" "I" ∈ lw_tbl := List.mem_append_right _ (List.mem_of_getElem? (i := 547) (by decide +kernel))
theorem fl_M_39 : Cond.fieldLink "RoomFillsModel" 39 "RoomFillsModel" "put" "[I" ∈ lw_tbl := List.mem_append_right _ (List.mem_of_getElem? (i := 548) (by decide +kernel))
theorem fl_M_42 : Cond.fieldLink "RoomFillsModel" 42 "RoomFillsModel" "bestWorth" "[J" ∈ lw_tbl := List.mem_append_right _ (List.mem_of_getElem? (i := 549) (by decide +kernel))
theorem fl_M_45 : Cond.fieldLink "RoomFillsModel" 45 "RoomFillsModel" "bestCents" "[J" ∈ lw_tbl := List.mem_append_right _ (List.mem_of_getElem? (i := 550) (by decide +kernel))
theorem fl_M_48 : Cond.fieldLink "RoomFillsModel" 48 "RoomFillsModel" "mayEnd" "[Z" ∈ lw_tbl := List.mem_append_right _ (List.mem_of_getElem? (i := 551) (by decide +kernel))
theorem fl_M_51 : Cond.fieldLink "RoomFillsModel" 51 "RoomFillsModel" "clearFrom" "[I" ∈ lw_tbl := List.mem_append_right _ (List.mem_of_getElem? (i := 552) (by decide +kernel))
theorem fl_M_54 : Cond.fieldLink "RoomFillsModel" 54 "RoomFillsModel" "met" "[Z" ∈ lw_tbl := List.mem_append_right _ (List.mem_of_getElem? (i := 553) (by decide +kernel))
theorem fl_M_79 : Cond.fieldLink "RoomFillsModel" 79 "RoomFillsModel" "hasPlan" "Z" ∈ lw_tbl := List.mem_append_right _ (List.mem_of_getElem? (i := 554) (by decide +kernel))
theorem fl_M_159 : Cond.fieldLink "RoomFillsModel" 159 "RoomFillsModel" "told" "I" ∈ lw_tbl := List.mem_append_right _ (List.mem_of_getElem? (i := 555) (by decide +kernel))
theorem fl_M_57 : Cond.fieldLink "RoomFillsModel" 57 "RoomFillsModel" "toldSets" "[I" ∈ lw_tbl := List.mem_append_right _ (List.mem_of_getElem? (i := 556) (by decide +kernel))
theorem fl_M_149 : Cond.fieldLink "RoomFillsModel" 149 "RoomFillsModel" "pieces" "I" ∈ lw_tbl := List.mem_append_right _ (List.mem_of_getElem? (i := 557) (by decide +kernel))
theorem fl_M_60 : Cond.fieldLink "RoomFillsModel" 60 "RoomFillsModel" "pieceItem" "[I" ∈ lw_tbl := List.mem_append_right _ (List.mem_of_getElem? (i := 558) (by decide +kernel))
theorem fl_M_63 : Cond.fieldLink "RoomFillsModel" 63 "RoomFillsModel" "pieceAt" "[I" ∈ lw_tbl := List.mem_append_right _ (List.mem_of_getElem? (i := 559) (by decide +kernel))
theorem fl_M_66 : Cond.fieldLink "RoomFillsModel" 66 "RoomFillsModel" "pieceSize" "[I" ∈ lw_tbl := List.mem_append_right _ (List.mem_of_getElem? (i := 560) (by decide +kernel))
theorem fl_M_168 : Cond.fieldLink "RoomFillsModel" 168 "RoomFillsModel" "planWorth" "J" ∈ lw_tbl := List.mem_append_right _ (List.mem_of_getElem? (i := 561) (by decide +kernel))
theorem fl_M_172 : Cond.fieldLink "RoomFillsModel" 172 "RoomFillsModel" "planCents" "J" ∈ lw_tbl := List.mem_append_right _ (List.mem_of_getElem? (i := 562) (by decide +kernel))
theorem ml_L_81 : Cond.methodLink "RoomFillsLaw" 81 (⟨"RoomFillsModel", "thrown", "()I"⟩ : MethodName) ∈ lw_tbl := List.mem_append_right _ (List.mem_of_getElem? (i := 624) (by decide +kernel))
theorem ml_L_80 : Cond.methodLink "RoomFillsLaw" 80 (⟨"RoomFillsModel", "door", "(II)Z"⟩ : MethodName) ∈ lw_tbl := List.mem_append_right _ (List.mem_of_getElem? (i := 628) (by decide +kernel))
theorem ml_M_83 : Cond.methodLink "RoomFillsModel" 83 (⟨"RoomFillsModel", "change", "()V"⟩ : MethodName) ∈ lw_tbl := List.mem_append_right _ (List.mem_of_getElem? (i := 632) (by decide +kernel))
theorem ml_L_88 : Cond.methodLink "RoomFillsLaw" 88 (⟨"RoomFillsModel", "pipe", "(I)Z"⟩ : MethodName) ∈ lw_tbl := List.mem_append_right _ (List.mem_of_getElem? (i := 636) (by decide +kernel))
theorem ml_L_94 : Cond.methodLink "RoomFillsLaw" 94 (⟨"RoomFillsModel", "item", "(IJJ)I"⟩ : MethodName) ∈ lw_tbl := List.mem_append_right _ (List.mem_of_getElem? (i := 640) (by decide +kernel))
theorem ck_M_89 : Cond.constantLong "RoomFillsModel" 89 (20) ∈ lw_tbl := List.mem_append_right _ (List.mem_of_getElem? (i := 644) (by decide +kernel))
theorem ml_M_91 : Cond.methodLink "RoomFillsModel" 91 (⟨"RoomFillsModel", "isIn", "(JJJ)Z"⟩ : MethodName) ∈ lw_tbl := List.mem_append_right _ (List.mem_of_getElem? (i := 645) (by decide +kernel))
theorem ck_M_95 : Cond.constantLong "RoomFillsModel" 95 (100000) ∈ lw_tbl := List.mem_append_right _ (List.mem_of_getElem? (i := 648) (by decide +kernel))
theorem ml_L_97 : Cond.methodLink "RoomFillsLaw" 97 (⟨"RoomFillsModel", "need", "(II)Z"⟩ : MethodName) ∈ lw_tbl := List.mem_append_right _ (List.mem_of_getElem? (i := 649) (by decide +kernel))
theorem ml_M_100 : Cond.methodLink "RoomFillsModel" 100 (⟨"RoomFillsModel", "isItem", "(I)Z"⟩ : MethodName) ∈ lw_tbl := List.mem_append_right _ (List.mem_of_getElem? (i := 653) (by decide +kernel))
theorem ck_M_104 : Cond.constantLong "RoomFillsModel" 104 (-1) ∈ lw_tbl := List.mem_append_right _ (List.mem_of_getElem? (i := 657) (by decide +kernel))
theorem ck_M_106 : Cond.constantLong "RoomFillsModel" 106 (40) ∈ lw_tbl := List.mem_append_right _ (List.mem_of_getElem? (i := 658) (by decide +kernel))
theorem ml_L_101 : Cond.methodLink "RoomFillsLaw" 101 (⟨"RoomFillsModel", "near", "(IIJ)Z"⟩ : MethodName) ∈ lw_tbl := List.mem_append_right _ (List.mem_of_getElem? (i := 659) (by decide +kernel))
theorem ml_M_108 : Cond.methodLink "RoomFillsModel" 108 (⟨"RoomFillsModel", "pairCode", "(II)I"⟩ : MethodName) ∈ lw_tbl := List.mem_append_right _ (List.mem_of_getElem? (i := 663) (by decide +kernel))
theorem ml_L_104 : Cond.methodLink "RoomFillsLaw" 104 (⟨"RoomFillsModel", "bar", "(II)Z"⟩ : MethodName) ∈ lw_tbl := List.mem_append_right _ (List.mem_of_getElem? (i := 667) (by decide +kernel))
theorem ml_L_108 : Cond.methodLink "RoomFillsLaw" 108 (⟨"RoomFillsModel", "must", "(IZ)Z"⟩ : MethodName) ∈ lw_tbl := List.mem_append_right _ (List.mem_of_getElem? (i := 671) (by decide +kernel))
theorem ml_L_111 : Cond.methodLink "RoomFillsLaw" 111 (⟨"RoomFillsModel", "filler", "(II)Z"⟩ : MethodName) ∈ lw_tbl := List.mem_append_right _ (List.mem_of_getElem? (i := 675) (by decide +kernel))
theorem ml_L_115 : Cond.methodLink "RoomFillsLaw" 115 (⟨"RoomFillsModel", "run", "()I"⟩ : MethodName) ∈ lw_tbl := List.mem_append_right _ (List.mem_of_getElem? (i := 679) (by decide +kernel))
theorem ml_M_179 : Cond.methodLink "RoomFillsModel" 179 (⟨"RoomFillsModel", "find", "(I)Z"⟩ : MethodName) ∈ lw_tbl := List.mem_append_right _ (List.mem_of_getElem? (i := 683) (by decide +kernel))
theorem ml_M_162 : Cond.methodLink "RoomFillsModel" 162 (⟨"RoomFillsModel", "size", "(I)I"⟩ : MethodName) ∈ lw_tbl := List.mem_append_right _ (List.mem_of_getElem? (i := 687) (by decide +kernel))
theorem ml_M_165 : Cond.methodLink "RoomFillsModel" 165 (⟨"RoomFillsModel", "fill", "()V"⟩ : MethodName) ∈ lw_tbl := List.mem_append_right _ (List.mem_of_getElem? (i := 690) (by decide +kernel))
theorem ml_M_142 : Cond.methodLink "RoomFillsModel" 142 (⟨"RoomFillsModel", "look", "()V"⟩ : MethodName) ∈ lw_tbl := List.mem_append_right _ (List.mem_of_getElem? (i := 694) (by decide +kernel))
theorem ml_M_115 : Cond.methodLink "RoomFillsModel" 115 (⟨"RoomFillsModel", "isNeeded", "(II)Z"⟩ : MethodName) ∈ lw_tbl := List.mem_append_right _ (List.mem_of_getElem? (i := 698) (by decide +kernel))
theorem ml_M_145 : Cond.methodLink "RoomFillsModel" 145 (⟨"RoomFillsModel", "fillAt", "(III)V"⟩ : MethodName) ∈ lw_tbl := List.mem_append_right _ (List.mem_of_getElem? (i := 702) (by decide +kernel))
theorem ml_M_122 : Cond.methodLink "RoomFillsModel" 122 (⟨"RoomFillsModel", "index", "(III)I"⟩ : MethodName) ∈ lw_tbl := List.mem_append_right _ (List.mem_of_getElem? (i := 706) (by decide +kernel))
theorem ml_M_126 : Cond.methodLink "RoomFillsModel" 126 (⟨"RoomFillsModel", "behindFree", "(I)I"⟩ : MethodName) ∈ lw_tbl := List.mem_append_right _ (List.mem_of_getElem? (i := 709) (by decide +kernel))
theorem ml_M_130 : Cond.methodLink "RoomFillsModel" 130 (⟨"RoomFillsModel", "choose", "(IIJJ)V"⟩ : MethodName) ∈ lw_tbl := List.mem_append_right _ (List.mem_of_getElem? (i := 713) (by decide +kernel))
theorem ml_M_134 : Cond.methodLink "RoomFillsModel" 134 (⟨"RoomFillsModel", "mayStand", "(IIII)Z"⟩ : MethodName) ∈ lw_tbl := List.mem_append_right _ (List.mem_of_getElem? (i := 717) (by decide +kernel))
theorem ml_M_119 : Cond.methodLink "RoomFillsModel" 119 (⟨"RoomFillsModel", "isClear", "(II)Z"⟩ : MethodName) ∈ lw_tbl := List.mem_append_right _ (List.mem_of_getElem? (i := 721) (by decide +kernel))
theorem ml_M_138 : Cond.methodLink "RoomFillsModel" 138 (⟨"RoomFillsModel", "worthBehind", "(II)J"⟩ : MethodName) ∈ lw_tbl := List.mem_append_right _ (List.mem_of_getElem? (i := 725) (by decide +kernel))
theorem ml_M_175 : Cond.methodLink "RoomFillsModel" 175 (⟨"RoomFillsModel", "walk", "()I"⟩ : MethodName) ∈ lw_tbl := List.mem_append_right _ (List.mem_of_getElem? (i := 729) (by decide +kernel))
theorem ml_M_152 : Cond.methodLink "RoomFillsModel" 152 (⟨"RoomFillsModel", "goesOn", "(IIJJ)Z"⟩ : MethodName) ∈ lw_tbl := List.mem_append_right _ (List.mem_of_getElem? (i := 733) (by decide +kernel))
theorem ml_M_156 : Cond.methodLink "RoomFillsModel" 156 (⟨"RoomFillsModel", "add", "(III)V"⟩ : MethodName) ∈ lw_tbl := List.mem_append_right _ (List.mem_of_getElem? (i := 737) (by decide +kernel))
theorem ml_L_118 : Cond.methodLink "RoomFillsLaw" 118 (⟨"RoomFillsModel", "variant", "(I)I"⟩ : MethodName) ∈ lw_tbl := List.mem_append_right _ (List.mem_of_getElem? (i := 741) (by decide +kernel))
theorem ck_M_182 : Cond.constantLong "RoomFillsModel" 182 (6) ∈ lw_tbl := List.mem_append_right _ (List.mem_of_getElem? (i := 745) (by decide +kernel))
theorem ml_L_121 : Cond.methodLink "RoomFillsLaw" 121 (⟨"RoomFillsModel", "at", "(I)I"⟩ : MethodName) ∈ lw_tbl := List.mem_append_right _ (List.mem_of_getElem? (i := 746) (by decide +kernel))
theorem ml_M_184 : Cond.methodLink "RoomFillsModel" 184 (⟨"RoomFillsModel", "none", "()Z"⟩ : MethodName) ∈ lw_tbl := List.mem_append_right _ (List.mem_of_getElem? (i := 750) (by decide +kernel))
theorem ml_L_124 : Cond.methodLink "RoomFillsLaw" 124 (⟨"RoomFillsModel", "plan", "(II)I"⟩ : MethodName) ∈ lw_tbl := List.mem_append_right _ (List.mem_of_getElem? (i := 754) (by decide +kernel))
theorem ck_M_188 : Cond.constantLong "RoomFillsModel" 188 (2) ∈ lw_tbl := List.mem_append_right _ (List.mem_of_getElem? (i := 758) (by decide +kernel))
theorem ml_L_127 : Cond.methodLink "RoomFillsLaw" 127 (⟨"RoomFillsModel", "worth", "(I)J"⟩ : MethodName) ∈ lw_tbl := List.mem_append_right _ (List.mem_of_getElem? (i := 759) (by decide +kernel))
theorem ml_L_130 : Cond.methodLink "RoomFillsLaw" 130 (⟨"RoomFillsModel", "top", "(II)I"⟩ : MethodName) ∈ lw_tbl := List.mem_append_right _ (List.mem_of_getElem? (i := 763) (by decide +kernel))
theorem ml_M_190 : Cond.methodLink "RoomFillsModel" 190 (⟨"RoomFillsModel", "beginsTop", "(I)Z"⟩ : MethodName) ∈ lw_tbl := List.mem_append_right _ (List.mem_of_getElem? (i := 767) (by decide +kernel))
theorem ml_L_133 : Cond.methodLink "RoomFillsLaw" 133 (⟨"RoomFillsModel", "place", "(II)Z"⟩ : MethodName) ∈ lw_tbl := List.mem_append_right _ (List.mem_of_getElem? (i := 771) (by decide +kernel))
theorem ck_M_193 : Cond.constantLong "RoomFillsModel" 193 (-101) ∈ lw_tbl := List.mem_append_right _ (List.mem_of_getElem? (i := 775) (by decide +kernel))
theorem ck_M_195 : Cond.constantLong "RoomFillsModel" 195 (100) ∈ lw_tbl := List.mem_append_right _ (List.mem_of_getElem? (i := 776) (by decide +kernel))
theorem ml_L_137 : Cond.methodLink "RoomFillsLaw" 137 (⟨"RoomFillsModel", "check", "()I"⟩ : MethodName) ∈ lw_tbl := List.mem_append_right _ (List.mem_of_getElem? (i := 777) (by decide +kernel))
theorem ml_M_203 : Cond.methodLink "RoomFillsModel" 203 (⟨"RoomFillsModel", "hasGap", "()Z"⟩ : MethodName) ∈ lw_tbl := List.mem_append_right _ (List.mem_of_getElem? (i := 781) (by decide +kernel))
theorem ml_M_200 : Cond.methodLink "RoomFillsModel" 200 (⟨"RoomFillsModel", "covers", "(II)Z"⟩ : MethodName) ∈ lw_tbl := List.mem_append_right _ (List.mem_of_getElem? (i := 785) (by decide +kernel))
theorem ml_M_197 : Cond.methodLink "RoomFillsModel" 197 (⟨"RoomFillsModel", "isPut", "(I)Z"⟩ : MethodName) ∈ lw_tbl := List.mem_append_right _ (List.mem_of_getElem? (i := 789) (by decide +kernel))
theorem ml_M_206 : Cond.methodLink "RoomFillsModel" 206 (⟨"RoomFillsModel", "touch", "(II)Z"⟩ : MethodName) ∈ lw_tbl := List.mem_append_right _ (List.mem_of_getElem? (i := 793) (by decide +kernel))
theorem ml_L_142 : Cond.methodLink "RoomFillsLaw" 142 (⟨"RoomFillsModel", "row", "()J"⟩ : MethodName) ∈ lw_tbl := List.mem_append_right _ (List.mem_of_getElem? (i := 797) (by decide +kernel))
theorem ck_L_89 : Cond.constantLong "RoomFillsLaw" 89 (4294967295) ∈ lw_tbl := List.mem_append_right _ (List.mem_of_getElem? (i := 801) (by decide +kernel))
/-- what a call of a method asks of the tables -/
def KB (k' : Mk) (m : Nat) : Prop := k'.2.2.2.2 = [] ∧ (k'.1.cls ≠ "java/lang/invoke/MethodHandle" ∧ k'.1.cls ≠ "java/lang/invoke/VarHandle") ∧ plainFor k'.1 = true ∧ k'.2.2.1 ≤ 20 ∧ (parseMethodDescriptor k'.1.desc).map (fun q => q.parameters.length) = some m
def KS (k' : Mk) (m : Nat) : Prop := (Cond.static k'.1 ∈ lw_tbl ∧ Cond.initialized k'.1.cls ∈ lw_tbl ∧ Cond.code k'.1 k'.2.1 k'.2.2.1 k'.2.2.2.1 ∈ lw_tbl) ∧ KB k' m
def KV (k' : Mk) (m : Nat) : Prop := (Cond.instanceMethod k'.1 ∈ lw_tbl ∧ Cond.selects k'.1.cls k'.1 k'.1 ∈ lw_tbl ∧ Cond.code k'.1 k'.2.1 k'.2.2.1 k'.2.2.2.1 ∈ lw_tbl) ∧ KB k' m
def KI (k' : Mk) (m : Nat) : Prop := (Cond.instanceMethod k'.1 ∈ lw_tbl ∧ Cond.code k'.1 k'.2.1 k'.2.2.1 none ∈ lw_tbl ∧ k'.2.2.2.1 = none ∧ k'.1.name = "<init>") ∧ KB k' m
theorem kk_X_init : KI k_X_init 1 := ⟨⟨by decide +kernel, by decide +kernel, rfl, rfl⟩, rfl, by decide +kernel, by decide +kernel, by decide, by decide +kernel⟩
theorem kk_J_min : KS k_J_min 2 := ⟨⟨by decide +kernel, by decide +kernel, by decide +kernel⟩, rfl, by decide +kernel, by decide +kernel, by decide, by decide +kernel⟩
theorem kk_J_max : KS k_J_max 2 := ⟨⟨by decide +kernel, by decide +kernel, by decide +kernel⟩, rfl, by decide +kernel, by decide +kernel, by decide, by decide +kernel⟩
theorem kk_X_run : KV k_X_run 0 := ⟨⟨by decide +kernel, by decide +kernel, by decide +kernel⟩, rfl, by decide +kernel, by decide +kernel, by decide, by decide +kernel⟩
theorem kk_X_best : KV k_X_best 1 := ⟨⟨by decide +kernel, by decide +kernel, by decide +kernel⟩, rfl, by decide +kernel, by decide +kernel, by decide, by decide +kernel⟩
theorem kk_X_isUnlike : KV k_X_isUnlike 2 := ⟨⟨by decide +kernel, by decide +kernel, by decide +kernel⟩, rfl, by decide +kernel, by decide +kernel, by decide, by decide +kernel⟩
theorem kk_J_bitCount : KS k_J_bitCount 1 := ⟨⟨by decide +kernel, by decide +kernel, by decide +kernel⟩, rfl, by decide +kernel, by decide +kernel, by decide, by decide +kernel⟩
theorem kk_X_hasRoom : KV k_X_hasRoom 1 := ⟨⟨by decide +kernel, by decide +kernel, by decide +kernel⟩, rfl, by decide +kernel, by decide +kernel, by decide, by decide +kernel⟩
theorem kk_X_atMost : KV k_X_atMost 1 := ⟨⟨by decide +kernel, by decide +kernel, by decide +kernel⟩, rfl, by decide +kernel, by decide +kernel, by decide, by decide +kernel⟩
theorem kk_X_fill : KV k_X_fill 1 := ⟨⟨by decide +kernel, by decide +kernel, by decide +kernel⟩, rfl, by decide +kernel, by decide +kernel, by decide, by decide +kernel⟩
theorem kk_X_touching : KS k_X_touching 1 := ⟨⟨by decide +kernel, by decide +kernel, by decide +kernel⟩, rfl, by decide +kernel, by decide +kernel, by decide, by decide +kernel⟩
theorem kk_X_cell : KS k_X_cell 4 := ⟨⟨by decide +kernel, by decide +kernel, by decide +kernel⟩, rfl, by decide +kernel, by decide +kernel, by decide, by decide +kernel⟩
theorem kk_X_reckon : KV k_X_reckon 5 := ⟨⟨by decide +kernel, by decide +kernel, by decide +kernel⟩, rfl, by decide +kernel, by decide +kernel, by decide, by decide +kernel⟩
theorem kk_X_behindFree : KV k_X_behindFree 1 := ⟨⟨by decide +kernel, by decide +kernel, by decide +kernel⟩, rfl, by decide +kernel, by decide +kernel, by decide, by decide +kernel⟩
theorem kk_X_may : KV k_X_may 5 := ⟨⟨by decide +kernel, by decide +kernel, by decide +kernel⟩, rfl, by decide +kernel, by decide +kernel, by decide, by decide +kernel⟩
theorem kk_X_isOpen : KV k_X_isOpen 2 := ⟨⟨by decide +kernel, by decide +kernel, by decide +kernel⟩, rfl, by decide +kernel, by decide +kernel, by decide, by decide +kernel⟩
theorem kk_X_isMet : KV k_X_isMet 2 := ⟨⟨by decide +kernel, by decide +kernel, by decide +kernel⟩, rfl, by decide +kernel, by decide +kernel, by decide, by decide +kernel⟩
theorem kk_X_withItem : KV k_X_withItem 4 := ⟨⟨by decide +kernel, by decide +kernel, by decide +kernel⟩, rfl, by decide +kernel, by decide +kernel, by decide, by decide +kernel⟩
theorem kk_J_lmax : KS k_J_lmax 2 := ⟨⟨by decide +kernel, by decide +kernel, by decide +kernel⟩, rfl, by decide +kernel, by decide +kernel, by decide, by decide +kernel⟩
theorem kk_X_walk : KV k_X_walk 1 := ⟨⟨by decide +kernel, by decide +kernel, by decide +kernel⟩, rfl, by decide +kernel, by decide +kernel, by decide, by decide +kernel⟩
theorem kk_P_init : KI k_P_init 0 := ⟨⟨by decide +kernel, by decide +kernel, rfl, rfl⟩, rfl, by decide +kernel, by decide +kernel, by decide, by decide +kernel⟩
theorem kk_P_add : KV k_P_add 2 := ⟨⟨by decide +kernel, by decide +kernel, by decide +kernel⟩, rfl, by decide +kernel, by decide +kernel, by decide, by decide +kernel⟩
theorem kk_P_isBetter : KV k_P_isBetter 1 := ⟨⟨by decide +kernel, by decide +kernel, by decide +kernel⟩, rfl, by decide +kernel, by decide +kernel, by decide, by decide +kernel⟩
theorem kk_P_isBefore : KV k_P_isBefore 1 := ⟨⟨by decide +kernel, by decide +kernel, by decide +kernel⟩, rfl, by decide +kernel, by decide +kernel, by decide, by decide +kernel⟩
theorem kk_X_tell : KV k_X_tell 1 := ⟨⟨by decide +kernel, by decide +kernel, by decide +kernel⟩, rfl, by decide +kernel, by decide +kernel, by decide, by decide +kernel⟩
theorem kk_X_check : KV k_X_check 0 := ⟨⟨by decide +kernel, by decide +kernel, by decide +kernel⟩, rfl, by decide +kernel, by decide +kernel, by decide, by decide +kernel⟩
theorem kk_X_isBeyond : KV k_X_isBeyond 1 := ⟨⟨by decide +kernel, by decide +kernel, by decide +kernel⟩, rfl, by decide +kernel, by decide +kernel, by decide, by decide +kernel⟩
theorem kk_X_isPut : KV k_X_isPut 1 := ⟨⟨by decide +kernel, by decide +kernel, by decide +kernel⟩, rfl, by decide +kernel, by decide +kernel, by decide, by decide +kernel⟩
theorem kk_X_pairsBroken : KV k_X_pairsBroken 1 := ⟨⟨by decide +kernel, by decide +kernel, by decide +kernel⟩, rfl, by decide +kernel, by decide +kernel, by decide, by decide +kernel⟩
theorem kk_X_share : KV k_X_share 2 := ⟨⟨by decide +kernel, by decide +kernel, by decide +kernel⟩, rfl, by decide +kernel, by decide +kernel, by decide, by decide +kernel⟩
theorem kk_X_touches : KV k_X_touches 2 := ⟨⟨by decide +kernel, by decide +kernel, by decide +kernel⟩, rfl, by decide +kernel, by decide +kernel, by decide, by decide +kernel⟩
theorem kk_X_isFull : KV k_X_isFull 0 := ⟨⟨by decide +kernel, by decide +kernel, by decide +kernel⟩, rfl, by decide +kernel, by decide +kernel, by decide, by decide +kernel⟩
theorem kk_X_row : KV k_X_row 0 := ⟨⟨by decide +kernel, by decide +kernel, by decide +kernel⟩, rfl, by decide +kernel, by decide +kernel, by decide, by decide +kernel⟩
theorem kk_L_cell : KS k_L_cell 2 := ⟨⟨by decide +kernel, by decide +kernel, by decide +kernel⟩, rfl, by decide +kernel, by decide +kernel, by decide, by decide +kernel⟩
theorem kk_X_door : KV k_X_door 2 := ⟨⟨by decide +kernel, by decide +kernel, by decide +kernel⟩, rfl, by decide +kernel, by decide +kernel, by decide, by decide +kernel⟩
theorem kk_X_isIn : KS k_X_isIn 3 := ⟨⟨by decide +kernel, by decide +kernel, by decide +kernel⟩, rfl, by decide +kernel, by decide +kernel, by decide, by decide +kernel⟩
theorem kk_X_proper : KS k_X_proper 1 := ⟨⟨by decide +kernel, by decide +kernel, by decide +kernel⟩, rfl, by decide +kernel, by decide +kernel, by decide, by decide +kernel⟩
theorem kk_X_told : KV k_X_told 1 := ⟨⟨by decide +kernel, by decide +kernel, by decide +kernel⟩, rfl, by decide +kernel, by decide +kernel, by decide, by decide +kernel⟩
theorem kk_X_pipe : KV k_X_pipe 1 := ⟨⟨by decide +kernel, by decide +kernel, by decide +kernel⟩, rfl, by decide +kernel, by decide +kernel, by decide, by decide +kernel⟩
theorem kk_X_item : KV k_X_item 3 := ⟨⟨by decide +kernel, by decide +kernel, by decide +kernel⟩, rfl, by decide +kernel, by decide +kernel, by decide, by decide +kernel⟩
theorem kk_X_can : KS k_X_can 1 := ⟨⟨by decide +kernel, by decide +kernel, by decide +kernel⟩, rfl, by decide +kernel, by decide +kernel, by decide, by decide +kernel⟩
theorem kk_I_init : KI k_I_init 3 := ⟨⟨by decide +kernel, by decide +kernel, rfl, rfl⟩, rfl, by decide +kernel, by decide +kernel, by decide, by decide +kernel⟩
theorem kk_X_need : KV k_X_need 2 := ⟨⟨by decide +kernel, by decide +kernel, by decide +kernel⟩, rfl, by decide +kernel, by decide +kernel, by decide, by decide +kernel⟩
theorem kk_X_itemAt : KV k_X_itemAt 1 := ⟨⟨by decide +kernel, by decide +kernel, by decide +kernel⟩, rfl, by decide +kernel, by decide +kernel, by decide, by decide +kernel⟩
theorem kk_X_there : KS k_X_there 1 := ⟨⟨by decide +kernel, by decide +kernel, by decide +kernel⟩, rfl, by decide +kernel, by decide +kernel, by decide, by decide +kernel⟩
theorem kk_X_near : KV k_X_near 3 := ⟨⟨by decide +kernel, by decide +kernel, by decide +kernel⟩, rfl, by decide +kernel, by decide +kernel, by decide, by decide +kernel⟩
theorem kk_X_pairThere : KV k_X_pairThere 2 := ⟨⟨by decide +kernel, by decide +kernel, by decide +kernel⟩, rfl, by decide +kernel, by decide +kernel, by decide, by decide +kernel⟩
theorem kk_X_bar : KV k_X_bar 2 := ⟨⟨by decide +kernel, by decide +kernel, by decide +kernel⟩, rfl, by decide +kernel, by decide +kernel, by decide, by decide +kernel⟩
theorem kk_X_must : KV k_X_must 2 := ⟨⟨by decide +kernel, by decide +kernel, by decide +kernel⟩, rfl, by decide +kernel, by decide +kernel, by decide, by decide +kernel⟩
theorem kk_X_filler : KV k_X_filler 2 := ⟨⟨by decide +kernel, by decide +kernel, by decide +kernel⟩, rfl, by decide +kernel, by decide +kernel, by decide, by decide +kernel⟩
theorem kk_X_variant : KV k_X_variant 1 := ⟨⟨by decide +kernel, by decide +kernel, by decide +kernel⟩, rfl, by decide +kernel, by decide +kernel, by decide, by decide +kernel⟩
theorem kk_X_at : KV k_X_at 1 := ⟨⟨by decide +kernel, by decide +kernel, by decide +kernel⟩, rfl, by decide +kernel, by decide +kernel, by decide, by decide +kernel⟩
theorem kk_X_plan : KV k_X_plan 2 := ⟨⟨by decide +kernel, by decide +kernel, by decide +kernel⟩, rfl, by decide +kernel, by decide +kernel, by decide, by decide +kernel⟩
theorem kk_X_wide : KV k_X_wide 1 := ⟨⟨by decide +kernel, by decide +kernel, by decide +kernel⟩, rfl, by decide +kernel, by decide +kernel, by decide, by decide +kernel⟩
theorem kk_X_worth : KV k_X_worth 1 := ⟨⟨by decide +kernel, by decide +kernel, by decide +kernel⟩, rfl, by decide +kernel, by decide +kernel, by decide, by decide +kernel⟩
theorem kk_X_top : KV k_X_top 2 := ⟨⟨by decide +kernel, by decide +kernel, by decide +kernel⟩, rfl, by decide +kernel, by decide +kernel, by decide, by decide +kernel⟩
theorem kk_X_begins : KV k_X_begins 1 := ⟨⟨by decide +kernel, by decide +kernel, by decide +kernel⟩, rfl, by decide +kernel, by decide +kernel, by decide, by decide +kernel⟩
theorem kk_X_place : KV k_X_place 2 := ⟨⟨by decide +kernel, by decide +kernel, by decide +kernel⟩, rfl, by decide +kernel, by decide +kernel, by decide, by decide +kernel⟩
theorem kk_M_init : KI k_M_init 1 := ⟨⟨by decide +kernel, by decide +kernel, rfl, rfl⟩, rfl, by decide +kernel, by decide +kernel, by decide, by decide +kernel⟩
theorem kk_M_thrown : KV k_M_thrown 0 := ⟨⟨by decide +kernel, by decide +kernel, by decide +kernel⟩, rfl, by decide +kernel, by decide +kernel, by decide, by decide +kernel⟩
theorem kk_M_door : KV k_M_door 2 := ⟨⟨by decide +kernel, by decide +kernel, by decide +kernel⟩, rfl, by decide +kernel, by decide +kernel, by decide, by decide +kernel⟩
theorem kk_M_change : KV k_M_change 0 := ⟨⟨by decide +kernel, by decide +kernel, by decide +kernel⟩, rfl, by decide +kernel, by decide +kernel, by decide, by decide +kernel⟩
theorem kk_M_pipe : KV k_M_pipe 1 := ⟨⟨by decide +kernel, by decide +kernel, by decide +kernel⟩, rfl, by decide +kernel, by decide +kernel, by decide, by decide +kernel⟩
theorem kk_M_item : KV k_M_item 3 := ⟨⟨by decide +kernel, by decide +kernel, by decide +kernel⟩, rfl, by decide +kernel, by decide +kernel, by decide, by decide +kernel⟩
theorem kk_M_isIn : KS k_M_isIn 3 := ⟨⟨by decide +kernel, by decide +kernel, by decide +kernel⟩, rfl, by decide +kernel, by decide +kernel, by decide, by decide +kernel⟩
theorem kk_M_need : KV k_M_need 2 := ⟨⟨by decide +kernel, by decide +kernel, by decide +kernel⟩, rfl, by decide +kernel, by decide +kernel, by decide, by decide +kernel⟩
theorem kk_M_isItem : KV k_M_isItem 1 := ⟨⟨by decide +kernel, by decide +kernel, by decide +kernel⟩, rfl, by decide +kernel, by decide +kernel, by decide, by decide +kernel⟩
theorem kk_M_near : KV k_M_near 3 := ⟨⟨by decide +kernel, by decide +kernel, by decide +kernel⟩, rfl, by decide +kernel, by decide +kernel, by decide, by decide +kernel⟩
theorem kk_M_pairCode : KV k_M_pairCode 2 := ⟨⟨by decide +kernel, by decide +kernel, by decide +kernel⟩, rfl, by decide +kernel, by decide +kernel, by decide, by decide +kernel⟩
theorem kk_M_bar : KV k_M_bar 2 := ⟨⟨by decide +kernel, by decide +kernel, by decide +kernel⟩, rfl, by decide +kernel, by decide +kernel, by decide, by decide +kernel⟩
theorem kk_M_must : KV k_M_must 2 := ⟨⟨by decide +kernel, by decide +kernel, by decide +kernel⟩, rfl, by decide +kernel, by decide +kernel, by decide, by decide +kernel⟩
theorem kk_M_filler : KV k_M_filler 2 := ⟨⟨by decide +kernel, by decide +kernel, by decide +kernel⟩, rfl, by decide +kernel, by decide +kernel, by decide, by decide +kernel⟩
theorem kk_M_run : KV k_M_run 0 := ⟨⟨by decide +kernel, by decide +kernel, by decide +kernel⟩, rfl, by decide +kernel, by decide +kernel, by decide, by decide +kernel⟩
theorem kk_M_find : KV k_M_find 1 := ⟨⟨by decide +kernel, by decide +kernel, by decide +kernel⟩, rfl, by decide +kernel, by decide +kernel, by decide, by decide +kernel⟩
theorem kk_M_size : KS k_M_size 1 := ⟨⟨by decide +kernel, by decide +kernel, by decide +kernel⟩, rfl, by decide +kernel, by decide +kernel, by decide, by decide +kernel⟩
theorem kk_M_fill : KV k_M_fill 0 := ⟨⟨by decide +kernel, by decide +kernel, by decide +kernel⟩, rfl, by decide +kernel, by decide +kernel, by decide, by decide +kernel⟩
theorem kk_M_look : KV k_M_look 0 := ⟨⟨by decide +kernel, by decide +kernel, by decide +kernel⟩, rfl, by decide +kernel, by decide +kernel, by decide, by decide +kernel⟩
theorem kk_M_isNeeded : KV k_M_isNeeded 2 := ⟨⟨by decide +kernel, by decide +kernel, by decide +kernel⟩, rfl, by decide +kernel, by decide +kernel, by decide, by decide +kernel⟩
theorem kk_M_fillAt : KV k_M_fillAt 3 := ⟨⟨by decide +kernel, by decide +kernel, by decide +kernel⟩, rfl, by decide +kernel, by decide +kernel, by decide, by decide +kernel⟩
theorem kk_M_index : KS k_M_index 3 := ⟨⟨by decide +kernel, by decide +kernel, by decide +kernel⟩, rfl, by decide +kernel, by decide +kernel, by decide, by decide +kernel⟩
theorem kk_M_behindFree : KV k_M_behindFree 1 := ⟨⟨by decide +kernel, by decide +kernel, by decide +kernel⟩, rfl, by decide +kernel, by decide +kernel, by decide, by decide +kernel⟩
theorem kk_M_choose : KV k_M_choose 4 := ⟨⟨by decide +kernel, by decide +kernel, by decide +kernel⟩, rfl, by decide +kernel, by decide +kernel, by decide, by decide +kernel⟩
theorem kk_M_mayStand : KV k_M_mayStand 4 := ⟨⟨by decide +kernel, by decide +kernel, by decide +kernel⟩, rfl, by decide +kernel, by decide +kernel, by decide, by decide +kernel⟩
theorem kk_M_isClear : KV k_M_isClear 2 := ⟨⟨by decide +kernel, by decide +kernel, by decide +kernel⟩, rfl, by decide +kernel, by decide +kernel, by decide, by decide +kernel⟩
theorem kk_M_worthBehind : KV k_M_worthBehind 2 := ⟨⟨by decide +kernel, by decide +kernel, by decide +kernel⟩, rfl, by decide +kernel, by decide +kernel, by decide, by decide +kernel⟩
theorem kk_M_walk : KV k_M_walk 0 := ⟨⟨by decide +kernel, by decide +kernel, by decide +kernel⟩, rfl, by decide +kernel, by decide +kernel, by decide, by decide +kernel⟩
theorem kk_M_goesOn : KV k_M_goesOn 4 := ⟨⟨by decide +kernel, by decide +kernel, by decide +kernel⟩, rfl, by decide +kernel, by decide +kernel, by decide, by decide +kernel⟩
theorem kk_M_add : KV k_M_add 3 := ⟨⟨by decide +kernel, by decide +kernel, by decide +kernel⟩, rfl, by decide +kernel, by decide +kernel, by decide, by decide +kernel⟩
theorem kk_M_variant : KV k_M_variant 1 := ⟨⟨by decide +kernel, by decide +kernel, by decide +kernel⟩, rfl, by decide +kernel, by decide +kernel, by decide, by decide +kernel⟩
theorem kk_M_at : KV k_M_at 1 := ⟨⟨by decide +kernel, by decide +kernel, by decide +kernel⟩, rfl, by decide +kernel, by decide +kernel, by decide, by decide +kernel⟩
theorem kk_M_none : KV k_M_none 0 := ⟨⟨by decide +kernel, by decide +kernel, by decide +kernel⟩, rfl, by decide +kernel, by decide +kernel, by decide, by decide +kernel⟩
theorem kk_M_plan : KV k_M_plan 2 := ⟨⟨by decide +kernel, by decide +kernel, by decide +kernel⟩, rfl, by decide +kernel, by decide +kernel, by decide, by decide +kernel⟩
theorem kk_M_worth : KV k_M_worth 1 := ⟨⟨by decide +kernel, by decide +kernel, by decide +kernel⟩, rfl, by decide +kernel, by decide +kernel, by decide, by decide +kernel⟩
theorem kk_M_top : KV k_M_top 2 := ⟨⟨by decide +kernel, by decide +kernel, by decide +kernel⟩, rfl, by decide +kernel, by decide +kernel, by decide, by decide +kernel⟩
theorem kk_M_beginsTop : KV k_M_beginsTop 1 := ⟨⟨by decide +kernel, by decide +kernel, by decide +kernel⟩, rfl, by decide +kernel, by decide +kernel, by decide, by decide +kernel⟩
theorem kk_M_place : KV k_M_place 2 := ⟨⟨by decide +kernel, by decide +kernel, by decide +kernel⟩, rfl, by decide +kernel, by decide +kernel, by decide, by decide +kernel⟩
theorem kk_M_check : KV k_M_check 0 := ⟨⟨by decide +kernel, by decide +kernel, by decide +kernel⟩, rfl, by decide +kernel, by decide +kernel, by decide, by decide +kernel⟩
theorem kk_M_hasGap : KV k_M_hasGap 0 := ⟨⟨by decide +kernel, by decide +kernel, by decide +kernel⟩, rfl, by decide +kernel, by decide +kernel, by decide, by decide +kernel⟩
theorem kk_M_covers : KV k_M_covers 2 := ⟨⟨by decide +kernel, by decide +kernel, by decide +kernel⟩, rfl, by decide +kernel, by decide +kernel, by decide, by decide +kernel⟩
theorem kk_M_isPut : KV k_M_isPut 1 := ⟨⟨by decide +kernel, by decide +kernel, by decide +kernel⟩, rfl, by decide +kernel, by decide +kernel, by decide, by decide +kernel⟩
theorem kk_M_touch : KV k_M_touch 2 := ⟨⟨by decide +kernel, by decide +kernel, by decide +kernel⟩, rfl, by decide +kernel, by decide +kernel, by decide, by decide +kernel⟩
theorem kk_M_row : KV k_M_row 0 := ⟨⟨by decide +kernel, by decide +kernel, by decide +kernel⟩, rfl, by decide +kernel, by decide +kernel, by decide, by decide +kernel⟩
section WRAP
variable {G : Gm} {k : Mk} {d rc rs pc pc' : Nat} {ls : List (Option Value)} {stk : List Value} {n : Nat} {μ : Mem} {Q : Oc → Nat → Mem → Prop}
theorem Ct.ofp {mc ms r : Nat} {av : List Value} (hl : lsOf av ++ List.replicate r none = ls) (hn : ls.length ≤ k.2.2.1) (h : Ev G k d mc ms 0 ls [] n μ Q) : Ct G k d mc ms av n μ Q := by
  intro p l e R s m below meth c hC hH h1 h2
  rw [lg_entry_eq]
  have hlen : (lsOf av).length ≤ k.2.2.1 := by rw [← hl] at hn; simp at hn; omega
  have he := lv_entry av (n := k.2.2.1) (by rw [← lsOf_len]; exact hlen)
  refine h p l e R s m av.toArray below meth c s.heap [] 0 0 mc ms _ ⟨hC, hH, (fun q h => by cases h), ⟨by omega, by omega, h1, h2⟩, ⟨he.1, he.2.1, (fun q h => by cases h)⟩, hn, fun i v hv => ?_⟩
  rw [← hl] at hv
  have hv2 : (lsOf av)[i]? = some (some v) := by
    rcases Nat.lt_or_ge i (lsOf av).length with h | h
    · rwa [List.getElem?_append_left h] at hv
    · rw [List.getElem?_append_right h, List.getElem?_replicate] at hv
      split at hv <;> simp at hv
  have := lsOf_args av 0 i v hv2
  rw [Nat.zero_add] at this
  exact he.2.2 _ this
theorem cs {k' : Mk} {index mc' ms' m : Nat} {As : List Value} {Q' : Oc → Nat → Mem → Prop} (hd : Dk k pc (.invokestatic index) 3 pc') (hw : Cond.methodLink k.1.cls index k'.1 ∈ lw_tbl) (hk : KS k' m) (hm : As.length = m) (hh : k.2.2.2.2 = []) (hst : (stk.map fun v => v.category).sum ≤ 8)
    (hct : Ct G k' d mc' ms' As n μ Q') (kk : ∀ o n' μ', Q' o n' μ' → Aft G k (d + 1) rc rs pc' ls stk Q o n' μ') : Ev G k (d + 1) (rc + mc') (rs + ms') pc ls (As.reverse ++ stk) n μ Q :=
  ev_callS hd hw hk.1.1 hk.1.2.1 hk.1.2.2 hk.2.1 hh hk.2.2.1 hk.2.2.2.1 hk.2.2.2.2.1 (by rw [hm]; exact hk.2.2.2.2.2) hst hct kk
theorem cv {k' : Mk} {index mc' ms' m t ci : Nat} {r : vw_C} {fs As : List Value} {Q' : Oc → Nat → Mem → Prop} (hd : Dk k pc (.invokevirtual index) 3 pc') (hw : Cond.methodLink k.1.cls index k'.1 ∈ lw_tbl) (hk : KV k' m) (hm : As.length = m) (hh : k.2.2.2.2 = []) (hst : (stk.map fun v => v.category).sum ≤ 8)
    (ht : t < n) (hmt : μ t = ob ci fs) (hc : classes[ci]? = some r) (hrc : r.1 = k'.1.cls)
    (hct : Ct G k' d mc' ms' (.ref (G.1 + t) :: As) n μ Q') (kk : ∀ o n' μ', Q' o n' μ' → Aft G k (d + 1) rc rs pc' ls stk Q o n' μ') : Ev G k (d + 1) (rc + mc') (rs + ms') pc ls (As.reverse ++ .ref (G.1 + t) :: stk) n μ Q :=
  ev_callV hd hw hk.1.1 hk.1.2.1 hk.1.2.2 hk.2.1 hh hk.2.2.1 hk.2.2.2.1 hk.2.2.2.2.1 (by rw [hm]; exact hk.2.2.2.2.2) hst ht hmt hc hrc hct kk
theorem cvc {k' : Mk} {index mc' ms' m t ci : Nat} {r : vw_C} {fs As : List Value} {Q' : Oc → Nat → Mem → Prop} (hd : Dk k pc (.invokevirtual index) 3 pc') (hw : Cond.methodLink k.1.cls index k'.1 ∈ lw_tbl) (hk : KV k' m) (hm : As.length = m) (hkl : k.1.cls = "RoomFillsLaw") (hst : (stk.map fun v => v.category).sum ≤ 8)
    (ht : t < n) (hmt : μ t = ob ci fs) (hc : classes[ci]? = some r) (hrc : r.1 = k'.1.cls)
    (hct : Ct G k' d mc' ms' (.ref (G.1 + t) :: As) n μ Q') (kk : ∀ o n' μ', Q' o n' μ' → AftC G k (d + 1) rc rs pc pc' ls stk Q o n' μ') : Ev G k (d + 1) (rc + mc') (rs + ms') pc ls (As.reverse ++ .ref (G.1 + t) :: stk) n μ Q :=
  ev_callVC hd hw hk.1.1 hk.1.2.1 hk.1.2.2 hk.2.1 hkl hk.2.2.1 hk.2.2.2.1 hk.2.2.2.2.1 (by rw [hm]; exact hk.2.2.2.2.2) hst ht hmt hc hrc hct kk
theorem ci {k' : Mk} {index mc' ms' m t : Nat} {As : List Value} {Q' : Oc → Nat → Mem → Prop} (hd : Dk k pc (.invokespecial index) 3 pc') (hw : Cond.methodLink k.1.cls index k'.1 ∈ lw_tbl) (hk : KI k' m) (hm : As.length = m) (hh : k.2.2.2.2 = []) (hst : (stk.map fun v => v.category).sum ≤ 8)
    (hct : Ct G k' d mc' ms' (.ref (G.1 + t) :: As) n μ Q') (kk : ∀ o n' μ', Q' o n' μ' → Aft G k (d + 1) rc rs pc' ls stk Q o n' μ') : Ev G k (d + 1) (rc + mc') (rs + ms') pc ls (As.reverse ++ .ref (G.1 + t) :: stk) n μ Q :=
  ev_callI hd hw hk.1.1 hk.1.2.1 hk.1.2.2.1 hk.2.1 hk.1.2.2.2 hh hk.2.2.1 hk.2.2.2.1 hk.2.2.2.2.1 (by rw [hm]; exact hk.2.2.2.2.2) hst hct kk
theorem cin {k' : Mk} {index mc' ms' m t : Nat} {host : String} {As : List Value} {Q' : Oc → Nat → Mem → Prop} (hd : Dk k pc (.invokespecial index) 3 pc') (hw : Cond.methodLinkNest k.1.cls index k'.1 host ∈ lw_tbl) (hk : KI k' m) (hm : As.length = m) (hh : k.2.2.2.2 = []) (hst : (stk.map fun v => v.category).sum ≤ 8)
    (hct : Ct G k' d mc' ms' (.ref (G.1 + t) :: As) n μ Q') (kk : ∀ o n' μ', Q' o n' μ' → Aft G k (d + 1) rc rs pc' ls stk Q o n' μ') : Ev G k (d + 1) (rc + mc') (rs + ms') pc ls (As.reverse ++ .ref (G.1 + t) :: stk) n μ Q :=
  ev_callIN hd hw hk.1.1 hk.1.2.1 hk.1.2.2.1 hk.2.1 hk.1.2.2.2 hh hk.2.2.1 hk.2.2.2.1 hk.2.2.2.2.1 (by rw [hm]; exact hk.2.2.2.2.2) hst hct kk
/-- the answer of a method that changes nothing -/
def Rd (v : Option Value) (n : Nat) (μ : Mem) : Oc → Nat → Mem → Prop := fun o n' μ' => o = .inl v ∧ n' = n ∧ μ' = μ
/-- behind a call that changes nothing -/
theorem rd {v : Option Value} (h : Ev G k d rc rs pc ls (v.toList ++ stk) n μ Q) : ∀ o n' μ', Rd v n μ o n' μ' → Aft G k d rc rs pc ls stk Q o n' μ' := by
  rintro o n' μ' ⟨rfl, rfl, rfl⟩
  exact h
theorem Ct.le {d' mc ms : Nat} {av : List Value} (hd : d' ≤ d) (h : Ct G k d' mc ms av n μ Q) : Ct G k d mc ms av n μ Q := fun p l e R s m below meth c hC => h p l e R s m below meth c (hC.le hd)
theorem Ct.bud {mc ms mc' ms' : Nat} {av : List Value} (h1 : mc' ≤ mc) (h2 : ms' ≤ ms) (h : Ct G k d mc' ms' av n μ Q) : Ct G k d mc ms av n μ Q := by
  intro p l e R s m below meth c hC hH q1 q2
  have := h p l e R s m below meth c hC hH (by omega) (by omega)
  refine W.mono (fun t ⟨o, n, μ, L, a1, a2, a3, a4, a5, a6, a7⟩ => ⟨o, n, μ, L, a1, a2, a3, a4.mono h1 h2, a5, a6, a7⟩) this
end WRAP
