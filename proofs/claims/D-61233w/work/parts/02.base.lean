/-! ===== the judgement Ev: a method's walk over a memory of tokens ===== -/
abbrev Cn : Type := (Nat × vp_A) ⊕ (Nat × List Value)
abbrev Mem : Type := Nat → Cn
abbrev Gm : Type := Nat × Heap × va_G × (Nat → ClassId)
abbrev Oc : Type := Option Value ⊕ Nat
def cvE (cA : Nat → ClassId) (e : Cn) : va_E := match e with
  | .inl a => .inl (cA a.1, a.2)
  | .inr o => .inr o
def mset (μ : Mem) (t : Nat) (e : Cn) : Mem := fun j => if j = t then e else μ j
theorem mset_eq (μ : Mem) (t : Nat) (e : Cn) : mset μ t e t = e := if_pos rfl
theorem mset_ne (μ : Mem) {t j : Nat} (e : Cn) (h : j ≠ t) : mset μ t e j = μ j := if_neg h
def atT : Nat → FieldType := fun k => match k with
  | 0 => .boolean
  | 1 => .int
  | 2 => .long
  | 3 => .object "RoomFills$Item"
  | 4 => .array .long
  | _ => .array .boolean
def tysOf (cA : Nat → ClassId) : List (ClassId × FieldType) := [(cA 0, .boolean), (cA 1, .int), (cA 2, .long), (cA 3, .object "RoomFills$Item"), (cA 4, .array .long), (cA 5, .array .boolean)]
def HR (G : Gm) (n : Nat) (μ : Mem) (H : Heap) : Prop := H.size = G.1 + n ∧ (∀ q, q < G.1 → H[q]? = G.2.1[q]?) ∧ ∀ t, t < n → va_at G.2.2.1 classes (G.1 + t, cvE G.2.2.2 (μ t)) H
/-- words that hold on under warmer tables -/
def isNest : Cond → Bool
  | .fieldLinkNest .. => true
  | .methodLinkNest .. => true
  | _ => false
def okw (w : Cond) : Bool := goodWord w || (w.onTables && w.faceAtom) || isNest w
def Ak (G : Gm) (s : State) : Prop := (∃ k, s.vm.classes[G.2.2.2 4]? = some k ∧ k.kind = .array (G.2.2.2 2) (.array .long)) ∧ (∃ k, s.vm.classes[G.2.2.2 5]? = some k ∧ k.kind = .array (G.2.2.2 0) (.array .boolean))
def Nx (G : Gm) (s : State) : Prop := ∀ i j, 4 ≤ i → i < 7 → 4 ≤ j → j < 7 → i ≠ j → s.vm.assignable (G.2.2.1.1 i) (G.2.2.1.1 j) = false
def Wd (G : Gm) (s : State) : Prop := (∀ w ∈ lw_tbl, okw w = true → ∀ a : Array Value, w.before a s = true) ∧ va_K G.2.2.1 classes (tysOf G.2.2.2) s ∧ va_AO "RoomFills$Item" s ∧ (Cond.arrayOver (.array .long)).before #[] s = true ∧ (Cond.arrayOver (.array .boolean)).before #[] s = true ∧ Ak G s ∧ Nx G s
theorem okw_moved {w : Cond} (hw : okw w = true) {s U : State} (hW : s.WarmedH U.vm) {a a' : Array Value} (h : w.before a s = true) : w.before a' U = true := by
  simp only [okw, Bool.or_eq_true] at hw
  rcases hw with (hw | hw) | hw
  · exact word_at hW (good_of_word hw) h
  · simp only [Bool.and_eq_true] at hw
    exact va_tabs hw.1 (rfl : (s.setVm U.vm).vm = U.vm) (Cond.faceAtom_setVm hW.alike _ hw.2 h)
  · cases w with
    | fieldLinkNest c i r n d hh =>
      exact va_tabs rfl (rfl : (s.setVm U.vm).vm = U.vm) (Cond.fieldLinkNest_warmed (args := a) hW h)
    | methodLinkNest c i x hh =>
      exact va_tabs rfl (rfl : (s.setVm U.vm).vm = U.vm) (Cond.methodLinkNest_warmed (args := a) hW h)
    | _ => simp [isNest] at hw
theorem Wd.moved {G : Gm} {s U : State} (hW : s.WarmedH U.vm) (h : Wd G s) : Wd G U := by
  obtain ⟨h1, h2, h3, h4, h5, ⟨⟨k4, q4, r4⟩, ⟨k5, q5, r5⟩⟩, h7⟩ := h
  have hal := hW.alike
  refine ⟨fun w hm ho a => okw_moved ho hW (h1 w hm ho #[]), h2.moved hal, h3.moved hal, over_moved hal h4, over_moved hal h5, ⟨?_, ?_⟩, fun i j a b c d e => by rw [hal.assignable]; exact h7 i j a b c d e⟩
  · obtain ⟨k', hk', he⟩ := hal.2.2 _ _ q4
    exact ⟨k', hk', by rw [he]; exact r4⟩
  · obtain ⟨k', hk', he⟩ := hal.2.2 _ _ q5
    exact ⟨k', hk', by rw [he]; exact r5⟩
def sxw : List Cond := [Cond.isRef (.static "java/lang/Throwable" "UNASSIGNED_STACK" "[Ljava/lang/StackTraceElement;"), Cond.isRef (.static "java/lang/Throwable" "SUPPRESSED_SENTINEL" "Ljava/util/List;"), Cond.laysStatic "java/lang/Throwable" "UNASSIGNED_STACK" "[Ljava/lang/StackTraceElement;", Cond.laysStatic "java/lang/Throwable" "SUPPRESSED_SENTINEL" "Ljava/util/List;"]
def SxQ (U : State) : Prop := ∀ w ∈ sxw, ∀ a : Array Value, w.before a U = true
/-- the exceptions' statics; the script's class (number 7) -/
def Sx (G : Gm) (s : State) : Prop := (∀ U : State, s.vm.Alike U.vm → (∀ q, q < G.1 → U.heap[q]? = G.2.1[q]?) → SxQ U) ∧ ∃ k, s.vm.classes[G.2.2.2 7]? = some k ∧ ∃ comp, k.kind = .array comp .int
theorem Sx.moved {G : Gm} {s U : State} (hW : s.vm.Alike U.vm) (h : Sx G s) : Sx G U := by
  obtain ⟨h1, k, h2, comp, h3⟩ := h
  refine ⟨fun V hV hh => h1 V (hW.trans hV) hh, ?_⟩
  obtain ⟨k', hk', he⟩ := hW.2.2 _ _ h2
  exact ⟨k', hk', comp, by rw [he]; exact h3⟩
def Cx (G : Gm) (k : Mk) (d : Nat) (p : Program) (e : Env) (R : Room) (s : State) (m : MethodId) (meth : Method) (c : Code) : Prop :=
  p.tables.exec = Jvm.exec ∧ c.code = k.2.1 ∧ c.maxLocals = k.2.2.1 ∧ meth.sig.returnType = k.2.2.2.1 ∧ meth.locks = false ∧ meth.name = k.1.name ∧ s.vm.findClass k.1.cls = some m.cls ∧
  c.exceptionTable.toList.map (fun h => (h.startPc, h.endPc, h.handlerPc, h.catchType)) = k.2.2.2.2 ∧ Wd G s ∧ Sx G s ∧ (∀ q, q < G.1 → s.heap[q]? = G.2.1[q]?) ∧ (∀ q cell, G.1 ≤ q → s.heap[q]? = some cell → cell.vm.isStatics = false) ∧ G.1 ≤ s.heap.size ∧
  d ≤ R.frames ∧ 40 * d ≤ R.locals ∧ e.platform.stackTraces = false
def toO (G : Gm) (o : Oc) : Outcome := match o with
  | .inl v => .returned v
  | .inr t => .threw (G.1 + t)
def EQ (G : Gm) (Q : Oc → Nat → Mem → Prop) (below : List Frame) (s : State) (mc ms : Nat) : State → Prop := fun t =>
  ∃ (o : Oc) (n : Nat) (μ : Mem) (L : List Loc), t.status = .running ∧ Ended t below (toO G o) ∧ s.WarmedH t.vm ∧ s.sameButNew { t with vm := s.vm } L mc ms ∧ (∀ q ∈ L, G.1 ≤ q.base) ∧ Q o n μ ∧ HR G n μ t.heap
/-- known locals: place i holds v where the list has 'some v' there -/
def LvO (L : Array Slot) (nL : Nat) (ls : List (Option Value)) : Prop := lv_has L nL [] ∧ ls.length ≤ nL ∧ ∀ (i : Nat) (v : Value), ls[i]? = some (some v) → L[i]? = some (.val v)
def EvC (G : Gm) (k : Mk) (d rc rs : Nat) (ls : List (Option Value)) (n : Nat) (μ : Mem) (p : Program) (e : Env) (R : Room) (s : State) (m : MethodId) (meth : Method) (c : Code) (H : Heap) (locs : List Loc) (cells slots mc ms : Nat) (L : Array Slot) : Prop :=
  Cx G k d p e R s m meth c ∧ HR G n μ H ∧ (∀ q ∈ locs, G.1 ≤ q.base) ∧ (cells + rc ≤ mc ∧ slots + rs ≤ ms ∧ mc ≤ R.cells ∧ ms ≤ R.slots) ∧ LvO L k.2.2.1 ls
def Ev (G : Gm) (k : Mk) (d rc rs pc : Nat) (ls : List (Option Value)) (stk : List Value) (n : Nat) (μ : Mem) (Q : Oc → Nat → Mem → Prop) : Prop :=
  ∀ (p : Program) (l : Launch) (e : Env) (R : Room) (s : State) (m : MethodId) (args : Array Value) (below : List Frame) (meth : Method) (c : Code) (H : Heap) (locs : List Loc) (cells slots mc ms : Nat) (L : Array Slot),
    EvC G k d rc rs ls n μ p e R s m meth c H locs cells slots mc ms L → W p l e R s m args below meth c H locs cells slots (EQ G Q below s mc ms) (F0 m pc L stk)
def Ct (G : Gm) (k : Mk) (d mc ms : Nat) (av : List Value) (n : Nat) (μ : Mem) (Q : Oc → Nat → Mem → Prop) : Prop :=
  ∀ (p : Program) (l : Launch) (e : Env) (R : Room) (s : State) (m : MethodId) (below : List Frame) (meth : Method) (c : Code),
    Cx G k d p e R s m meth c → HR G n μ s.heap → mc ≤ R.cells → ms ≤ R.slots → W p l e R s m av.toArray below meth c s.heap [] 0 0 (EQ G Q below s mc ms) (entryFrame m av.toArray k.2.2.1)
/-- an instruction at a place, and the next place -/
def Dk (k : Mk) (pc : Nat) (i : Instr) (len pc' : Nat) : Prop := decode k.2.1 pc = .ok (i, len) ∧ pc + len = pc'
def Dj (k : Mk) (pc : Nat) (i : Instr) (off : Int) (tgt pc' : Nat) : Prop := decode k.2.1 pc = .ok (i, 3) ∧ (pc : Int) + off = (tgt : Int) ∧ pc + 3 = pc'
/-- the locals of a start -/
def lsOf : List Value → List (Option Value)
  | [] => []
  | v :: vs => if v.category = 2 then some v :: none :: lsOf vs else some v :: lsOf vs
/-- a store -/
def lset1 (ls : List (Option Value)) (i : Nat) (v : Value) : List (Option Value) := ls.set i (some v)
theorem W.mono {p : Program} {l : Launch} {e : Env} {R : Room} {s : State} {m : MethodId} {args : Array Value} {below : List Frame} {meth : Method} {c : Code} {H : Heap} {locs : List Loc} {cells slots : Nat} {Q Q' : State → Prop} {g : JFrame} (h : ∀ t, Q t → Q' t) (k : W p l e R s m args below meth c H locs cells slots Q g) : W p l e R s m args below meth c H locs cells slots Q' g := fun T hT X => by
  obtain ⟨t, a, b⟩ := k T hT X
  exact ⟨t, a, h t b⟩
theorem Cx.le {G : Gm} {k : Mk} {d d' : Nat} {p : Program} {e : Env} {R : Room} {s : State} {m : MethodId} {meth : Method} {c : Code} (hd : d' ≤ d) (h : Cx G k d p e R s m meth c) : Cx G k d' p e R s m meth c := by
  obtain ⟨h1, h2, h3, h4, h5, h6, h7, h8, h9, h10, h11, h12, h13, h14, h15, h16⟩ := h
  exact ⟨h1, h2, h3, h4, h5, h6, h7, h8, h9, h10, h11, h12, h13, by omega, by omega, h16⟩
section BASE
variable {G : Gm} {k : Mk} {d d' rc rs rc' rs' pc pc' : Nat} {ls ls' : List (Option Value)} {stk : List Value} {n : Nat} {μ : Mem} {Q Q' : Oc → Nat → Mem → Prop}
theorem Ev.le (hd : d' ≤ d) (h : Ev G k d' rc rs pc ls stk n μ Q) : Ev G k d rc rs pc ls stk n μ Q :=
  fun p l e R s m args below meth c H locs cells slots mc ms L hC => h p l e R s m args below meth c H locs cells slots mc ms L ⟨hC.1.le hd, hC.2⟩
theorem Ev.bud (h1 : rc' ≤ rc) (h2 : rs' ≤ rs) (h : Ev G k d rc' rs' pc ls stk n μ Q) : Ev G k d rc rs pc ls stk n μ Q :=
  fun p l e R s m args below meth c H locs cells slots mc ms L hC => h p l e R s m args below meth c H locs cells slots mc ms L ⟨hC.1, hC.2.1, hC.2.2.1, ⟨by have := hC.2.2.2.1.1; omega, by have := hC.2.2.2.1.2.1; omega, hC.2.2.2.1.2.2.1, hC.2.2.2.1.2.2.2⟩, hC.2.2.2.2⟩
/-- forget locals -/
theorem Ev.fgt (hl : ls'.length ≤ ls.length) (h1 : ∀ (i : Nat) (v : Value), ls'[i]? = some (some v) → ls[i]? = some (some v)) (h : Ev G k d rc rs pc ls' stk n μ Q) : Ev G k d rc rs pc ls stk n μ Q :=
  fun p l e R s m args below meth c H locs cells slots mc ms L hC => h p l e R s m args below meth c H locs cells slots mc ms L ⟨hC.1, hC.2.1, hC.2.2.1, hC.2.2.2.1, hC.2.2.2.2.1, Nat.le_trans hl hC.2.2.2.2.2.1, fun i v hv => hC.2.2.2.2.2.2 i v (h1 i v hv)⟩
theorem Ev.post (hq : ∀ o n' μ', Q' o n' μ' → Q o n' μ') (h : Ev G k d rc rs pc ls stk n μ Q') : Ev G k d rc rs pc ls stk n μ Q :=
  fun p l e R s m args below meth c H locs cells slots mc ms L hC => W.mono (fun t ⟨o, n, μ, L, h1, h2, h3, h4, h5, h6, h7⟩ => ⟨o, n, μ, L, h1, h2, h3, h4, h5, hq _ _ _ h6, h7⟩) (h p l e R s m args below meth c H locs cells slots mc ms L hC)
theorem Ct.post {mc ms : Nat} {av : List Value} (hq : ∀ o n' μ', Q' o n' μ' → Q o n' μ') (h : Ct G k d mc ms av n μ Q') : Ct G k d mc ms av n μ Q :=
  fun p l e R s m below meth c hC hH h1 h2 => W.mono (fun t ⟨o, n, μ, L, h1, h2, h3, h4, h5, h6, h7⟩ => ⟨o, n, μ, L, h1, h2, h3, h4, h5, hq _ _ _ h6, h7⟩) (h p l e R s m below meth c hC hH h1 h2)
theorem lsOf_args : ∀ (av : List Value) (j i : Nat) (v : Value), (lsOf av)[i]? = some (some v) → (j + i, v) ∈ lv_args j av
  | [], j, i, v, h => by simp [lsOf] at h
  | w :: vs, j, i, v, h => by
    by_cases hc : w.category = 2
    · simp only [lsOf, hc, if_true] at h
      simp only [lv_args, hc, if_true]
      match i, h with
      | 0, h => simp at h; subst h; exact List.mem_cons_self
      | 1, h => simp at h
      | i + 2, h =>
        have := lsOf_args vs (j + 2) i v (by simpa using h)
        exact List.mem_cons_of_mem _ (by rw [show j + (i + 2) = j + 2 + i by omega]; exact this)
    · simp only [lsOf, hc, if_false] at h
      simp only [lv_args, hc, if_false]
      match i, h with
      | 0, h => simp at h; subst h; exact List.mem_cons_self
      | i + 1, h =>
        have := lsOf_args vs (j + 1) i v (by simpa using h)
        exact List.mem_cons_of_mem _ (by rw [show j + (i + 1) = j + 1 + i by omega]; exact this)
theorem lsOf_len : ∀ av : List Value, (lsOf av).length = (lg_sl av).length
  | [] => rfl
  | w :: vs => by
    have ih := lsOf_len vs
    have e : lg_sl (w :: vs) = (if w.category = 2 then [Slot.val w, Slot.second] else [Slot.val w]) ++ lg_sl vs := by simp [lg_sl]
    by_cases hc : w.category = 2
    · rw [e]; simp only [lsOf, hc, if_true]; simp [ih]
    · rw [e]; simp only [lsOf, hc, if_false]; simp [ih]
/-- a contract out of the walk from the entry -/
theorem Ct.of {mc ms : Nat} {av : List Value} (hl : (lsOf av).length ≤ k.2.2.1) (h : Ev G k d mc ms 0 (lsOf av) [] n μ Q) : Ct G k d mc ms av n μ Q := by
  intro p l e R s m below meth c hC hH h1 h2
  rw [lg_entry_eq]
  have he := lv_entry av (n := k.2.2.1) (by rw [← lsOf_len]; exact hl)
  refine h p l e R s m av.toArray below meth c s.heap [] 0 0 mc ms _ ⟨hC, hH, (fun q h => by cases h), ⟨by omega, by omega, h1, h2⟩, ⟨he.1, he.2.1, (fun q h => by cases h)⟩, hl, fun i v hv => ?_⟩
  have := lsOf_args av 0 i v hv
  rw [Nat.zero_add] at this
  exact he.2.2 _ this
theorem LvO.st1 {L : Array Slot} {nL i : Nat} {v : Value} (h : LvO L nL ls) (hi : i < nL) (hc : v.category = 1) (hov : ∀ w, (ls[i - 1]? = some (some w)) → i ≠ 0 → w.category = 1) :
    ∃ L', storeLocals L i v = some L' ∧ LvO L' nL (ls.set i (some v)) := by
  obtain ⟨h1, h2, h3⟩ := h
  -- all known locals as one list
  have hall : lv_has L nL ((List.range ls.length).filterMap fun j => match ls[j]? with | some (some w) => some (j, w) | _ => none) := by
    refine ⟨h1.1, h1.2.1, fun q hq => ?_⟩
    obtain ⟨j, -, hj⟩ := List.mem_filterMap.mp hq
    split at hj
    · next w hw => cases hj; exact h3 _ _ hw
    · cases hj
  obtain ⟨L', e', h'⟩ := lv_store1 (v := v) hall hi hc
  refine ⟨L', e', ⟨h'.1, h'.2.1, fun q hq => by cases hq⟩, by simpa using h2, fun j w hj => ?_⟩
  by_cases hji : j = i
  · subst hji
    by_cases hl : j < ls.length
    · rw [List.getElem?_set_self hl] at hj
      cases hj
      exact h'.2.2 _ List.mem_cons_self
    · rw [List.getElem?_eq_none (by simpa using Nat.le_of_not_lt hl)] at hj
      cases hj
  · rw [List.getElem?_set_ne (Ne.symm hji)] at hj
    refine h'.2.2 (j, w) (List.mem_cons_of_mem _ (List.mem_filter.mpr ⟨List.mem_filterMap.mpr ⟨j, List.mem_range.mpr (List.getElem?_eq_some_iff.mp hj).1, by simp [hj]⟩, ?_⟩))
    simp only [Bool.and_eq_true, Bool.not_eq_true', beq_eq_false_iff_ne, Bool.and_eq_false_iff]
    refine ⟨hji, ?_⟩
    by_cases hj1 : j + 1 = i
    · right
      rw [hov w (by rw [show i - 1 = j by omega]; exact hj) (by omega)]
      decide
    · left; exact hj1
theorem LvO.st2 {L : Array Slot} {nL i : Nat} {v : Value} (h : LvO L nL ls) (hi : i + 1 < nL) (hc : v.category = 2) (hov : ∀ w, (ls[i - 1]? = some (some w)) → i ≠ 0 → w.category = 1) :
    ∃ L', storeLocals L i v = some L' ∧ LvO L' nL ((ls.set i (some v)).set (i + 1) none) := by
  obtain ⟨h1, h2, h3⟩ := h
  have hall : lv_has L nL ((List.range ls.length).filterMap fun j => match ls[j]? with | some (some w) => some (j, w) | _ => none) := by
    refine ⟨h1.1, h1.2.1, fun q hq => ?_⟩
    obtain ⟨j, -, hj⟩ := List.mem_filterMap.mp hq
    split at hj
    · next w hw => cases hj; exact h3 _ _ hw
    · cases hj
  obtain ⟨L', e', h'⟩ := lv_store2 (v := v) hall hi hc
  refine ⟨L', e', ⟨h'.1, h'.2.1, fun q hq => by cases hq⟩, by simpa using h2, fun j w hj => ?_⟩
  by_cases hj2 : j = i + 1
  · subst hj2
    by_cases hl : i + 1 < ((ls.set i (some v))).length
    · rw [List.getElem?_set_self hl] at hj; cases hj
    · rw [List.getElem?_eq_none (by simpa using Nat.le_of_not_lt hl)] at hj
      cases hj
  rw [List.getElem?_set_ne (Ne.symm hj2)] at hj
  by_cases hji : j = i
  · subst hji
    by_cases hl : j < ls.length
    · rw [List.getElem?_set_self hl] at hj
      cases hj
      exact h'.2.2 _ List.mem_cons_self
    · rw [List.getElem?_eq_none (by simpa using Nat.le_of_not_lt hl)] at hj
      cases hj
  · rw [List.getElem?_set_ne (Ne.symm hji)] at hj
    refine h'.2.2 (j, w) (List.mem_cons_of_mem _ (List.mem_filter.mpr ⟨List.mem_filterMap.mpr ⟨j, List.mem_range.mpr (List.getElem?_eq_some_iff.mp hj).1, by simp [hj]⟩, ?_⟩))
    have hw1 : j + 1 = i → w.category = 1 := fun hj1 => hov w (by rw [show i - 1 = j by omega]; exact hj) (by omega)
    by_cases hj1 : j + 1 = i
    · simp [hji, hj2, hw1 hj1]
    · simp [hji, hj2, hj1]
end BASE
