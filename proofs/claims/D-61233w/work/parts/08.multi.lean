/-! ===== multianewarray of six times six ===== -/
def mgC (c2 : ClassId) (a0 : Nat) : Nat → Cell
  | 0 => { cls := c2, slots := Array.replicate 6 .null, vm := .none }
  | i + 1 => (mgC c2 a0 i).setSlot i (.ref (a0 + 1 + i))
def mgI (c1 : ClassId) (dv : Value) : Cell := { cls := c1, slots := Array.replicate 6 dv, vm := .none }
def mgS (s : State) (c2 c1 : ClassId) (dv : Value) : Nat → State
  | 0 => s.pushCell (mgC c2 s.heap.size 0)
  | i + 1 => ((mgS s c2 c1 dv i).pushCell (mgI c1 dv)).setCell s.heap.size (mgC c2 s.heap.size (i + 1))
theorem mgC_sz (c2 : ClassId) (a0 i : Nat) : (mgC c2 a0 i).slots.size = 6 := by
  induction i with
  | zero => simp [mgC]
  | succ i ih => simp [mgC, Cell.setSlot, ih]
theorem mgC_vm (c2 : ClassId) (a0 i : Nat) : (mgC c2 a0 i).vm = .none ∧ (mgC c2 a0 i).cls = c2 := by
  induction i with
  | zero => simp [mgC]
  | succ i ih => simp [mgC, Cell.setSlot, ih]
theorem mgS_f {s : State} {c2 c1 : ClassId} {dv : Value} (i : Nat) : (mgS s c2 c1 dv i).heap.size = s.heap.size + 1 + i ∧ (mgS s c2 c1 dv i).heap[s.heap.size]? = some (mgC c2 s.heap.size i) ∧ (∀ q, q < s.heap.size → (mgS s c2 c1 dv i).heap[q]? = s.heap[q]?) ∧ (∀ j, j < i → (mgS s c2 c1 dv i).heap[s.heap.size + 1 + j]? = some (mgI c1 dv)) ∧ (mgS s c2 c1 dv i).vm = s.vm ∧ (mgS s c2 c1 dv i).slotsUsed = s.slotsUsed + 6 + 6 * i ∧ (mgS s c2 c1 dv i).topJava? = s.topJava? := by
  induction i with
  | zero =>
    refine ⟨by simp [mgS, State.pushCell], by simp [mgS, State.pushCell], fun q hq => ?_, fun j hj => absurd hj (Nat.not_lt_zero j), rfl, by simp [mgS, State.pushCell, mgC], rfl⟩
    simp [mgS, State.pushCell, Array.getElem?_push, Nat.ne_of_lt hq]
  | succ i ih =>
    obtain ⟨h1, h2, h3, h4, h5, h6, h7⟩ := ih
    have hsz : ((mgS s c2 c1 dv i).pushCell (mgI c1 dv)).heap.size = s.heap.size + 1 + (i + 1) := by simp [State.pushCell, h1]; omega
    refine ⟨by simp only [mgS]; rw [size_setCell]; exact hsz, ?_, fun q hq => ?_, fun j hj => ?_, ?_, ?_, ?_⟩
    · simp only [mgS]
      have hlt : s.heap.size < ((mgS s c2 c1 dv i).pushCell (mgI c1 dv)).heap.size := by rw [hsz]; omega
      exact heapAt_setCell_self _ hlt
    · simp only [mgS]
      have hne : s.heap.size ≠ q := by omega
      rw [heapAt_setCell_ne _ hne]
      simp only [State.pushCell]
      rw [Array.getElem?_push, if_neg (by rw [h1]; omega)]
      exact h3 q hq
    · simp only [mgS]
      have hne : s.heap.size ≠ s.heap.size + 1 + j := by omega
      rw [heapAt_setCell_ne _ hne]
      simp only [State.pushCell]
      by_cases hji : j = i
      · subst hji
        rw [Array.getElem?_push, if_pos h1.symm]
      · rw [Array.getElem?_push, if_neg (by rw [h1]; omega)]
        exact h4 j (by omega)
    · exact h5
    · show (mgS s c2 c1 dv i).slotsUsed + (mgI c1 dv).slots.size = _
      rw [h6]; simp [mgI]; omega
    · exact h7
theorem mgS_top {s : State} {c2 c1 : ClassId} {dv : Value} {g : JFrame} (i : Nat) : (mgS (s.setTop g) c2 c1 dv i) = (mgS s c2 c1 dv i).setTop g := by
  induction i with
  | zero => rfl
  | succ i ih =>
    simp only [mgS, ih]
    rfl
theorem fits_aref (ty : FieldType) (v : Addr) : fits (.array ty) (.ref v) = true := rfl
/-- one row of the grid -/
theorem multi_row {E : CtlPost} {e : Env} {d : Bool} {acts : List Action} {s : State} {Q : ForInStep PUnit → Pre} {c2 c1 comp : ClassId} {k2 k1 : Class} {ty : FieldType} {i : Nat} (hi : i < 6)
    (hk2 : s.vm.classes[c2]? = some k2) (hkind2 : k2.kind = .array c1 (.array ty)) (hk1 : s.vm.classes[c1]? = some k1) (hkind1 : k1.kind = .array comp ty) (hfit : fits ty (defaultValue ty) = true)
    (hlimit : ¬ 6 > e.platform.arrayLengthLimit) (hheap : ¬ 6 * componentBytes ty > e.platform.maxHeapBytes) (hcells : s.heap.size + 7 ≤ e.platform.maxCells) (hslots : s.slotsUsed + 42 ≤ e.platform.maxSlots)
    (hq : ∀ d' acts', Q (.yield PUnit.unit) d' acts' (mgS s c2 c1 (defaultValue ty) (i + 1))) :
    wp (do let r ← multianewarray.make c1 [6]; writeLoc s.heap.size i (.ref r); Pure.pure (ForInStep.yield PUnit.unit)) Q E e d acts (mgS s c2 c1 (defaultValue ty) i) := by
  have hn6 : ¬ ((6 : Int32) < 0) := by decide
  have h6 : (6 : Int32).toNatClampNeg = 6 := by decide
  obtain ⟨h1, h2, h3, h4, h5, h7, h8⟩ := mgS_f (s := s) (c2 := c2) (c1 := c1) (dv := defaultValue ty) i
  rw [wp_bind']
  rw [multianewarray.make]
  simp only [wp_bind', W.ite, hn6, if_false, wp_pure', W.theClass, h5, hk1, Option.some.injEq, exists_eq_left', hkind1, h6]
  refine W.newArray_of (k := k1) (comp := comp) (type := ty) (by rw [h5]; exact hk1) hkind1 hlimit hheap (by rw [h1]; omega) (by rw [h7]; omega) hfit fun acts1 => ?_
  simp only [wp_bind', W.writeLoc, wp_pure']
  have hsz := h1
  refine ⟨mgC c2 s.heap.size i, ?_, (by rw [(mgC_vm _ _ _).1]; exact fun h => (by cases h)), (by rw [mgC_sz]; exact hi), ?_, ?_⟩
  · simp only [State.pushCell]
    rw [Array.getElem?_push, if_neg (by rw [h1]; omega)]
    exact h2
  · rw [(mgC_vm _ _ _).1, (mgC_vm _ _ _).2]
    have hv : ((mgS s c2 c1 (defaultValue ty) i).pushCell { cls := c1, slots := Array.replicate 6 (defaultValue ty) }).vm = s.vm := h5
    simp [State.fitsSlot, State.slotType?, h5, hk2, hkind2, fits_aref]
  · have := hq true (writeActs ⟨s.heap.size, i⟩ .plain (.ref (mgS s c2 c1 (defaultValue ty) i).heap.size) acts1)
    have e1 : (mgC c2 s.heap.size i).setSlot i (.ref (mgS s c2 c1 (defaultValue ty) i).heap.size) = mgC c2 s.heap.size (i + 1) := by rw [h1]; rfl
    rw [e1]
    exact this
set_option maxHeartbeats 2000000 in
theorem multi_wp {E : CtlPost} {e : Env} {d : Bool} {acts : List Action} {s : State} {f : JFrame} {Q : Unit → Pre} {index : Nat} {c2 c1 comp : ClassId} {k2 k1 : Class} {ty : FieldType} {rest : List Value}
    (hs : s.topJava?.isSome) (hr : s.vm.classReady f.method.cls index c2) (hk2 : s.vm.classes[c2]? = some k2) (hkind2 : k2.kind = .array c1 (.array ty)) (hk1 : s.vm.classes[c1]? = some k1) (hkind1 : k1.kind = .array comp ty) (hfit : fits ty (defaultValue ty) = true)
    (hstack : f.stack = .int 6 :: .int 6 :: rest) (hlimit : ¬ 6 > e.platform.arrayLengthLimit) (hheap : ¬ 6 * componentBytes ty > e.platform.maxHeapBytes) (hheap2 : ¬ 6 * componentBytes (.array ty) > e.platform.maxHeapBytes) (hcells : s.heap.size + 7 ≤ e.platform.maxCells) (hslots : s.slotsUsed + 42 ≤ e.platform.maxSlots)
    (hq : ∀ d' acts', Q () d' acts' ((mgS s c2 c1 (defaultValue ty) 6).setTop { f with stack := .ref s.heap.size :: rest })) :
    wp (multianewarray.sem index 2) Q E e d acts (s.setTop f) := by
  simp only [multianewarray.sem, wp_bind', W.resolveClassAt_ready (State.method?_setTop f hs) hr, W.popN]
  rw [if_neg (by decide)]
  refine ⟨f, State.topJava?_setTop' _ hs, [.int 6, .int 6], rest, rfl, by simpa using hstack, ?_⟩
  simp only [List.mapM_cons, List.mapM_nil, wp_bind', wp_pure', State.setTop_setTop]
  have h6 : (6 : Int32).toNatClampNeg = 6 := by decide
  have hn6 : ¬ ((6 : Int32) < 0) := by decide
  have hz : ((6 : Int32) == 0) = false := by decide
  generalize hg' : ({ f with stack := rest } : JFrame) = g
  rw [multianewarray.make]
  simp only [wp_bind', W.ite, hn6, if_false, wp_pure', W.theClass, State.vm_setTop, hk2, Option.some.injEq, exists_eq_left', hkind2, h6]
  refine W.newArray_of (k := k2) (comp := c1) (type := .array ty) (by exact hk2) hkind2 hlimit hheap2 (by show s.heap.size < _; omega) (by show s.slotsUsed + 6 ≤ _; omega) rfl fun acts1 => ?_
  simp only [hz, Bool.false_eq_true, if_false, wp_bind', W.ite, wp_pure']
  rw [Std.Legacy.Range.forIn_eq_forIn_range']
  have hsz : ([:6] : Std.Legacy.Range).size = 6 := by decide
  rw [hsz]
  have hr6 : List.range' ([:6] : Std.Legacy.Range).start 6 ([:6] : Std.Legacy.Range).step = List.range' 0 6 1 := rfl
  rw [hr6]
  refine wp_forIn_inv (fun rest s' => ∃ i, i ≤ 6 ∧ rest = List.range' i (6 - i) ∧ s' = mgS (s.setTop g) c2 c1 (defaultValue ty) i) _ _ ⟨0, by omega, rfl, rfl⟩ ?_ ?_
  · rintro x rest' s' d' acts' Q' ⟨i, hi, hl, rfl⟩ hnext
    have hlt : i < 6 := by
      rcases Nat.lt_or_ge i 6 with h | h
      · exact h
      · rw [show 6 - i = 0 by omega] at hl; simp at hl
    obtain ⟨rfl, hrest⟩ : x = i ∧ rest' = List.range' (i + 1) (6 - (i + 1)) := by
      rw [show 6 - i = (6 - (i + 1)) + 1 by omega, List.range'_succ] at hl
      exact ⟨(List.cons.inj hl).1, (List.cons.inj hl).2⟩
    exact multi_row (s := s.setTop g) hlt hk2 hkind2 hk1 hkind1 hfit hlimit hheap hcells hslots (fun d'' acts'' => hnext _ _ _ ⟨x + 1, by omega, hrest, rfl⟩)
  · rintro s' d' acts' ⟨i, hi, hl, rfl⟩
    have hi6 : i = 6 := by
      rcases Nat.lt_or_ge i 6 with h | h
      · rw [show 6 - i = (6 - (i + 1)) + 1 by omega, List.range'_succ] at hl; cases hl
      · omega
    subst hi6
    simp only [wp_bind', wp_pure', W.mark, W.pushRef]
    have htop := (mgS_f (s := s.setTop g) (c2 := c2) (c1 := c1) (dv := defaultValue ty) 6).2.2.2.2.2.2
    refine ⟨g, by rw [htop]; exact State.topJava?_setTop' _ hs, ?_⟩
    rw [mgS_top, State.setTop_setTop]
    subst hg'
    exact hq _ _
section MULTI
variable {G : Gm} {k : Mk} {d rc rs pc pc' : Nat} {ls : List (Option Value)} {stk : List Value} {n : Nat} {μ : Mem} {Q : Oc → Nat → Mem → Prop}
/-- the memory with a grid behind it -/
def mgrid (B : Nat) (μ : Mem) (n ty : Nat) (inner : Cn) : Mem := fun j => if j = n then aR ty 6 (fun i => if i < 6 then some (B + n + 1 + i) else none) else if n < j ∧ j < n + 7 then inner else μ j
theorem mgC_val (c2 : ClassId) (a0 : Nat) : mgC c2 a0 6 = arrV c2 6 (fun j => va_rf (if j < 6 then some (a0 + 1 + j) else none)) := by
  simp only [mgC, arrV, Cell.setSlot]
  rfl
theorem mgI_val (c1 : ClassId) (x : Value) : mgI c1 x = arrV c1 6 (fun _ => x) := arrV_new c1 6 x
theorem mg_stand {p : Program} {l : Launch} {e : Env} {R : Room} {s : State} {m : MethodId} {args : Array Value} {below : List Frame} {meth : Method} {c : Code} {T : State} {locs : List Loc} {cells slots : Nat} (c2 c1 : ClassId) (dv : Value) (hB : G.1 ≤ T.heap.size)
    (X : Stand p l e R s m args below meth c T locs cells slots) : ∀ i, ∃ L, (∀ q ∈ L, G.1 ≤ q.base) ∧ Stand p l e R s m args below meth c (mgS T c2 c1 dv i) (locs ++ L) (cells + (1 + i)) (slots + (6 + 6 * i))
  | 0 => ⟨[], (fun q h => by cases h), by
    have := X.pushed (mgC c2 T.heap.size 0)
    rw [mgC_sz] at this
    simpa [mgS] using this⟩
  | i + 1 => by
    obtain ⟨L, hL, X1⟩ := mg_stand c2 c1 dv hB X i
    have X2 := X1.pushed (mgI c1 dv)
    obtain ⟨h1, h2, h3, h4, h5, h6, h7⟩ := mgS_f (s := T) (c2 := c2) (c1 := c1) (dv := dv) i
    have hc : ((mgS T c2 c1 dv i).pushCell (mgI c1 dv)).heap[T.heap.size]? = some (mgC c2 T.heap.size i) := by
      simp only [State.pushCell]
      rw [Array.getElem?_push, if_neg (by rw [h1]; omega)]
      exact h2
    have X3 := X2.stored hc i (.ref (T.heap.size + 1 + i))
    refine ⟨L ++ [⟨T.heap.size, i⟩], fun q hq => ?_, ?_⟩
    · rcases List.mem_append.mp hq with h | h
      · exact hL q h
      · rw [List.mem_singleton.mp h]; exact hB
    · have e1 : (mgI c1 dv).slots.size = 6 := by simp [mgI]
      rw [e1] at X3
      rw [← List.append_assoc]
      have e2 : cells + (1 + i) + 1 = cells + (1 + (i + 1)) := by omega
      have e3 : slots + (6 + 6 * i) + 6 = slots + (6 + 6 * (i + 1)) := by omega
      rw [← e2, ← e3]
      exact X3
set_option maxHeartbeats 2000000 in
theorem ev_multi {index ty2 ty1 : Nat} {ft : FieldType} {inner : Cn} {nm : String} (hd : Dk k pc (.multianewarray index 2) 4 pc') (hw : Cond.classLink k.1.cls index nm ∈ lw_tbl) (hnm : nm = "[" ++ (FieldType.array ft).toString)
    (ht2 : (tysOf G.2.2.2)[ty2]? = some (G.2.2.2 ty2, .array ft)) (ht1 : (tysOf G.2.2.2)[ty1]? = some (G.2.2.2 ty1, ft)) (hft : fits ft (defaultValue ft) = true) (hcb : componentBytes ft ≤ 8)
    (hk2 : ∀ s, Wd G s → ∃ kk, s.vm.classes[G.2.2.2 ty2]? = some kk ∧ kk.kind = .array (G.2.2.2 ty1) (.array ft)) (hin : ∀ c, arrV (G.2.2.2 ty1) 6 (fun _ => defaultValue ft) = c → va_at G.2.2.1 classes (0, cvE G.2.2.2 inner) #[c])
    (kk : Ev G k d rc rs pc' ls (.ref (G.1 + n) :: stk) (n + 7) (mgrid G.1 μ n ty2 inner) Q) : Ev G k d (rc + 7) (rs + 42) pc ls (.int 6 :: .int 6 :: stk) n μ Q := by
  obtain ⟨hd, rfl⟩ := hd
  intro p l e R s m args below meth c H locs cells slots mc ms L h
  obtain ⟨hC, hH, hL, hB, hLv⟩ := id h
  have hWd := hC.2.2.2.2.2.2.2.2.1
  have hown := hC.2.2.2.2.2.2.1
  intro T hT X
  subst hT
  have hpl : e.platform.magicAccessors = ({} : Platform).magicAccessors := by rw [X.admits.platform]
  obtain ⟨cc', hfcc, hcl⟩ := Cond.classLink_spec (args := args) hown (hWd.w hw rfl args) e.platform hpl
  have hra : s.vm.findClass ("[" ++ (FieldType.array ft).toString) = some (G.2.2.2 ty2) := (hWd.2.1.2 ty2 _ ht2).2
  rw [hnm] at hfcc
  have hcc : cc' = G.2.2.2 ty2 := Option.some.inj (hfcc.symm.trans hra)
  subst hcc
  obtain ⟨hg₁, hwarm₁, hready₁⟩ := State.classEntry (e := e) X.warmed hcl
  generalize T.vm.noted m.cls index (.cls (G.2.2.2 ty2)) = vm₁ at hg₁ hwarm₁ hready₁
  have hal := hwarm₁.alike
  obtain ⟨k2, q2, r2⟩ := hk2 s hWd
  obtain ⟨k2', q2', he2⟩ := hal.2.2 _ _ q2
  obtain ⟨-, k1, q1, comp, r1⟩ := (hWd.2.1.2 ty1 _ ht1).1 0 (fun _ => .null)
  obtain ⟨k1', q1', he1⟩ := hal.2.2 _ _ q1
  have X₁ := X.noted hwarm₁
  obtain ⟨hr1, hr2⟩ := X.roomAbove (show cells + 7 ≤ R.cells by omega) (show slots + 42 ≤ R.slots by omega)
  obtain ⟨L', hL', X6⟩ := mg_stand (G := G) (G.2.2.2 ty2) (G.2.2.2 ty1) (defaultValue ft) (by show G.1 ≤ T.heap.size; have := hH.1; omega) X₁ 6
  obtain ⟨f1, f2, f3, f4, f5, f6, f7⟩ := mgS_f (s := T.setVm vm₁) (c2 := G.2.2.2 ty2) (c1 := G.2.2.2 ty1) (dv := defaultValue ft) 6
  have hsz := hH.1
  have hHR : HR G (n + 7) (mgrid G.1 μ n ty2 inner) (mgS (T.setVm vm₁) (G.2.2.2 ty2) (G.2.2.2 ty1) (defaultValue ft) 6).heap := by
    have f1' : (mgS (T.setVm vm₁) (G.2.2.2 ty2) (G.2.2.2 ty1) (defaultValue ft) 6).heap.size = T.heap.size + 1 + 6 := f1
    refine ⟨by rw [f1']; omega, fun q hq => ?_, fun t ht => ?_⟩
    · have := f3 q (by show q < T.heap.size; omega)
      rw [this]
      exact hH.2.1 q hq
    · by_cases h1 : t = n
      · subst h1
        simp only [mgrid, if_true]
        show (mgS _ _ _ _ 6).heap[G.1 + t]? = some (vp_cell _ _)
        rw [← hsz]
        have f2' : (mgS (T.setVm vm₁) (G.2.2.2 ty2) (G.2.2.2 ty1) (defaultValue ft) 6).heap[T.heap.size]? = some (mgC (G.2.2.2 ty2) T.heap.size 6) := f2
        rw [f2', mgC_val, vp_cell_q, hsz]
      · by_cases h2 : n < t ∧ t < n + 7
        · simp only [mgrid, h1, if_false, h2, and_self, if_true]
          obtain ⟨j, rfl⟩ : ∃ j, t = n + 1 + j := ⟨t - n - 1, by omega⟩
          have f4' : (mgS (T.setVm vm₁) (G.2.2.2 ty2) (G.2.2.2 ty1) (defaultValue ft) 6).heap[T.heap.size + 1 + j]? = some (mgI (G.2.2.2 ty1) (defaultValue ft)) := f4 j (by omega)
          have h0 := hin _ rfl
          rw [mgI_val] at f4'
          rw [show G.1 + (n + 1 + j) = T.heap.size + 1 + j by omega]
          cases hc : cvE G.2.2.2 inner with
          | inl x =>
            rw [hc] at h0
            show (mgS _ _ _ _ 6).heap[_]? = some (vp_cell _ _)
            rw [f4']
            exact h0
          | inr o =>
            rw [hc] at h0
            obtain ⟨r, z1, cell, z2, z3⟩ := h0
            exact ⟨r, z1, cell, by rw [f4']; exact z2, z3⟩
        · simp only [mgrid, h1, if_false, h2]
          exact (hH.2.2 t (by omega)).kept (f3 _ (by show G.1 + t < T.heap.size; omega))
  obtain ⟨t', a1, b1⟩ := kk p l e R s m args below meth c _ (locs ++ L') (cells + (1 + 6)) (slots + (6 + 6 * 6)) mc ms L ⟨hC, hHR, fun q hq => by
    rcases List.mem_append.mp hq with h1 | h1
    · exact hL q h1
    · exact hL' q h1, ⟨by omega, by omega, hB.2.2.1, hB.2.2.2⟩, hLv⟩ _ rfl X6
  refine ⟨t', ?_, b1⟩
  have hx := hC.1
  have hb := hC.2.1
  have hlimit : ¬ 6 > e.platform.arrayLengthLimit := by rw [Launch.admits_arrayLengthLimit X.admits]; omega
  have hheap : ¬ 6 * componentBytes ft > e.platform.maxHeapBytes := by rw [Launch.admits_maxHeapBytes X.admits]; omega
  have hheap2 : ¬ 6 * componentBytes (.array ft) > e.platform.maxHeapBytes := by rw [Launch.admits_maxHeapBytes X.admits]; show ¬ 6 * 4 > _; omega
  rw [← hb] at hd
  jvm_step X.here [hx, hd]
  have hcold : ∀ (Q : Unit → Pre) (E : CtlPost) (dd : Bool) (acts : List Action), wp (multianewarray.sem index 2) Q E e dd acts (T.setTop (F0 m pc L (.int 6 :: .int 6 :: stk))) ↔ wp (multianewarray.sem index 2) Q E e dd acts ((T.setVm vm₁).setTop (F0 m pc L (.int 6 :: .int 6 :: stk))) := by
    intro Q E dd acts
    simp only [multianewarray.sem, wp_bind']
    exact W.resolveClassAt_transfer (s := T.setTop (F0 m pc L (.int 6 :: .int 6 :: stk))) (State.method?_setTop _ X.here.top) hg₁ hready₁
  rw [hcold]
  refine multi_wp (s := T.setVm vm₁) X.here.top hready₁ q2' (by rw [he2]; exact r2) q1' (by rw [he1]; exact r1) hft rfl hlimit hheap hheap2 (by show T.heap.size + 7 ≤ _; omega) hr2 ?_
  intro d' acts' acts''
  rw [afterInstr_ok]
  have e1 : (T.setVm vm₁).heap.size = G.1 + n := hsz
  rw [e1]
  exact a1
end MULTI
