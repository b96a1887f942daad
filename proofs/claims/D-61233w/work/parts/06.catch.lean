/-! ===== exceptions that are caught ===== -/
def ctn : Nat → Option Nat := fun q => match q with
  | 13 => some 4
  | 23 => some 5
  | 28 => some 6
  | _ => none
def hfind : List (Nat × Nat × Nat × Nat) → Nat → Nat → Option Nat
  | [], _, _ => none
  | (a, b, h, q) :: r, pc, i => if a ≤ pc ∧ pc < b then (match ctn q with
    | some j => if j = i then some h else hfind r pc i
    | none => none) else hfind r pc i
def ctN : Nat → String := fun j => match j with
  | 4 => R_E0
  | 5 => R_E1
  | _ => R_E2
theorem ctn_link {q j : Nat} (h : ctn q = some j) : Cond.classLink "RoomFillsLaw" q (ctN j) ∈ lw_tbl ∧ q ≠ 0 ∧ 4 ≤ j ∧ j < 7 := by
  unfold ctn at h
  split at h
  · cases h; exact ⟨by decide +kernel, by decide, by decide, by decide⟩
  · cases h; exact ⟨by decide +kernel, by decide, by decide, by decide⟩
  · cases h; exact ⟨by decide +kernel, by decide, by decide, by decide⟩
  · cases h
section CATCH
variable {E : CtlPost} {e : Env} {d : Bool} {acts : List Action} {s : State} {f : JFrame} {a : Addr} {Q : Handler → Pre}
theorem go_transfer {x : ExceptionTableEntry} {t : List ExceptionTableEntry} {c : ClassId} {cell : Cell} {vm' : Vm} (hx : covers x f.pc = true) (h0 : x.catchType ≠ 0)
    (hg : (Jvm.resolveClass f.method.cls x.catchType).Gives e.toSetting s.vm (.ok c) vm') (hr : vm'.classReady f.method.cls x.catchType c) (hcell : s.heap[a]? = some cell) (hobj : ∀ k, cell.vm ≠ .statics k)
    (hk : ∃ k, vm'.classes[cell.cls]? = some k) (hc : ∃ k, vm'.classes[c]? = some k) (hsz : vm'.classes.size ≤ s.vm.classes.size) :
    wp (findHandler.go f a (x :: t)) Q E e d acts s ↔ if vm'.assignable cell.cls c = true then Q (.found x.handlerPc) d acts (s.setVm vm') else wp (findHandler.go f a t) Q E e d acts (s.setVm vm') := by
  simp only [covers] at hx
  obtain ⟨ha, ht⟩ := hg.op (op := VmOp.resolveClass f.method.cls x.catchType) rfl
  cases hfit : vm'.assignable cell.cls c <;>
    simp [findHandler.go, hx, h0, ha, ht, hsz, hcell, hobj, hk, hc, hfit, VmOp.dirties, VmOp.acts]
end CATCH
theorem step_catch {e : Env} {s : State} {a : Addr} {f : JFrame} {r : List Frame} {pc : Nat} {vm' : Vm} (hfind : ∀ (Q : Handler → Pre) (E : CtlPost) (d : Bool) (acts : List Action), wp (findHandler f a) Q E e d acts s ↔ Q (.found pc) d acts (s.setVm vm')) :
    (stepThrowing e s a (.java f :: r)).Is ((s.setVm vm').setFrames (.java { f with pc := pc, stack := [.ref a] } :: r)) [] := by
  simp only [stepThrowing, searchFrame, vmDo]
  generalize hr : Sem.go _ e false [] s = res
  obtain ⟨as, rfl, ha⟩ := Sem.eq_ok_of hr (a := Handler.found pc) (s' := s.setVm vm') (acts' := []) (by simp [hfind _ _ _ _])
  exact ⟨rfl, ha⟩
theorem caught_cold {tb : Tables} {e : Env} {s target : State} {g : JFrame} {c : Code} {below : List Frame} {a : Addr} (h : At s g.method c below) {pc : Nat} {vm' : Vm}
    (hfind : ∀ (Q : Handler → Pre) (E : CtlPost) (d : Bool) (acts : List Action), wp (findHandler g a) Q E e d acts ((s.setTop g).pushFrame (.throwing a)) ↔ Q (.found pc) d acts (((s.setTop g).pushFrame (.throwing a)).setVm vm'))
    (hrest : Steps tb e below ((s.setVm vm').setTop { g with pc := pc, stack := [.ref a] }) target) :
    Steps tb e below ((s.setTop g).pushFrame (.throwing a)) target := by
  obtain ⟨hgo, hw⟩ := h.throwing a
  refine Steps.head hgo hw ?_
  rw [stepThread_throwing (frames_entered h.top _), (step_catch (s := (s.setTop g).pushFrame (.throwing a)) hfind).1]
  obtain ⟨g₀, hg⟩ := Option.isSome_iff_exists.mp h.top
  obtain ⟨r, hr⟩ := State.topJava?_eq_some.mp hg
  have hr' : (s.setVm vm').frames = .java g₀ :: r := hr
  rw [State.setTop_of_frames _ hr'] at hrest
  have e1 : (((s.setTop g).pushFrame (.throwing a)).setVm vm').setFrames (.java { g with pc := pc, stack := [.ref a] } :: s.frames.tail) = (s.setVm vm').setFrames (.java { g with pc := pc, stack := [.ref a] } :: r) := by
    rw [State.pushFrame, State.setTop_of_frames _ hr, State.setFrames_setFrames]
    show ((s.setVm vm').setFrames _).setFrames _ = _
    rw [State.setFrames_setFrames, hr]
    rfl
  rw [e1]
  exact hrest
section CATCH2
variable {G : Gm} {k : Mk} {d rc rs pc pc' : Nat} {ls : List (Option Value)} {stk : List Value} {n : Nat} {μ : Mem} {Q : Oc → Nat → Mem → Prop}
theorem finds_cold {p : Program} {l : Launch} {e : Env} {R : Room} {s : State} {m : MethodId} {args : Array Value} {below : List Frame} {meth : Method} {c : Code} {T : State} {locs : List Loc} {cells slots : Nat}
    (X : Stand p l e R s m args below meth c T locs cells slots) (hC : Cx G k d p e R s m meth c) (hk : k.1.cls = "RoomFillsLaw") {g : JFrame} (hg : g.method = m) {a : Addr} {cell : Cell} {i : Nat} (hi : 4 ≤ i ∧ i < 7) (hcls : cell.cls = G.2.2.1.1 i) (hobj : ∀ k, cell.vm ≠ .statics k) :
    ∀ (es : List ExceptionTableEntry) (h : Nat) (U : State), U.heap[a]? = some cell → s.WarmedH U.vm → hfind (es.map fun h => (h.startPc, h.endPc, h.handlerPc, h.catchType)) g.pc i = some h →
      ∃ vm', s.WarmedH vm' ∧ ∀ (Q : Handler → Pre) (E : CtlPost) (d : Bool) (acts : List Action), wp (findHandler.go g a es) Q E e d acts U ↔ Q (.found h) d acts (U.setVm vm')
  | [], h, U, _, _, hf => by simp [hfind] at hf
  | x :: es, h, U, hcell, hW, hf => by
    have hWd := hC.2.2.2.2.2.2.2.2.1
    have hplt : e.platform.magicAccessors = ({} : Platform).magicAccessors := by rw [X.admits.platform]
    simp only [List.map_cons, hfind] at hf
    by_cases hcov : x.startPc ≤ g.pc ∧ g.pc < x.endPc
    · rw [if_pos hcov] at hf
      have hx : covers x g.pc = true := by simp [covers, hcov]
      split at hf
      · next j hj =>
        obtain ⟨hl, h0, hj1, hj2⟩ := ctn_link hj
        have hown := hC.2.2.2.2.2.2.1
        rw [hk] at hown
        obtain ⟨cc', hfcc, hcl⟩ := Cond.classLink_spec (args := args) hown (hWd.w hl rfl args) e.platform hplt
        have hKj : ∃ q : vw_C, classes[j]? = some q ∧ q.1 = ctN j := by
          rcases (show j = 4 ∨ j = 5 ∨ j = 6 by omega) with rfl | rfl | rfl
          · exact ⟨_, rfl, rfl⟩
          · exact ⟨_, rfl, rfl⟩
          · exact ⟨_, rfl, rfl⟩
        obtain ⟨q, hq, hq1⟩ := hKj
        have hcj := (hWd.2.1.1 j q hq).2
        rw [hq1] at hcj
        have hcc : cc' = G.2.2.1.1 j := Option.some.inj (hfcc.symm.trans hcj.1)
        subst hcc
        obtain ⟨hg₁, hwarm₁, hready₁⟩ := State.classEntry (e := e) hW hcl
        rw [← hg] at hg₁ hready₁ hwarm₁
        have hsz : (U.vm.noted g.method.cls x.catchType (.cls (G.2.2.1.1 j))).classes.size ≤ U.vm.classes.size := by no_record
        generalize U.vm.noted g.method.cls x.catchType (.cls (G.2.2.1.1 j)) = vm₁ at hg₁ hwarm₁ hready₁ hsz
        have hal := hwarm₁.alike
        have hKi : ∃ q : vw_C, classes[i]? = some q := by
          rcases (show i = 4 ∨ i = 5 ∨ i = 6 by omega) with rfl | rfl | rfl
          · exact ⟨_, rfl⟩
          · exact ⟨_, rfl⟩
          · exact ⟨_, rfl⟩
        obtain ⟨qi, hqi⟩ := hKi
        obtain ⟨kC, hkC, -⟩ := (hWd.2.1.1 i qi hqi).2.2
        obtain ⟨kD, hkD, -⟩ := hcj.2
        obtain ⟨kC', hkC', -⟩ := hal.2.2 _ _ hkC
        obtain ⟨kD', hkD', -⟩ := hal.2.2 _ _ hkD
        have tr := fun (Q : Handler → Pre) (E : CtlPost) (d : Bool) (acts : List Action) => go_transfer (e := e) (s := U) (f := g) (a := a) (x := x) (t := es) (Q := Q) (E := E) (d := d) (acts := acts) (cell := cell) hx h0 hg₁ hready₁ hcell hobj ⟨kC', by rw [hcls]; exact hkC'⟩ ⟨kD', hkD'⟩ hsz
        by_cases hji : j = i
        · subst hji
          rw [if_pos rfl] at hf
          cases hf
          refine ⟨vm₁, hwarm₁, fun Q E d acts => ?_⟩
          rw [tr Q E d acts, hcls, if_pos (by rw [hal.assignable]; exact va_assign hcj)]
        · rw [if_neg hji] at hf
          obtain ⟨vm', hw', hh'⟩ := finds_cold X hC hk hg hi hcls hobj es h (U.setVm vm₁) hcell hwarm₁ hf
          refine ⟨vm', hw', fun Q E d acts => ?_⟩
          rw [tr Q E d acts, hcls, if_neg (by rw [hal.assignable, hWd.2.2.2.2.2.2 i j hi.1 hi.2 hj1 hj2 (fun q => hji q.symm)]; decide), hh' Q E d acts]
          rfl
      · cases hf
    · rw [if_neg hcov] at hf
      obtain ⟨vm', hw', hh'⟩ := finds_cold X hC hk hg hi hcls hobj es h U hcell hW hf
      refine ⟨vm', hw', fun Q E d acts => ?_⟩
      rw [W.findHandler_go_skip (by simp only [covers]; simpa using hcov), hh' Q E d acts]
/-- how a call in a method with handlers goes on -/
def AftC (G : Gm) (k : Mk) (d rc rs pc pc' : Nat) (ls : List (Option Value)) (stk : List Value) (Q : Oc → Nat → Mem → Prop) : Oc → Nat → Mem → Prop := fun o n μ => match o with
  | .inl v => Ev G k d rc rs pc' ls (v.toList ++ stk) n μ Q
  | .inr x => ∃ i h, 4 ≤ i ∧ i < 7 ∧ x < n ∧ μ x = ob i [] ∧ hfind k.2.2.2.2 pc i = some h ∧ Ev G k d rc rs h ls [.ref (G.1 + x)] n μ Q
theorem call_endC {mc' ms' : Nat} {Q' : Oc → Nat → Mem → Prop} (hk : k.1.cls = "RoomFillsLaw")
    {p : Program} {l : Launch} {e : Env} {R : Room} {s : State} {m : MethodId} {args : Array Value} {below : List Frame} {meth : Method} {c : Code} {H : Heap} {locs : List Loc} {cells slots mc ms : Nat} {L0 : Array Slot}
    (h : EvC G k d (rc + mc') (rs + ms') ls n μ p e R s m meth c H locs cells slots mc ms L0) {t : State}
    (hr : (∃ (v : Option Value) (n' : Nat) (μ' : Mem) (T' : State) (L : List Loc), Q' (.inl v) n' μ' ∧ t = T'.setTop { F0 m pc L0 stk with pc := (F0 m pc L0 stk).pc + 3, stack := v.toList ++ (F0 m pc L0 stk).stack } ∧ Stand p l e R s m args below meth c T' (locs ++ L) (cells + mc') (slots + ms') ∧ HR G n' μ' T'.heap ∧ ∀ q ∈ L, G.1 ≤ q.base) ∨
       (∃ (x n' : Nat) (μ' : Mem) (T' : State) (L : List Loc), Q' (.inr x) n' μ' ∧ t = (T'.setTop (F0 m pc L0 stk)).pushFrame (.throwing (G.1 + x)) ∧ Stand p l e R s m args below meth c T' (locs ++ L) (cells + mc') (slots + ms') ∧ HR G n' μ' T'.heap ∧ ∀ q ∈ L, G.1 ≤ q.base))
    (kk : ∀ o n' μ', Q' o n' μ' → AftC G k d rc rs pc (pc + 3) ls stk Q o n' μ') : ∃ t', Steps p.tables e below t t' ∧ EQ G Q below s mc ms t' := by
  obtain ⟨hC, hH, hL, hB, hLv⟩ := h
  have hap : ∀ {L : List Loc}, (∀ q ∈ L, G.1 ≤ q.base) → ∀ q ∈ locs ++ L, G.1 ≤ q.base := fun hL' q hq => by
    rcases List.mem_append.mp hq with h1 | h1
    · exact hL q h1
    · exact hL' q h1
  rcases hr with ⟨v, n', μ', T', L, hq, ht, X', hH', hL'⟩ | ⟨x, n', μ', T', L, hq, ht, X', hH', hL'⟩
  · have := kk _ _ _ hq p l e R s m args below meth c T'.heap (locs ++ L) (cells + mc') (slots + ms') mc ms L0 ⟨hC, hH', hap hL', ⟨by omega, by omega, hB.2.2.1, hB.2.2.2⟩, hLv⟩ T' rfl X'
    rw [ht]
    exact this
  · obtain ⟨i, hp, hi1, hi2, hx, hm, hfd, hev⟩ := kk _ _ _ hq
    obtain ⟨r, hr1, cell, g1, g2, g3, -⟩ := hH'.one hx hm 0 _ rfl
    have hobj : ∀ k, cell.vm ≠ .statics k := fun k hk => by rw [g3] at hk; cases hk
    obtain ⟨vm', hw', hh'⟩ := finds_cold X' hC hk (g := F0 m pc L0 stk) rfl (a := G.1 + x) (cell := cell) ⟨hi1, hi2⟩ g2 hobj c.exceptionTable.toList hp ((T'.setTop (F0 m pc L0 stk)).pushFrame (.throwing (G.1 + x))) (by rw [Stand.throwing_heap]; exact g1) (by rw [Stand.throwing_vm]; exact X'.warmed) (by rw [hC.2.2.2.2.2.2.2.1]; exact hfd)
    have X2 := X'.noted hw'
    obtain ⟨t', st', hq'⟩ := hev p l e R s m args below meth c T'.heap (locs ++ L) (cells + mc') (slots + ms') mc ms L0 ⟨hC, hH', hap hL', ⟨by omega, by omega, hB.2.2.1, hB.2.2.2⟩, hLv⟩ (T'.setVm vm') rfl X2
    rw [ht]
    refine ⟨t', caught_cold (c := c) (g := F0 m pc L0 stk) X'.here (pc := hp) (vm' := vm') (fun Q E d acts => ?_) st', hq'⟩
    rw [W.findHandler_eq (meth := meth) (code := c) (by rw [Stand.throwing_vm]; exact X'.method') X'.code]
    exact hh' Q E d acts
theorem ev_callVC {k' : Mk} {index mc' ms' t ci : Nat} {r : vw_C} {fs As : List Value} {Q' : Oc → Nat → Mem → Prop} (hd : Dk k pc (.invokevirtual index) 3 pc') (hw : Cond.methodLink k.1.cls index k'.1 ∈ lw_tbl) (hwm : Cond.instanceMethod k'.1 ∈ lw_tbl) (hwsel : Cond.selects k'.1.cls k'.1 k'.1 ∈ lw_tbl) (hwc : Cond.code k'.1 k'.2.1 k'.2.2.1 k'.2.2.2.1 ∈ lw_tbl) (hk' : k'.2.2.2.2 = [])
    (hkl : k.1.cls = "RoomFillsLaw") (hy : k'.1.cls ≠ "java/lang/invoke/MethodHandle" ∧ k'.1.cls ≠ "java/lang/invoke/VarHandle") (hpl : plainFor k'.1 = true) (hsm : k'.2.2.1 ≤ 20) (hlen : (parseMethodDescriptor k'.1.desc).map (fun q => q.parameters.length) = some As.length) (hst : (stk.map fun v => v.category).sum ≤ 8)
    (ht : t < n) (hm : μ t = ob ci fs) (hc : classes[ci]? = some r) (hrc : r.1 = k'.1.cls)
    (hct : Ct G k' d mc' ms' (.ref (G.1 + t) :: As) n μ Q') (kk : ∀ o n' μ', Q' o n' μ' → AftC G k (d + 1) rc rs pc pc' ls stk Q o n' μ') : Ev G k (d + 1) (rc + mc') (rs + ms') pc ls (As.reverse ++ .ref (G.1 + t) :: stk) n μ Q := by
  obtain ⟨hd, rfl⟩ := hd
  intro p l e R s m args below meth c H locs cells slots mc ms L h
  obtain ⟨hC, hH, hL, hB, hLv⟩ := id h
  have hWd := hC.2.2.2.2.2.2.2.2.1
  have hcode := hWd.w hwc rfl args
  have hinst := hWd.w hwm rfl args
  have hsel := hWd.w hwsel rfl args
  obtain ⟨cellB, hcB, hoB, hclB⟩ := va_recv hWd.2.1 (hH.one ht hm) hc (q0 := 0) rfl
  obtain ⟨mk, methM, hnamed, hmethM, hstM, habM⟩ := Cond.instanceMethod_spec hinst
  obtain ⟨methM', cM, hmethM', m1, m2, m3, m4, m5, m6, hsigM⟩ := Cond.code_spec hnamed hcode
  cases hmethM.symm.trans hmethM'
  obtain ⟨c2, r2, m2', q1, q2, q3, q4, kP, hkP, hkPi⟩ := Cond.selects_spec hsel
  rw [hrc] at hclB
  cases hclB.symm.trans q1
  cases (State.methodFound?_of_named hnamed hy).symm.trans q2
  cases hnamed.symm.trans q3
  have hlen2 : As.length = methM.sig.parameters.length := by rw [hsigM] at hlen; simpa using hlen.symm
  intro T hT X
  have hselP : selectMethod e.platform s.vm cellB.cls mk = .method mk := by rw [Launch.admits_selectMethod X.admits]; exact q4
  obtain ⟨vm₁, X₁, hstep₁⟩ := X.invokevirtual hC.1 hC.2.2.2.2.2.2.1 (hWd.w hw rfl args) hnamed hmethM hstM hkP hkPi hy (a := G.1 + t) (cell := cellB) (by rw [hT]; exact hcB)
    (fun z h => by rw [h] at hoB; cases hoB) hselP hmethM habM hkP hkPi (g := F0 m pc L (As.reverse ++ .ref (G.1 + t) :: stk)) rfl (argsL := As) (rest := stk) hlen2 rfl (by rw [hC.2.1]; exact hd)
  obtain ⟨t, hsteps, hr⟩ := call_core hct X₁ hC (by show HR G n μ T.heap; rw [hT]; exact hH) (by omega) (by omega) (g := F0 m pc L stk) rfl (by show L.size = _; rw [hLv.size, hC.2.2.1]) rfl hst (by rw [hC.2.1]; exact hd) (X₁.named hnamed) (by rw [X₁.warmed.alike.method?]; exact hmethM) m1 m2 m3 m4 m5 (by rw [hk']; exact code_table m6) hpl hsm
  obtain ⟨t', st', hq⟩ := call_endC hkl h hr kk
  exact ⟨t', hstep₁ _ fun acts => by rw [doInvoke_state]; exact hsteps.trans st', hq⟩
/-- a call of a method of the law's that has handlers (static) -/
theorem ev_callSW {k' : Mk} {index mc' ms' : Nat} {As : List Value} {Q' : Oc → Nat → Mem → Prop} (hd : Dk k pc (.invokestatic index) 3 pc') (hw : Cond.methodLink k.1.cls index k'.1 ∈ lw_tbl) (hws : Cond.static k'.1 ∈ lw_tbl) (hwi : Cond.initialized k'.1.cls ∈ lw_tbl) (hwc : Cond.codeWith k'.1 k'.2.1 k'.2.2.1 k'.2.2.2.1 k'.2.2.2.2 ∈ lw_tbl)
    (hh : k.2.2.2.2 = []) (hy : k'.1.cls ≠ "java/lang/invoke/MethodHandle" ∧ k'.1.cls ≠ "java/lang/invoke/VarHandle") (hpl : plainFor k'.1 = true) (hsm : k'.2.2.1 ≤ 20) (hlen : (parseMethodDescriptor k'.1.desc).map (fun q => q.parameters.length) = some As.length) (hst : (stk.map fun v => v.category).sum ≤ 8)
    (hct : Ct G k' d mc' ms' As n μ Q') (kk : ∀ o n' μ', Q' o n' μ' → Aft G k (d + 1) rc rs pc' ls stk Q o n' μ') : Ev G k (d + 1) (rc + mc') (rs + ms') pc ls (As.reverse ++ stk) n μ Q := by
  obtain ⟨hd, rfl⟩ := hd
  intro p l e R s m args below meth c H locs cells slots mc ms L h
  obtain ⟨hC, hH, hL, hB, hLv⟩ := id h
  have hWd := hC.2.2.2.2.2.2.2.2.1
  have hcode := hWd.w hwc rfl args
  have hstat := hWd.w hws rfl args
  have hini := hWd.w hwi rfl args
  obtain ⟨mk, methM, cM, hnamed, hmethM, m1, m2, m3, m6, m4, m5, hsigM⟩ := Cond.codeWith_spec hcode
  have hstatic : methM.isStatic = true := Cond.static_spec hnamed hmethM hstat
  obtain ⟨kP, hkP, -⟩ := className_of_methodNamed hnamed
  have hinitP : kP.init = .initialized := Cond.initialized_spec (findClass_of_methodNamed hnamed) hkP hini
  have hlen2 : As.length = methM.sig.parameters.length := by rw [hsigM] at hlen; simpa using hlen.symm
  intro T hT X
  obtain ⟨vm₁, X₁, hstep₁⟩ := X.invokestatic hC.1 hC.2.2.2.2.2.2.1 (hWd.w hw rfl args) hnamed hmethM hstatic hkP hinitP hy (g := F0 m pc L (As.reverse ++ stk)) rfl (argsL := As) (rest := stk) hlen2 rfl (by rw [hC.2.1]; exact hd)
  obtain ⟨t, hsteps, hr⟩ := call_core hct X₁ hC (by show HR G n μ T.heap; rw [hT]; exact hH) (by omega) (by omega) (g := F0 m pc L stk) rfl (by show L.size = _; rw [hLv.size, hC.2.2.1]) rfl hst (by rw [hC.2.1]; exact hd) (X₁.named hnamed) (by rw [X₁.warmed.alike.method?]; exact hmethM) m1 m2 m3 m4 m5 m6 hpl hsm
  obtain ⟨t', st', hq⟩ := call_end hh h hr kk
  exact ⟨t', hstep₁ _ fun acts => by rw [doInvoke_state]; exact hsteps.trans st', hq⟩
/-- the private constructor of a nest mate -/
theorem ev_callIN {k' : Mk} {index mc' ms' t : Nat} {host : String} {As : List Value} {Q' : Oc → Nat → Mem → Prop} (hd : Dk k pc (.invokespecial index) 3 pc') (hw : Cond.methodLinkNest k.1.cls index k'.1 host ∈ lw_tbl) (hwm : Cond.instanceMethod k'.1 ∈ lw_tbl) (hwc : Cond.code k'.1 k'.2.1 k'.2.2.1 none ∈ lw_tbl) (hk0 : k'.2.2.2.1 = none) (hk' : k'.2.2.2.2 = []) (hy1 : k'.1.name = "<init>")
    (hh : k.2.2.2.2 = []) (hy : k'.1.cls ≠ "java/lang/invoke/MethodHandle" ∧ k'.1.cls ≠ "java/lang/invoke/VarHandle") (hpl : plainFor k'.1 = true) (hsm : k'.2.2.1 ≤ 20) (hlen : (parseMethodDescriptor k'.1.desc).map (fun q => q.parameters.length) = some As.length) (hst : (stk.map fun v => v.category).sum ≤ 8)
    (hct : Ct G k' d mc' ms' (.ref (G.1 + t) :: As) n μ Q') (kk : ∀ o n' μ', Q' o n' μ' → Aft G k (d + 1) rc rs pc' ls stk Q o n' μ') : Ev G k (d + 1) (rc + mc') (rs + ms') pc ls (As.reverse ++ .ref (G.1 + t) :: stk) n μ Q := by
  obtain ⟨hd, rfl⟩ := hd
  intro p l e R s m args below meth c H locs cells slots mc ms L h
  obtain ⟨hC, hH, hL, hB, hLv⟩ := id h
  have hWd := hC.2.2.2.2.2.2.2.2.1
  have hcode := hWd.w hwc rfl args
  have hinst := hWd.w hwm rfl args
  have hlen2 : ∀ sig, parseMethodDescriptor k'.1.desc = some sig → As.length = sig.parameters.length := fun sig hs => by rw [hs] at hlen; simpa using hlen.symm
  intro T hT X
  have hplt : e.platform.magicAccessors = ({} : Platform).magicAccessors := by rw [X.admits.platform]
  obtain ⟨mk, methM, cM, kP, vm₁, hnamed, hmethM, hcodeM, -, hlocalsM, -, hkP, -, hW₁, hstep₁⟩ := Steps.initColdArgsNest (e := e) X.here hC.1 X.warmed hplt hC.2.2.2.2.2.2.1 hy1 hy (hWd.w hw rfl args) hinst hcode (f := F0 m pc L (As.reverse ++ .ref (G.1 + t) :: stk)) rfl hlen2 rfl (by rw [hC.2.1]; exact hd)
  have X₁ := X.noted hW₁
  obtain ⟨methM', cM', hmethM', m1, m2, m3, m4, m5, m6, hsigM⟩ := Cond.code_spec hnamed hcode
  obtain ⟨t, hsteps, hr⟩ := call_core hct X₁ hC (by show HR G n μ T.heap; rw [hT]; exact hH) (by omega) (by omega) (g := F0 m pc L stk) rfl (by show L.size = _; rw [hLv.size, hC.2.2.1]) rfl hst (by rw [hC.2.1]; exact hd) (X₁.named hnamed) (by rw [X₁.warmed.alike.method?]; exact hmethM') m1 m2 m3 (by rw [hk0]; exact m4) m5 (by rw [hk']; exact code_table m6) hpl hsm
  obtain ⟨t', st', hq⟩ := call_end hh h hr kk
  exact ⟨t', hstep₁ _ fun acts => by rw [doInvoke_state]; exact hsteps.trans st', hq⟩
end CATCH2
