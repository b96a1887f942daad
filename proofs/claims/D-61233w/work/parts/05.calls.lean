/-! ===== calls, throws ===== -/
section CALLS
variable {G : Gm} {k : Mk} {d rc rs pc pc' : Nat} {ls : List (Option Value)} {stk : List Value} {n : Nat} {μ : Mem} {Q : Oc → Nat → Mem → Prop}
theorem HR.nst {H : Heap} (h : HR G n μ H) : ∀ q cell, G.1 ≤ q → H[q]? = some cell → cell.vm.isStatics = false := by
  intro q cell hq hc
  have hl : q < H.size := (Array.getElem?_eq_some_iff.mp hc).1
  have h1 := h.1
  have h2 := h.2.2 (q - G.1) (by omega)
  rw [show G.1 + (q - G.1) = q by omega] at h2
  cases he : cvE G.2.2.2 (μ (q - G.1)) with
  | inl x =>
    rw [he] at h2
    have h3 : H[q]? = some (vp_cell x.1 x.2) := h2
    rw [hc] at h3
    cases h3
    obtain ⟨c1, n1, f | f | f | f | f⟩ := x <;> rfl
  | inr o =>
    rw [he] at h2
    obtain ⟨r, -, c2, g1, g2, g3, -⟩ := h2
    have g1 : H[q]? = some c2 := g1
    rw [hc] at g1
    cases g1
    rw [g3]; rfl
/-- from the callee's entry to its end, seen from the caller -/
theorem call_core {k' : Mk} {mc' ms' : Nat} {av : List Value} {Q' : Oc → Nat → Mem → Prop} (hct : Ct G k' d mc' ms' av n μ Q')
    {p : Program} {l : Launch} {e : Env} {R : Room} {s : State} {m : MethodId} {args : Array Value} {below : List Frame} {meth : Method} {c : Code} {T : State} {locs : List Loc} {cells slots : Nat}
    (X : Stand p l e R s m args below meth c T locs cells slots) (hC : Cx G k (d + 1) p e R s m meth c) (hH : HR G n μ T.heap) (hbc : cells + mc' ≤ R.cells) (hbs : slots + ms' ≤ R.slots)
    {g : JFrame} (hg : g.method = m) (hsize : g.locals.size = c.maxLocals) (hmr : g.monitorRoom = 0) (hst : (g.stack.map fun v => v.category).sum ≤ 8) {ig : Instr} {len : Nat} (hdg : decode c.code g.pc = .ok (ig, len))
    {mk : MethodId} {methk : Method} {ck : Code} (hnm : T.methodNamed? k'.1 = some mk) (hmk : T.vm.method? mk = some methk) (hck : methk.code = some ck) (hby : ck.code = k'.2.1) (hml : ck.maxLocals = k'.2.2.1) (hrt : methk.sig.returnType = k'.2.2.2.1) (hlk : methk.locks = false) (hex : ck.exceptionTable.toList.map (fun h => (h.startPc, h.endPc, h.handlerPc, h.catchType)) = k'.2.2.2.2)
    (hpl : plainFor k'.1 = true) (hsm : k'.2.2.1 ≤ 20) :
    ∃ t, Steps p.tables e below (doInvoke e (T.setTop g) [] mk av.toArray).1 t ∧
      ((∃ (v : Option Value) (n' : Nat) (μ' : Mem) (T' : State) (L : List Loc), Q' (.inl v) n' μ' ∧ t = T'.setTop { g with pc := g.pc + len, stack := v.toList ++ g.stack } ∧ Stand p l e R s m args below meth c T' (locs ++ L) (cells + mc') (slots + ms') ∧ HR G n' μ' T'.heap ∧ ∀ q ∈ L, G.1 ≤ q.base) ∨
       (∃ (x n' : Nat) (μ' : Mem) (T' : State) (L : List Loc), Q' (.inr x) n' μ' ∧ t = (T'.setTop g).pushFrame (.throwing (G.1 + x)) ∧ Stand p l e R s m args below meth c T' (locs ++ L) (cells + mc') (slots + ms') ∧ HR G n' μ' T'.heap ∧ ∀ q ∈ L, G.1 ≤ q.base)) := by
  obtain ⟨c1, c2, c3, c4, c5, c6, c7, c8, c9, c10, c11, c12, c13, c14, c15, c16⟩ := hC
  obtain ⟨Y, hdo⟩ := X.into (R' := { frames := d, cells := mc', slots := ms', locals := 40 * d }) hg hsize hdg av.toArray hmk hck hlk (State.plainMethod.of_named hpl hnm hmk) (by show d + 1 ≤ _; omega) (by rw [hmr, hml]; show 2 * 0 + _ + (k'.2.2.1 + 11) + 40 * d ≤ _; omega) hbc hbs
  have hCk : Cx G k' d p e { frames := d, cells := mc', slots := ms', locals := 40 * d } (T.calling g mk av.toArray) mk methk ck := by
    refine ⟨c1, hby, hml, hrt, hlk, (name_of_methodNamed hnm hmk).1, findClass_of_methodNamed hnm, hex, c9.moved (U := T.calling g mk av.toArray) X.warmed, c10.moved (U := T.calling g mk av.toArray) X.warmed.alike, hH.2.1, hH.nst, ?_, Nat.le_refl _, Nat.le_refl _, c16⟩
    show G.1 ≤ T.heap.size
    have := hH.1
    omega
  obtain ⟨t, hsteps, o, n', μ', L, h1, h2, h3, h4, h5, h6, h7⟩ := hct p l e _ _ mk (.java g :: below) methk ck hCk hH (Nat.le_refl _) (Nat.le_refl _) ((T.setTop g).pushFrame (.java (entryFrame mk av.toArray ck.maxLocals))) rfl Y
  rw [← hml, ← hdo []] at hsteps
  refine ⟨t, Steps.weaken (mid := [.java g]) hsteps, ?_⟩
  cases o with
  | inl v =>
    obtain ⟨T', X', -, -, ht⟩ := X.outOf hg hdg h2 h3 h4
    refine Or.inl ⟨v, n', μ', T', L, h6, ht, X', ?_, h5⟩
    have : t.heap = T'.heap := by rw [ht]; simp
    rw [← this]; exact h7
  | inr x =>
    obtain ⟨T', X', -, -, ht⟩ := X.outOfThrown hg h2 h3 h4
    refine Or.inr ⟨x, n', μ', T', L, h6, ht, X', ?_, h5⟩
    have : t.heap = T'.heap := by rw [ht]; exact Stand.throwing_heap T' g _
    rw [← this]; exact h7
/-- how a call goes on -/
def Aft (G : Gm) (k : Mk) (d rc rs pc : Nat) (ls : List (Option Value)) (stk : List Value) (Q : Oc → Nat → Mem → Prop) : Oc → Nat → Mem → Prop := fun o n μ => match o with
  | .inl v => Ev G k d rc rs pc ls (v.toList ++ stk) n μ Q
  | .inr x => Q (.inr x) n μ
theorem call_end {mc' ms' : Nat} {Q' : Oc → Nat → Mem → Prop} (hh : k.2.2.2.2 = [])
    {p : Program} {l : Launch} {e : Env} {R : Room} {s : State} {m : MethodId} {args : Array Value} {below : List Frame} {meth : Method} {c : Code} {H : Heap} {locs : List Loc} {cells slots mc ms : Nat} {L0 : Array Slot}
    (h : EvC G k d (rc + mc') (rs + ms') ls n μ p e R s m meth c H locs cells slots mc ms L0) {t : State}
    (hr : (∃ (v : Option Value) (n' : Nat) (μ' : Mem) (T' : State) (L : List Loc), Q' (.inl v) n' μ' ∧ t = T'.setTop { F0 m pc L0 stk with pc := (F0 m pc L0 stk).pc + 3, stack := v.toList ++ (F0 m pc L0 stk).stack } ∧ Stand p l e R s m args below meth c T' (locs ++ L) (cells + mc') (slots + ms') ∧ HR G n' μ' T'.heap ∧ ∀ q ∈ L, G.1 ≤ q.base) ∨
       (∃ (x n' : Nat) (μ' : Mem) (T' : State) (L : List Loc), Q' (.inr x) n' μ' ∧ t = (T'.setTop (F0 m pc L0 stk)).pushFrame (.throwing (G.1 + x)) ∧ Stand p l e R s m args below meth c T' (locs ++ L) (cells + mc') (slots + ms') ∧ HR G n' μ' T'.heap ∧ ∀ q ∈ L, G.1 ≤ q.base))
    (kk : ∀ o n' μ', Q' o n' μ' → Aft G k d rc rs (pc + 3) ls stk Q o n' μ') : ∃ t', Steps p.tables e below t t' ∧ EQ G Q below s mc ms t' := by
  obtain ⟨hC, hH, hL, hB, hLv⟩ := h
  have hap : ∀ {L : List Loc}, (∀ q ∈ L, G.1 ≤ q.base) → ∀ q ∈ locs ++ L, G.1 ≤ q.base := fun hL' q hq => by
    rcases List.mem_append.mp hq with h1 | h1
    · exact hL q h1
    · exact hL' q h1
  rcases hr with ⟨v, n', μ', T', L, hq, ht, X', hH', hL'⟩ | ⟨x, n', μ', T', L, hq, ht, X', hH', hL'⟩
  · have := kk _ _ _ hq p l e R s m args below meth c T'.heap (locs ++ L) (cells + mc') (slots + ms') mc ms L0 ⟨hC, hH', hap hL', ⟨by omega, by omega, hB.2.2.1, hB.2.2.2⟩, hLv⟩ T' rfl X'
    rw [ht]
    exact this
  · have X2 := stand_widen X' (k := mc) (n := ms) (by omega) (by omega)
    have hout : ∀ x ∈ c.exceptionTable.toList, covers x (F0 m pc L0 stk).pc = false := by
      have : c.exceptionTable.toList = [] := List.map_eq_nil_iff.mp (hC.2.2.2.2.2.2.2.1.trans hh)
      rw [this]
      intro x hx
      cases hx
    obtain ⟨s1, s2, s3, s4, s5⟩ := X2.leaveThrown (G.1 + x) (g := F0 m pc L0 stk) rfl rfl rfl hout hC.2.2.2.2.1
    rw [ht]
    exact ⟨_, s1, .inr x, n', μ', locs ++ L, s2, s3, s4, s5, hap hL', kk _ _ _ hq, hH'⟩
theorem LvO.size {L : Array Slot} {nL : Nat} (h : LvO L nL ls) : L.size = nL := h.1.1
theorem code_table {c : Code} (h : c.exceptionTable.isEmpty = true) : c.exceptionTable.toList.map (fun h => (h.startPc, h.endPc, h.handlerPc, h.catchType)) = [] := by
  have : c.exceptionTable = #[] := by simpa [Array.isEmpty_iff] using h
  rw [this]; rfl
theorem ev_callS {k' : Mk} {index mc' ms' : Nat} {As : List Value} {Q' : Oc → Nat → Mem → Prop} (hd : Dk k pc (.invokestatic index) 3 pc') (hw : Cond.methodLink k.1.cls index k'.1 ∈ lw_tbl) (hws : Cond.static k'.1 ∈ lw_tbl) (hwi : Cond.initialized k'.1.cls ∈ lw_tbl) (hwc : Cond.code k'.1 k'.2.1 k'.2.2.1 k'.2.2.2.1 ∈ lw_tbl) (hk' : k'.2.2.2.2 = [])
    (hh : k.2.2.2.2 = []) (hy : k'.1.cls ≠ "java/lang/invoke/MethodHandle" ∧ k'.1.cls ≠ "java/lang/invoke/VarHandle") (hpl : plainFor k'.1 = true) (hsm : k'.2.2.1 ≤ 20) (hlen : (parseMethodDescriptor k'.1.desc).map (fun q => q.parameters.length) = some As.length) (hst : (stk.map fun v => v.category).sum ≤ 8)
    (hct : Ct G k' d mc' ms' As n μ Q') (kk : ∀ o n' μ', Q' o n' μ' → Aft G k (d + 1) rc rs pc' ls stk Q o n' μ') : Ev G k (d + 1) (rc + mc') (rs + ms') pc ls (As.reverse ++ stk) n μ Q := by
  obtain ⟨hd, rfl⟩ := hd
  intro p l e R s m args below meth c H locs cells slots mc ms L h
  obtain ⟨hC, hH, hL, hB, hLv⟩ := id h
  have hWd := hC.2.2.2.2.2.2.2.2.1
  have hcode := hWd.w hwc rfl args
  have hstat := hWd.w hws rfl args
  have hini := hWd.w hwi rfl args
  obtain ⟨mk, hnamed⟩ := Cond.code_named hcode
  obtain ⟨methM, cM, hmethM, m1, m2, m3, m4, m5, m6, hsigM⟩ := Cond.code_spec hnamed hcode
  have hstatic : methM.isStatic = true := Cond.static_spec hnamed hmethM hstat
  obtain ⟨kP, hkP, -⟩ := className_of_methodNamed hnamed
  have hinitP : kP.init = .initialized := Cond.initialized_spec (findClass_of_methodNamed hnamed) hkP hini
  have hlen2 : As.length = methM.sig.parameters.length := by rw [hsigM] at hlen; simpa using hlen.symm
  intro T hT X
  obtain ⟨vm₁, X₁, hstep₁⟩ := X.invokestatic hC.1 hC.2.2.2.2.2.2.1 (hWd.w hw rfl args) hnamed hmethM hstatic hkP hinitP hy (g := F0 m pc L (As.reverse ++ stk)) rfl (argsL := As) (rest := stk) hlen2 rfl (by rw [hC.2.1]; exact hd)
  obtain ⟨t, hsteps, hr⟩ := call_core hct X₁ hC (by show HR G n μ T.heap; rw [hT]; exact hH) (by omega) (by omega) (g := F0 m pc L stk) rfl (by show L.size = _; rw [hLv.size, hC.2.2.1]) rfl hst (by rw [hC.2.1]; exact hd) (X₁.named hnamed) (by rw [X₁.warmed.alike.method?]; exact hmethM) m1 m2 m3 m4 m5 (by rw [hk']; exact code_table m6) hpl hsm
  obtain ⟨t', st', hq⟩ := call_end hh h hr kk
  exact ⟨t', hstep₁ _ fun acts => by rw [doInvoke_state]; exact hsteps.trans st', hq⟩
theorem ev_callV {k' : Mk} {index mc' ms' t ci : Nat} {r : vw_C} {fs As : List Value} {Q' : Oc → Nat → Mem → Prop} (hd : Dk k pc (.invokevirtual index) 3 pc') (hw : Cond.methodLink k.1.cls index k'.1 ∈ lw_tbl) (hwm : Cond.instanceMethod k'.1 ∈ lw_tbl) (hwsel : Cond.selects k'.1.cls k'.1 k'.1 ∈ lw_tbl) (hwc : Cond.code k'.1 k'.2.1 k'.2.2.1 k'.2.2.2.1 ∈ lw_tbl) (hk' : k'.2.2.2.2 = [])
    (hh : k.2.2.2.2 = []) (hy : k'.1.cls ≠ "java/lang/invoke/MethodHandle" ∧ k'.1.cls ≠ "java/lang/invoke/VarHandle") (hpl : plainFor k'.1 = true) (hsm : k'.2.2.1 ≤ 20) (hlen : (parseMethodDescriptor k'.1.desc).map (fun q => q.parameters.length) = some As.length) (hst : (stk.map fun v => v.category).sum ≤ 8)
    (ht : t < n) (hm : μ t = ob ci fs) (hc : classes[ci]? = some r) (hrc : r.1 = k'.1.cls)
    (hct : Ct G k' d mc' ms' (.ref (G.1 + t) :: As) n μ Q') (kk : ∀ o n' μ', Q' o n' μ' → Aft G k (d + 1) rc rs pc' ls stk Q o n' μ') : Ev G k (d + 1) (rc + mc') (rs + ms') pc ls (As.reverse ++ .ref (G.1 + t) :: stk) n μ Q := by
  obtain ⟨hd, rfl⟩ := hd
  intro p l e R s m args below meth c H locs cells slots mc ms L h
  obtain ⟨hC, hH, hL, hB, hLv⟩ := id h
  have hWd := hC.2.2.2.2.2.2.2.2.1
  have hcode := hWd.w hwc rfl args
  have hinst := hWd.w hwm rfl args
  have hsel := hWd.w hwsel rfl args
  obtain ⟨cellB, hcB, hoB, hclB⟩ := va_recv hWd.2.1 (hH.one ht hm) hc (q0 := 0) rfl
  obtain ⟨mk, methM, hnamed, hmethM, hstM, habM⟩ := Cond.instanceMethod_spec hinst
  obtain ⟨methM', cM, hmethM', m1, m2, m3, m4, m5, m6, hsigM⟩ := Cond.code_spec hnamed hcode
  cases hmethM.symm.trans hmethM'
  obtain ⟨c2, r2, m2', q1, q2, q3, q4, kP, hkP, hkPi⟩ := Cond.selects_spec hsel
  rw [hrc] at hclB
  cases hclB.symm.trans q1
  cases (State.methodFound?_of_named hnamed hy).symm.trans q2
  cases hnamed.symm.trans q3
  have hlen2 : As.length = methM.sig.parameters.length := by rw [hsigM] at hlen; simpa using hlen.symm
  intro T hT X
  have hselP : selectMethod e.platform s.vm cellB.cls mk = .method mk := by rw [Launch.admits_selectMethod X.admits]; exact q4
  obtain ⟨vm₁, X₁, hstep₁⟩ := X.invokevirtual hC.1 hC.2.2.2.2.2.2.1 (hWd.w hw rfl args) hnamed hmethM hstM hkP hkPi hy (a := G.1 + t) (cell := cellB) (by rw [hT]; exact hcB)
    (fun z h => by rw [h] at hoB; cases hoB) hselP hmethM habM hkP hkPi (g := F0 m pc L (As.reverse ++ .ref (G.1 + t) :: stk)) rfl (argsL := As) (rest := stk) hlen2 rfl (by rw [hC.2.1]; exact hd)
  obtain ⟨t, hsteps, hr⟩ := call_core hct X₁ hC (by show HR G n μ T.heap; rw [hT]; exact hH) (by omega) (by omega) (g := F0 m pc L stk) rfl (by show L.size = _; rw [hLv.size, hC.2.2.1]) rfl hst (by rw [hC.2.1]; exact hd) (X₁.named hnamed) (by rw [X₁.warmed.alike.method?]; exact hmethM) m1 m2 m3 m4 m5 (by rw [hk']; exact code_table m6) hpl hsm
  obtain ⟨t', st', hq⟩ := call_end hh h hr kk
  exact ⟨t', hstep₁ _ fun acts => by rw [doInvoke_state]; exact hsteps.trans st', hq⟩
theorem ev_callI {k' : Mk} {index mc' ms' t : Nat} {As : List Value} {Q' : Oc → Nat → Mem → Prop} (hd : Dk k pc (.invokespecial index) 3 pc') (hw : Cond.methodLink k.1.cls index k'.1 ∈ lw_tbl) (hwm : Cond.instanceMethod k'.1 ∈ lw_tbl) (hwc : Cond.code k'.1 k'.2.1 k'.2.2.1 none ∈ lw_tbl) (hk0 : k'.2.2.2.1 = none) (hk' : k'.2.2.2.2 = []) (hy1 : k'.1.name = "<init>")
    (hh : k.2.2.2.2 = []) (hy : k'.1.cls ≠ "java/lang/invoke/MethodHandle" ∧ k'.1.cls ≠ "java/lang/invoke/VarHandle") (hpl : plainFor k'.1 = true) (hsm : k'.2.2.1 ≤ 20) (hlen : (parseMethodDescriptor k'.1.desc).map (fun q => q.parameters.length) = some As.length) (hst : (stk.map fun v => v.category).sum ≤ 8)
    (hct : Ct G k' d mc' ms' (.ref (G.1 + t) :: As) n μ Q') (kk : ∀ o n' μ', Q' o n' μ' → Aft G k (d + 1) rc rs pc' ls stk Q o n' μ') : Ev G k (d + 1) (rc + mc') (rs + ms') pc ls (As.reverse ++ .ref (G.1 + t) :: stk) n μ Q := by
  obtain ⟨hd, rfl⟩ := hd
  intro p l e R s m args below meth c H locs cells slots mc ms L h
  obtain ⟨hC, hH, hL, hB, hLv⟩ := id h
  have hWd := hC.2.2.2.2.2.2.2.2.1
  have hcode := hWd.w hwc rfl args
  have hinst := hWd.w hwm rfl args
  have hlen2 : ∀ sig, parseMethodDescriptor k'.1.desc = some sig → As.length = sig.parameters.length := fun sig hs => by rw [hs] at hlen; simpa using hlen.symm
  intro T hT X
  have hplt : e.platform.magicAccessors = ({} : Platform).magicAccessors := by rw [X.admits.platform]
  obtain ⟨mk, methM, cM, kP, vm₁, hnamed, hmethM, hcodeM, -, hlocalsM, -, hkP, -, hW₁, hstep₁⟩ := Steps.initColdArgs (e := e) X.here hC.1 X.warmed hplt hC.2.2.2.2.2.2.1 hy1 hy (hWd.w hw rfl args) hinst hcode (f := F0 m pc L (As.reverse ++ .ref (G.1 + t) :: stk)) rfl hlen2 rfl (by rw [hC.2.1]; exact hd)
  have X₁ := X.noted hW₁
  obtain ⟨methM', cM', hmethM', m1, m2, m3, m4, m5, m6, hsigM⟩ := Cond.code_spec hnamed hcode
  obtain ⟨t, hsteps, hr⟩ := call_core hct X₁ hC (by show HR G n μ T.heap; rw [hT]; exact hH) (by omega) (by omega) (g := F0 m pc L stk) rfl (by show L.size = _; rw [hLv.size, hC.2.2.1]) rfl hst (by rw [hC.2.1]; exact hd) (X₁.named hnamed) (by rw [X₁.warmed.alike.method?]; exact hmethM') m1 m2 m3 (by rw [hk0]; exact m4) m5 (by rw [hk']; exact code_table m6) hpl hsm
  obtain ⟨t', st', hq⟩ := call_end hh h hr kk
  exact ⟨t', hstep₁ _ fun acts => by rw [doInvoke_state]; exact hsteps.trans st', hq⟩
theorem ev_objInit {index x : Nat} (hd : Dk k pc (.invokespecial index) 3 pc') (hw : Cond.methodLink k.1.cls index objectInit ∈ lw_tbl) (hst : (stk.map fun v => v.category).sum ≤ 8) (kk : Ev G k (d + 1) rc rs pc' ls stk n μ Q) : Ev G k (d + 1) rc rs pc ls (.ref x :: stk) n μ Q := by
  obtain ⟨hd, rfl⟩ := hd
  intro p l e R s m args below meth c H locs cells slots mc ms L h
  obtain ⟨hC, hH, hL, hB, hLv⟩ := id h
  have hWd := hC.2.2.2.2.2.2.2.2.1
  have hfr := hC.2.2.2.2.2.2.2.2.2.2.2.2.2.1
  have hlo := hC.2.2.2.2.2.2.2.2.2.2.2.2.2.2.1
  refine W.objInit hC.1 hC.2.1 hC.2.2.2.2.2.2.1 (hWd.w hw rfl args) (hWd.w (w := .instanceMethod objectInit) (by decide +kernel) rfl args) (hWd.w (w := .code objectInit ⟨#[0xb1]⟩ 1 none) (by decide +kernel) rfl args) rfl (by rw [hC.2.2.1]; exact hLv.size) rfl hd (by omega) (by show 2 * 0 + _ + 12 ≤ _; omega) ?_
  exact kk p l e R s m args below meth c H locs cells slots mc ms L h
end CALLS
