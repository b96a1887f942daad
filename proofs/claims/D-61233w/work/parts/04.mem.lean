/-! ===== rows over the memory ===== -/
abbrev aZ (N : Nat) (f : Nat → Int32) : Cn := .inl (0, (N, .inl f))
abbrev aI (N : Nat) (f : Nat → Int32) : Cn := .inl (1, (N, .inl f))
abbrev aJ (N : Nat) (f : Nat → Int64) : Cn := .inl (2, (N, .inr (.inl f)))
abbrev aR (ty N : Nat) (f : Nat → Option Nat) : Cn := .inl (ty, (N, .inr (.inr (.inr (.inr f)))))
abbrev ob (ci : Nat) (fs : List Value) : Cn := .inr (ci, fs)
theorem HR.at {G : Gm} {n : Nat} {μ : Mem} {H : Heap} (h : HR G n μ H) {t : Nat} {e : Cn} (ht : t < n) (hm : μ t = e) : va_at G.2.2.1 classes (G.1 + t, cvE G.2.2.2 e) H := hm ▸ h.2.2 t ht
theorem HR.one {G : Gm} {n : Nat} {μ : Mem} {H : Heap} (h : HR G n μ H) {t : Nat} {e : Cn} (ht : t < n) (hm : μ t = e) : va_P G.2.2.1 classes [(G.1 + t, cvE G.2.2.2 e)] H := fun k q hk => by
  have hz : k < 1 := (List.getElem?_eq_some_iff.mp hk).1
  rw [show k = 0 by omega] at hk
  cases hk
  exact h.at ht hm
theorem HR.set {G : Gm} {n : Nat} {μ : Mem} {H H1 : Heap} (h : HR G n μ H) {t : Nat} {e : Cn} (ht : t < n) (z : H1.size = H.size) (oq : ∀ q : Nat, q ≠ G.1 + t → H1[q]? = H[q]?) (he : va_at G.2.2.1 classes (G.1 + t, cvE G.2.2.2 e) H1) : HR G n (mset μ t e) H1 := by
  refine ⟨z.trans h.1, fun q hq => (oq q (by omega)).trans (h.2.1 q hq), fun j hj => ?_⟩
  by_cases hjt : j = t
  · subst hjt
    rw [mset_eq]
    exact he
  · rw [mset_ne μ e hjt]
    exact (h.2.2 j hj).kept (oq _ (by show G.1 + j ≠ G.1 + t; omega))
theorem HR.push {G : Gm} {n : Nat} {μ : Mem} {H H1 : Heap} (h : HR G n μ H) {e : Cn} (z : H1.size = G.1 + n + 1) (oq : ∀ q : Nat, q < G.1 + n → H1[q]? = H[q]?) (he : va_at G.2.2.1 classes (G.1 + n, cvE G.2.2.2 e) H1) : HR G (n + 1) (mset μ n e) H1 := by
  refine ⟨z, fun q hq => (oq q (by omega)).trans (h.2.1 q hq), fun j hj => ?_⟩
  by_cases hjt : j = n
  · subst hjt
    rw [mset_eq]
    exact he
  · rw [mset_ne μ e hjt]
    exact (h.2.2 j (by omega)).kept (oq _ (by show G.1 + j < G.1 + n; omega))
theorem Wd.us {G : Gm} {s : State} (h : Wd G s) {C : String} {T : u_T} {N : Nat} (hin : ∀ w ∈ u_ws C T N, w ∈ lw_tbl) (a : Array Value) : ∀ w ∈ u_ws C T N, w.before a s = true := by
  intro w hw
  refine h.1 w (hin w hw) ?_ a
  obtain ⟨k, -, rfl⟩ := List.mem_map.mp hw
  unfold u_lay
  split <;> rfl
theorem Wd.w {G : Gm} {s : State} (h : Wd G s) {w : Cond} (hw : w ∈ lw_tbl) (ho : okw w = true) (a : Array Value) : w.before a s = true := h.1 w hw ho a
section MEM
variable {G : Gm} {k : Mk} {d rc rs pc pc' : Nat} {ls : List (Option Value)} {stk : List Value} {n : Nat} {μ : Mem} {Q : Oc → Nat → Mem → Prop}
theorem ev_ireturn {v : Int32} {ty : FieldType} (hd : Dk k pc .ireturn 1 pc') (hr : k.2.2.2.1 = some ty) (hn : narrow ty (.int v) = .int v) (hq : Q (.inl (some (.int v))) n μ) : Ev G k d rc rs pc ls [.int v] n μ Q := by
  intro p l e R s m args below meth c H locs cells slots mc ms L h
  have hC := h.1
  have hbu := h.2.2.2.1
  refine W.widen (k := mc) (n := ms) (by omega) (by omega) (W.mono (Q := MQ below (fun _ _ o t => o = .returned (some (.int v)) ∧ t.heap = H) args s mc ms (fun q => G.1 ≤ q)) ?_ (W.zret hC.1 hC.2.1 (hC.2.2.2.1.trans hr) hn (fun t ht hW => ⟨rfl, ht⟩) h.2.2.1 hd.1 hC.2.2.2.2.1))
  rintro t ⟨o, h1, h2, ⟨rfl, hh⟩, L', ⟨hv, hW, hsame⟩, hL⟩
  exact ⟨.inl (some (.int v)), n, μ, L', h1, h2, hW, hsame, hL, hq, by rw [hh]; exact h.2.1⟩
theorem ev_lreturn {v : Int64} (hd : Dk k pc .lreturn 1 pc') (hr : k.2.2.2.1 = some .long) (hq : Q (.inl (some (.long v))) n μ) : Ev G k d rc rs pc ls [.long v] n μ Q := by
  intro p l e R s m args below meth c H locs cells slots mc ms L h
  have hC := h.1
  have hbu := h.2.2.2.1
  refine W.widen (k := mc) (n := ms) (by omega) (by omega) (W.mono (Q := MQ below (fun _ _ o t => o = .returned (some (.long v)) ∧ t.heap = H) args s mc ms (fun q => G.1 ≤ q)) ?_ (W.lret hC.1 hC.2.1 (hC.2.2.2.1.trans hr) (fun t ht hW => ⟨rfl, ht⟩) h.2.2.1 hd.1 hC.2.2.2.2.1))
  rintro t ⟨o, h1, h2, ⟨rfl, hh⟩, L', ⟨hv, hW, hsame⟩, hL⟩
  exact ⟨.inl (some (.long v)), n, μ, L', h1, h2, hW, hsame, hL, hq, by rw [hh]; exact h.2.1⟩
theorem ev_areturn {v : Value} {C : String} (hd : Dk k pc .areturn 1 pc') (hr : k.2.2.2.1 = some (.object C)) (hv : v = .null ∨ ∃ a, v = .ref a) (hq : Q (.inl (some v)) n μ) : Ev G k d rc rs pc ls [v] n μ Q := by
  intro p l e R s m args below meth c H locs cells slots mc ms L h
  have hC := h.1
  have hbu := h.2.2.2.1
  refine W.widen (k := mc) (n := ms) (by omega) (by omega) (W.mono (Q := MQ below (fun _ _ o t => o = .returned (some v) ∧ t.heap = H) args s mc ms (fun q => G.1 ≤ q)) ?_ (W.aret hC.1 hC.2.1 (hC.2.2.2.1.trans hr) (Or.inl ⟨C, rfl⟩) hv (fun t ht hW => ⟨rfl, ht⟩) h.2.2.1 hd.1 hC.2.2.2.2.1))
  rintro t ⟨o, h1, h2, ⟨rfl, hh⟩, L', ⟨hv, hW, hsame⟩, hL⟩
  exact ⟨.inl (some v), n, μ, L', h1, h2, hW, hsame, hL, hq, by rw [hh]; exact h.2.1⟩
theorem ev_return (hd : Dk k pc .return_ 1 pc') (hr : k.2.2.2.1 = none) (hq : Q (.inl none) n μ) : Ev G k d rc rs pc ls [] n μ Q := by
  intro p l e R s m args below meth c H locs cells slots mc ms L h
  have hC := h.1
  have hbu := h.2.2.2.1
  refine W.widen (k := mc) (n := ms) (by omega) (by omega) (W.mono (Q := MQ below (fun _ _ o t => o = .returned none ∧ t.heap = H) args s mc ms (fun q => G.1 ≤ q)) ?_ (W.vret hC.1 hC.2.1 (hC.2.2.2.1.trans hr) (fun t ht hW => ⟨rfl, ht⟩) h.2.2.1 hd.1 hC.2.2.2.2.1))
  rintro t ⟨o, h1, h2, ⟨rfl, hh⟩, L', ⟨hv, hW, hsame⟩, hL⟩
  exact ⟨.inl none, n, μ, L', h1, h2, hW, hsame, hL, hq, by rw [hh]; exact h.2.1⟩
theorem ev_getf {t ci index kf N : Nat} {fs : List Value} {C : String} {T : u_T} {v : Value} (hd : Dk k pc (.getfield index) 3 pc') (hw : Cond.fieldLink k.1.cls index (T kf).1 (T kf).2.1 (T kf).2.2.1 ∈ lw_tbl) (hc : classes[ci]? = some (C, T, N)) (hin : ∀ w ∈ u_ws C T N, w ∈ lw_tbl) (hkf : kf < N) (ht : t < n) (hm : μ t = ob ci fs) (hv : fs[kf]? = some v)
    (kk : Ev G k d rc rs pc' ls (v :: stk) n μ Q) : Ev G k d rc rs pc ls (.ref (G.1 + t) :: stk) n μ Q := by
  obtain ⟨hd, rfl⟩ := hd
  intro p l e R s m args below meth c H locs cells slots mc ms L h
  have hC := h.1
  have hW := hC.2.2.2.2.2.2.2.2.1
  exact va_get (D := G.2.2.1) (cl := classes) (ci := ci) hC.1 hC.2.1 (hW.us hin args) (fun _ h => h) hC.2.2.2.2.2.2.1 hW.2.1 (h.2.1.one ht hm) 0 rfl hc kf hkf (hW.w hw rfl args) (fun _ h => h) hv hd (kk p l e R s m args below meth c H locs cells slots mc ms L h)
theorem ev_getN {t ci index kf N : Nat} {fs : List Value} {C host : String} {T : u_T} {v : Value} (hd : Dk k pc (.getfield index) 3 pc') (hw : Cond.fieldLinkNest k.1.cls index (T kf).1 (T kf).2.1 (T kf).2.2.1 host ∈ lw_tbl) (hc : classes[ci]? = some (C, T, N)) (hin : ∀ w ∈ u_ws C T N, w ∈ lw_tbl) (hkf : kf < N) (ht : t < n) (hm : μ t = ob ci fs) (hv : fs[kf]? = some v)
    (kk : Ev G k d rc rs pc' ls (v :: stk) n μ Q) : Ev G k d rc rs pc ls (.ref (G.1 + t) :: stk) n μ Q := by
  obtain ⟨hd, rfl⟩ := hd
  intro p l e R s m args below meth c H locs cells slots mc ms L h
  have hC := h.1
  have hW := hC.2.2.2.2.2.2.2.2.1
  exact va_getN (D := G.2.2.1) (cl := classes) (ci := ci) hC.1 hC.2.1 (hW.us hin args) (fun _ h => h) hC.2.2.2.2.2.2.1 hW.2.1 (h.2.1.one ht hm) 0 rfl hc kf hkf (hW.w hw rfl args) (fun _ h => h) hv hd (kk p l e R s m args below meth c H locs cells slots mc ms L h)
theorem EvC.st {p : Program} {e : Env} {R : Room} {s : State} {m : MethodId} {meth : Method} {c : Code} {H H1 : Heap} {locs : List Loc} {cells slots mc ms : Nat} {L : Array Slot} (h : EvC G k d rc rs ls n μ p e R s m meth c H locs cells slots mc ms L) {t i : Nat} {e1 : Cn} (ht : t < n) (z : H1.size = H.size) (oq : ∀ q : Nat, q ≠ G.1 + t → H1[q]? = H[q]?) (he : va_at G.2.2.1 classes (G.1 + t, cvE G.2.2.2 e1) H1) : EvC G k d rc rs ls n (mset μ t e1) p e R s m meth c H1 (locs ++ [⟨G.1 + t, i⟩]) cells slots mc ms L :=
  ⟨h.1, h.2.1.set ht z oq he, fun q hq => by
    rcases List.mem_append.mp hq with h1 | h1
    · exact h.2.2.1 q h1
    · rw [List.mem_singleton.mp h1]; exact Nat.le_add_right _ _, h.2.2.2.1, h.2.2.2.2⟩
theorem ev_putf {t ci index kf N : Nat} {fs : List Value} {C : String} {T : u_T} {v : Value} {ty : FieldType} {ty0 : Nat → FieldType} (hd : Dk k pc (.putfield index) 3 pc') (hw : Cond.fieldLink k.1.cls index (T kf).1 (T kf).2.1 (T kf).2.2.1 ∈ lw_tbl) (hc : classes[ci]? = some (C, T, N)) (hin : ∀ w ∈ u_ws C T N, w ∈ lw_tbl) (hty : ∀ k, k < N → parseFieldDescriptor (T k).2.2.1 = some (ty0 k)) (hnm : ∀ a, a < N → ∀ b, b < N → a ≠ b → (T a).2.1 ≠ (T b).2.1) (hkf : kf < N) (hfin : (T kf).2.2.2 = false) (hte : ty0 kf = ty) (hn : narrow ty v = v) (hfit : fits ty v = true) (ht : t < n) (hm : μ t = ob ci fs) (hl : kf < fs.length)
    (kk : Ev G k d rc rs pc' ls stk n (mset μ t (ob ci (fs.set kf v))) Q) : Ev G k d rc rs pc ls (v :: .ref (G.1 + t) :: stk) n μ Q := by
  obtain ⟨hd, rfl⟩ := hd
  subst hte
  intro p l e R s m args below meth c H locs cells slots mc ms L h
  have hC := h.1
  have hWd := hC.2.2.2.2.2.2.2.2.1
  have hK := hWd.2.1
  have hts := hWd.us hin args
  have hap := va_apart (own := k.1.cls) hts (fun _ h => h) ty0 hty hnm hK hc
  obtain ⟨r, h1, cell, q1, q2, q3, q4⟩ := h.2.1.one ht hm 0 _ rfl
  have hr : r = (C, T, N) := Option.some.inj (h1.symm.trans hc)
  subst hr
  obtain ⟨hS, hfc, kC, hkC, hkind⟩ := hK.1 ci _ hc
  obtain ⟨cf, kf', fi, f, hi, hsl⟩ := hS kf hkf
  have hlay := hts _ (u_in_lay hkf)
  unfold u_lay at hlay
  rw [if_neg (by rw [hfin]; decide)] at hlay
  have hst := (u_facts hfc hkC (u_lays hts (fun _ h => h) hkf) hi).1
  have h6 := u_store hfc hkC hkind hlay hi (hty kf hkf) hn hfit
  refine W.putK hC.1 hC.2.1 (f := f) ⟨hC.2.2.2.2.2.2.1, hWd.w hw rfl args, ⟨_, _, _, hi⟩, hst⟩ (by rw [q2]; exact h6) q1 q3 (by rw [hsl]; exact k2_hasslot (q4 kf hkf)) rfl rfl hd fun H' e1 e2 e3 => ?_
  rw [hsl] at e1 ⊢
  exact kk p l e R s m args below meth c H' _ cells slots mc ms L (h.st ht e2 e3 ⟨_, hc, t_OB.to (V := updV (vp_V fs) kf v) ⟨_, e1, q2, q3, t_set q4 hap hkf v⟩ (fun j _ => vp_updV_set hl v j)⟩)
theorem ev_putN {t ci index kf N : Nat} {fs : List Value} {C host : String} {T : u_T} {v : Value} {ty : FieldType} {ty0 : Nat → FieldType} (hd : Dk k pc (.putfield index) 3 pc') (hw : Cond.fieldLinkNest k.1.cls index (T kf).1 (T kf).2.1 (T kf).2.2.1 host ∈ lw_tbl) (hc : classes[ci]? = some (C, T, N)) (hin : ∀ w ∈ u_ws C T N, w ∈ lw_tbl) (hty : ∀ k, k < N → parseFieldDescriptor (T k).2.2.1 = some (ty0 k)) (hnm : ∀ a, a < N → ∀ b, b < N → a ≠ b → (T a).2.1 ≠ (T b).2.1) (hkf : kf < N) (hfin : (T kf).2.2.2 = false) (hte : ty0 kf = ty) (hn : narrow ty v = v) (hfit : fits ty v = true) (ht : t < n) (hm : μ t = ob ci fs) (hl : kf < fs.length)
    (kk : Ev G k d rc rs pc' ls stk n (mset μ t (ob ci (fs.set kf v))) Q) : Ev G k d rc rs pc ls (v :: .ref (G.1 + t) :: stk) n μ Q := by
  obtain ⟨hd, rfl⟩ := hd
  subst hte
  intro p l e R s m args below meth c H locs cells slots mc ms L h
  have hC := h.1
  have hWd := hC.2.2.2.2.2.2.2.2.1
  have hK := hWd.2.1
  have hts := hWd.us hin args
  have hap := va_apart (own := k.1.cls) hts (fun _ h => h) ty0 hty hnm hK hc
  obtain ⟨r, h1, cell, q1, q2, q3, q4⟩ := h.2.1.one ht hm 0 _ rfl
  have hr : r = (C, T, N) := Option.some.inj (h1.symm.trans hc)
  subst hr
  obtain ⟨hS, hfc, kC, hkC, hkind⟩ := hK.1 ci _ hc
  obtain ⟨cf, kf', fi, f, hi, hsl⟩ := hS kf hkf
  have hlay := hts _ (u_in_lay hkf)
  unfold u_lay at hlay
  rw [if_neg (by rw [hfin]; decide)] at hlay
  have hst := (u_facts hfc hkC (u_lays hts (fun _ h => h) hkf) hi).1
  have h6 := u_store hfc hkC hkind hlay hi (hty kf hkf) hn hfit
  refine va_WputK hC.1 hC.2.1 (f := f) hC.2.2.2.2.2.2.1 (hWd.w hw rfl args) hi hst (by rw [q2]; exact h6) q1 q3 (by rw [hsl]; exact k2_hasslot (q4 kf hkf)) rfl rfl hd fun H' e1 e2 e3 => ?_
  rw [hsl] at e1 ⊢
  exact kk p l e R s m args below meth c H' _ cells slots mc ms L (h.st ht e2 e3 ⟨_, hc, t_OB.to (V := updV (vp_V fs) kf v) ⟨_, e1, q2, q3, t_set q4 hap hkf v⟩ (fun j _ => vp_updV_set hl v j)⟩)
/-- a final field, in the constructor -/
theorem ev_putF {t ci index kf N : Nat} {fs : List Value} {C : String} {T : u_T} {v : Value} {ty : FieldType} {ty0 : Nat → FieldType} (hd : Dk k pc (.putfield index) 3 pc') (hw : Cond.fieldLink k.1.cls index (T kf).1 (T kf).2.1 (T kf).2.2.1 ∈ lw_tbl) (hc : classes[ci]? = some (C, T, N)) (hin : ∀ w ∈ u_ws C T N, w ∈ lw_tbl) (hty : ∀ k, k < N → parseFieldDescriptor (T k).2.2.1 = some (ty0 k)) (hnm : ∀ a, a < N → ∀ b, b < N → a ≠ b → (T a).2.1 ≠ (T b).2.1) (hkf : kf < N) (hfin : (T kf).2.2.2 = true) (hni : k.1.name = "<init>") (hdecl : (T kf).1 = k.1.cls) (hte : ty0 kf = ty) (hn : narrow ty v = v) (hfit : fits ty v = true) (ht : t < n) (hm : μ t = ob ci fs) (hl : kf < fs.length)
    (kk : Ev G k d rc rs pc' ls stk n (mset μ t (ob ci (fs.set kf v))) Q) : Ev G k d rc rs pc ls (v :: .ref (G.1 + t) :: stk) n μ Q := by
  obtain ⟨hd, rfl⟩ := hd
  subst hte
  intro p l e R s m args below meth c H locs cells slots mc ms L h
  have hC := h.1
  have hWd := hC.2.2.2.2.2.2.2.2.1
  have hK := hWd.2.1
  have hts := hWd.us hin args
  have hown := hC.2.2.2.2.2.2.1
  have hap := va_apart (own := k.1.cls) hts (fun _ h => h) ty0 hty hnm hK hc
  obtain ⟨r, h1, cell, q1, q2, q3, q4⟩ := h.2.1.one ht hm 0 _ rfl
  have hr : r = (C, T, N) := Option.some.inj (h1.symm.trans hc)
  subst hr
  obtain ⟨hS, hfc, kC, hkC, hkind⟩ := hK.1 ci _ hc
  obtain ⟨cf, kf', fi, f, hi, hsl⟩ := hS kf hkf
  have hlay := hts _ (u_in_lay hkf)
  unfold u_lay at hlay
  rw [if_pos hfin] at hlay
  have hst := (u_facts hfc hkC (u_lays hts (fun _ h => h) hkf) hi).1
  have hcf : m.cls = cf := by
    obtain ⟨_, _, c', _, _, _, -, -, hf', -, -, -, hown2, -⟩ := Cond.laysFinal_spec hlay
    have e1 : c' = cf := by have := hi.symm.trans hf'; simp at this; exact this.1.symm
    rw [hdecl] at hown2
    rw [← e1]; exact Option.some.inj (hown.symm.trans hown2)
  have h6 := u_fits hfc hkC hkind (Or.inr hlay) hi (hty kf hkf) hn hfit
  refine W.putFinK hC.1 hC.2.1 hown (hWd.w hw rfl args) hi hst hcf (hC.2.2.2.2.2.1.trans hni) (by rw [q2]; exact h6) q1 q3 (by rw [hsl]; exact k2_hasslot (q4 kf hkf)) rfl rfl hd fun H' e1 e2 e3 => ?_
  rw [hsl] at e1 ⊢
  exact kk p l e R s m args below meth c H' _ cells slots mc ms L (h.st ht e2 e3 ⟨_, hc, t_OB.to (V := updV (vp_V fs) kf v) ⟨_, e1, q2, q3, t_set q4 hap hkf v⟩ (fun j _ => vp_updV_set hl v j)⟩)
/-- arrays: an index that is a number -/
theorem ev_iald {t N j : Nat} {f : Nat → Int32} (hd : Dk k pc .iaload 1 pc') (ht : t < n) (hm : μ t = aI N f) (hj : j < N) (hN : N < 2 ^ 31) (kk : Ev G k d rc rs pc' ls (.int (f j) :: stk) n μ Q) : Ev G k d rc rs pc ls (.int (nI j) :: .ref (G.1 + t) :: stk) n μ Q := by
  obtain ⟨hd, rfl⟩ := hd
  intro p l e R s m args below meth c H locs cells slots mc ms L h
  have hC := h.1
  have hK := hC.2.2.2.2.2.2.2.2.1.2.1
  refine va_iald hC.1 hC.2.1 hK (h.2.1.one ht hm) 0 1 rfl rfl (vp_in_nI hj hN) hd ?_
  rw [nI_clamp (by omega)]
  exact kk p l e R s m args below meth c H locs cells slots mc ms L h
theorem ev_zald {t N j : Nat} {f : Nat → Int32} (hd : Dk k pc .baload 1 pc') (ht : t < n) (hm : μ t = aZ N f) (hj : j < N) (hN : N < 2 ^ 31) (kk : Ev G k d rc rs pc' ls (.int (f j) :: stk) n μ Q) : Ev G k d rc rs pc ls (.int (nI j) :: .ref (G.1 + t) :: stk) n μ Q := by
  obtain ⟨hd, rfl⟩ := hd
  intro p l e R s m args below meth c H locs cells slots mc ms L h
  have hC := h.1
  have hK := hC.2.2.2.2.2.2.2.2.1.2.1
  refine va_zald hC.1 hC.2.1 hK (h.2.1.one ht hm) 0 0 rfl rfl (vp_in_nI hj hN) hd ?_
  rw [nI_clamp (by omega)]
  exact kk p l e R s m args below meth c H locs cells slots mc ms L h
theorem ev_lald {t N j : Nat} {f : Nat → Int64} (hd : Dk k pc .laload 1 pc') (ht : t < n) (hm : μ t = aJ N f) (hj : j < N) (hN : N < 2 ^ 31) (kk : Ev G k d rc rs pc' ls (.long (f j) :: stk) n μ Q) : Ev G k d rc rs pc ls (.int (nI j) :: .ref (G.1 + t) :: stk) n μ Q := by
  obtain ⟨hd, rfl⟩ := hd
  intro p l e R s m args below meth c H locs cells slots mc ms L h
  have hC := h.1
  have hK := hC.2.2.2.2.2.2.2.2.1.2.1
  refine va_lald hC.1 hC.2.1 hK (h.2.1.one ht hm) 0 2 rfl rfl (vp_in_nI hj hN) hd ?_
  rw [nI_clamp (by omega)]
  exact kk p l e R s m args below meth c H locs cells slots mc ms L h
theorem ev_aald {t ty N j : Nat} {f : Nat → Option Nat} (hd : Dk k pc .aaload 1 pc') (ht : t < n) (hm : μ t = aR ty N f) (hty : 3 ≤ ty ∧ ty < 6) (hj : j < N) (hN : N < 2 ^ 31) (kk : Ev G k d rc rs pc' ls (va_rf (f j) :: stk) n μ Q) : Ev G k d rc rs pc ls (.int (nI j) :: .ref (G.1 + t) :: stk) n μ Q := by
  obtain ⟨hd, rfl⟩ := hd
  intro p l e R s m args below meth c H locs cells slots mc ms L h
  have hC := h.1
  have hK := hC.2.2.2.2.2.2.2.2.1.2.1
  have key : ∀ (t0 : Nat) (ft : FieldType), (tysOf G.2.2.2)[t0]? = some (G.2.2.2 ty, ft) → ft.isReference = true → W p l e R s m args below meth c H locs cells slots (EQ G Q below s mc ms) (F0 m pc L (.int (nI j) :: .ref (G.1 + t) :: stk)) := by
    intro t0 ft h0 hr
    refine W.aald (v := va_rf (f j)) (ty := ft) hC.1 hC.2.1 (h.2.1.one ht hm 0 _ rfl) ((hK.2 t0 _ h0).1 N (fun j => va_rf (f j))) hr (fun q => by cases q) (by show ¬ (nI j < 0 ∨ (arrV _ _ _).slots.size ≤ _); rw [arrV_size]; exact vp_in_nI hj hN) (by show (arrV _ _ _).slots[_]? = _; rw [nI_clamp (by omega), arrV_read _ _ hj]) rfl rfl hd (kk p l e R s m args below meth c H locs cells slots mc ms L h)
  rcases (show ty = 3 ∨ ty = 4 ∨ ty = 5 by omega) with rfl | rfl | rfl
  · exact key 3 _ rfl rfl
  · exact key 4 _ rfl rfl
  · exact key 5 _ rfl rfl
theorem ev_iast {t N j : Nat} {x : Int32} {f : Nat → Int32} (hd : Dk k pc .iastore 1 pc') (ht : t < n) (hm : μ t = aI N f) (hj : j < N) (hN : N < 2 ^ 31) (kk : Ev G k d rc rs pc' ls stk n (mset μ t (aI N (upd f j x))) Q) : Ev G k d rc rs pc ls (.int x :: .int (nI j) :: .ref (G.1 + t) :: stk) n μ Q := by
  obtain ⟨hd, rfl⟩ := hd
  intro p l e R s m args below meth c H locs cells slots mc ms L h
  have hC := h.1
  have hK := hC.2.2.2.2.2.2.2.2.1.2.1
  refine W.iast hC.1 hC.2.1 (h.2.1.one ht hm 0 _ rfl) ((hK.2 1 _ rfl).1 N (fun j => .int (f j))) (fun q => by cases q) (by show ¬ (nI j < 0 ∨ (arrV _ _ _).slots.size ≤ _); rw [arrV_size]; exact vp_in_nI hj hN) rfl rfl hd fun H1 e1 z oq => ?_
  rw [nI_clamp (by omega)] at e1
  refine kk p l e R s m args below meth c H1 _ cells slots mc ms L (h.st ht z oq ?_)
  show H1[_]? = some (vp_cell _ _)
  rw [e1, vp_cell_i, vp_cell_i, arrV_store]
  congr 2
  funext q
  by_cases hq : q = j
  · subst hq
    simp [updV, upd]
  · simp [updV, upd, hq]
theorem ev_zast {t N j : Nat} {x : Int32} {f : Nat → Int32} (hd : Dk k pc .bastore 1 pc') (ht : t < n) (hm : μ t = aZ N f) (hx : narrow .boolean (.int x) = .int x) (hj : j < N) (hN : N < 2 ^ 31) (kk : Ev G k d rc rs pc' ls stk n (mset μ t (aZ N (upd f j x))) Q) : Ev G k d rc rs pc ls (.int x :: .int (nI j) :: .ref (G.1 + t) :: stk) n μ Q := by
  obtain ⟨hd, rfl⟩ := hd
  intro p l e R s m args below meth c H locs cells slots mc ms L h
  have hC := h.1
  have hK := hC.2.2.2.2.2.2.2.2.1.2.1
  refine W.zast hC.1 hC.2.1 (h.2.1.one ht hm 0 _ rfl) ((hK.2 0 _ rfl).1 N (fun j => .int (f j))) (fun q => by cases q) (by show ¬ (nI j < 0 ∨ (arrV _ _ _).slots.size ≤ _); rw [arrV_size]; exact vp_in_nI hj hN) rfl rfl hd fun H1 e1 z oq => ?_
  rw [nI_clamp (by omega), hx] at e1
  refine kk p l e R s m args below meth c H1 _ cells slots mc ms L (h.st ht z oq ?_)
  show H1[_]? = some (vp_cell _ _)
  rw [e1, vp_cell_i, vp_cell_i, arrV_store]
  congr 2
  funext q
  by_cases hq : q = j
  · subst hq
    simp [updV, upd]
  · simp [updV, upd, hq]
theorem ev_last {t N j : Nat} {x : Int64} {f : Nat → Int64} (hd : Dk k pc .lastore 1 pc') (ht : t < n) (hm : μ t = aJ N f) (hj : j < N) (hN : N < 2 ^ 31) (kk : Ev G k d rc rs pc' ls stk n (mset μ t (aJ N (vp_updL f j x))) Q) : Ev G k d rc rs pc ls (.long x :: .int (nI j) :: .ref (G.1 + t) :: stk) n μ Q := by
  obtain ⟨hd, rfl⟩ := hd
  intro p l e R s m args below meth c H locs cells slots mc ms L h
  have hC := h.1
  have hK := hC.2.2.2.2.2.2.2.2.1.2.1
  refine W.last hC.1 hC.2.1 (h.2.1.one ht hm 0 _ rfl) ((hK.2 2 _ rfl).1 N (fun j => .long (f j))) (fun q => by cases q) (by show ¬ (nI j < 0 ∨ (arrV _ _ _).slots.size ≤ _); rw [arrV_size]; exact vp_in_nI hj hN) rfl rfl hd fun H1 e1 z oq => ?_
  rw [nI_clamp (by omega)] at e1
  refine kk p l e R s m args below meth c H1 _ cells slots mc ms L (h.st ht z oq ?_)
  show H1[_]? = some (vp_cell _ _)
  rw [e1, vp_cell_l, vp_cell_l, arrV_store]
  congr 2
  funext q
  by_cases hq : q = j
  · subst hq
    simp [updV, vp_updL]
  · simp [updV, vp_updL, hq]
/-- an item into the array of items -/
theorem ev_aast {t N j v : Nat} {fs : List Value} {f : Nat → Option Nat} (hd : Dk k pc .aastore 1 pc') (ht : t < n) (hm : μ t = aR 3 N f) (hv : v < n) (hmv : μ v = ob 1 fs) (hj : j < N) (hN : N < 2 ^ 31) (kk : Ev G k d rc rs pc' ls stk n (mset μ t (aR 3 N (va_up f j (some (G.1 + v))))) Q) : Ev G k d rc rs pc ls (.ref (G.1 + v) :: .int (nI j) :: .ref (G.1 + t) :: stk) n μ Q := by
  obtain ⟨hd, rfl⟩ := hd
  intro p l e R s m args below meth c H locs cells slots mc ms L h
  have hC := h.1
  have hK := hC.2.2.2.2.2.2.2.2.1.2.1
  obtain ⟨r', hr', cellV, g1, g2, g3, -⟩ := h.2.1.one hv hmv 0 _ rfl
  have hcls := (hK.1 1 _ rfl).2
  obtain ⟨kA, comp, k1, k2, k3, -⟩ := (hK.2 3 _ rfl).2
  have hcomp : comp = G.2.2.1.1 1 := Option.some.inj (k3.symm.trans hcls.1)
  subst hcomp
  obtain ⟨kC, hkC, -⟩ := hcls.2
  have hin := vp_in_nI hj hN
  refine W.aast hC.1 hC.2.1 (h.2.1.one ht hm 0 _ rfl) (fun q h => by cases h) (fun h => by cases h) k1 k2 rfl hkC ⟨fun q => hin (Or.inl q), by show _ < (arrV _ _ _).slots.size; rw [arrV_size, nI_clamp (by omega)]; exact hj⟩ g1 (fun q h => by rw [g3] at h; cases h) (by rw [g2]; exact hkC) (by rw [g2]; exact va_assign hcls) rfl rfl hd fun H1 e1 z oq => ?_
  rw [nI_clamp (by omega)] at e1
  refine kk p l e R s m args below meth c H1 _ cells slots mc ms L (h.st ht z oq ?_)
  show H1[_]? = some (vp_cell _ _)
  rw [e1, vp_cell_q, vp_cell_q, arrV_store]
  congr 2
  funext q
  by_cases hq : q = j
  · subst hq
    simp [updV, va_up, va_rf]
  · simp [updV, va_up, hq]
theorem EvC.nw {p : Program} {e : Env} {R : Room} {s : State} {m : MethodId} {meth : Method} {c : Code} {H H1 : Heap} {locs : List Loc} {cells slots mc ms N : Nat} {L : Array Slot} (h : EvC G k d (rc + 1) (rs + N) ls n μ p e R s m meth c H locs cells slots mc ms L) {e1 : Cn} (z : H1.size = G.1 + n + 1) (oq : ∀ q : Nat, q < G.1 + n → H1[q]? = H[q]?) (he : va_at G.2.2.1 classes (G.1 + n, cvE G.2.2.2 e1) H1) : EvC G k d rc rs ls (n + 1) (mset μ n e1) p e R s m meth c H1 locs (cells + 1) (slots + N) mc ms L :=
  ⟨h.1, h.2.1.push z oq he, h.2.2.1, ⟨by have := h.2.2.2.1; omega, by have := h.2.2.2.1; omega, h.2.2.2.1.2.2.1, h.2.2.2.1.2.2.2⟩, h.2.2.2.2⟩
theorem ev_new {ci index N : Nat} {C : String} {T : u_T} {fs : List Value} {ty : Nat → FieldType} (hd : Dk k pc (.new index) 3 pc') (hw : Cond.classLink k.1.cls index C ∈ lw_tbl) (hwi : Cond.instantiable C N ∈ lw_tbl) (hwn : Cond.initialized C ∈ lw_tbl) (hc : classes[ci]? = some (C, T, N)) (hin : ∀ w ∈ u_ws C T N, w ∈ lw_tbl) (hty : ∀ k, k < N → parseFieldDescriptor (T k).2.2.1 = some (ty k)) (hfs : ∀ j, j < N → defaultValue (ty j) = vp_V fs j)
    (kk : Ev G k d rc rs pc' ls (.ref (G.1 + n) :: stk) (n + 1) (mset μ n (ob ci fs)) Q) : Ev G k d (rc + 1) (rs + N) pc ls stk n μ Q := by
  obtain ⟨hd, rfl⟩ := hd
  intro p l e R s m args below meth c H locs cells slots mc ms L h
  have hC := h.1
  have hWd := hC.2.2.2.2.2.2.2.2.1
  have hK := hWd.2.1
  have hKn := hK.1 ci _ hc
  have hbu := h.2.2.2.1
  refine W.newcK hC.1 hC.2.1 hC.2.2.2.2.2.2.1 (hWd.w hw rfl args) (hWd.w hwi rfl args) (hWd.w hwn rfl args) rfl hd (by omega) (by omega) hKn.2.1 h.2.1.1 fun H1 kC hkC e1 z1 o1 => ?_
  exact kk p l e R s m args below meth c H1 _ _ _ mc ms L (h.nw z1 o1 ⟨_, hc, (u_born ty (hWd.us hin args) (fun _ h => h) hKn hkC e1 hty).to hfs⟩)
theorem ev_newZ {N : Nat} (hd : Dk k pc (.newarray .boolean) 2 pc') (hN : N < 2 ^ 20) (kk : Ev G k d rc rs pc' ls (.ref (G.1 + n) :: stk) (n + 1) (mset μ n (aZ N (fun _ => 0))) Q) : Ev G k d (rc + 1) (rs + N) pc ls (.int (nI N) :: stk) n μ Q := by
  obtain ⟨hd, rfl⟩ := hd
  intro p l e R s m args below meth c H locs cells slots mc ms L h
  have hC := h.1
  have hWd := hC.2.2.2.2.2.2.2.2.1
  have hbu := h.2.2.2.1
  have harr : (Cond.arrayClass .boolean).before args s = true := hWd.w (w := .arrayClass .boolean) (by decide +kernel) rfl args
  refine va_newaK (atype := .boolean) hC.1 hC.2.1 harr rfl hd rfl (nI_pos (by omega)) (nI_clamp (by omega)) (by show N * 1 ≤ _; omega) (by omega) (by omega) h.2.1.1 fun H1 cA e1 z1 o1 hA hN1 => ?_
  have hcA : cA = G.2.2.2 0 := Option.some.inj (hN1.symm.trans (hWd.2.1.2 0 _ rfl).2)
  subst hcA
  have e2 : va_at G.2.2.1 classes (G.1 + n, cvE G.2.2.2 (aZ N (fun _ => 0))) H1 := e1
  exact kk p l e R s m args below meth c H1 _ _ _ mc ms L (h.nw z1 o1 e2)
theorem ev_newI {N : Nat} (hd : Dk k pc (.newarray .int) 2 pc') (hN : N < 2 ^ 20) (kk : Ev G k d rc rs pc' ls (.ref (G.1 + n) :: stk) (n + 1) (mset μ n (aI N (fun _ => 0))) Q) : Ev G k d (rc + 1) (rs + N) pc ls (.int (nI N) :: stk) n μ Q := by
  obtain ⟨hd, rfl⟩ := hd
  intro p l e R s m args below meth c H locs cells slots mc ms L h
  have hC := h.1
  have hWd := hC.2.2.2.2.2.2.2.2.1
  have hbu := h.2.2.2.1
  have harr : (Cond.arrayClass .int).before args s = true := hWd.w (w := .arrayClass .int) (by decide +kernel) rfl args
  refine va_newaK (atype := .int) hC.1 hC.2.1 harr rfl hd rfl (nI_pos (by omega)) (nI_clamp (by omega)) (by show N * 4 ≤ _; omega) (by omega) (by omega) h.2.1.1 fun H1 cA e1 z1 o1 hA hN1 => ?_
  have hcA : cA = G.2.2.2 1 := Option.some.inj (hN1.symm.trans (hWd.2.1.2 1 _ rfl).2)
  subst hcA
  have e2 : va_at G.2.2.1 classes (G.1 + n, cvE G.2.2.2 (aI N (fun _ => 0))) H1 := e1
  exact kk p l e R s m args below meth c H1 _ _ _ mc ms L (h.nw z1 o1 e2)
theorem ev_newJ {N : Nat} (hd : Dk k pc (.newarray .long) 2 pc') (hN : N < 2 ^ 20) (kk : Ev G k d rc rs pc' ls (.ref (G.1 + n) :: stk) (n + 1) (mset μ n (aJ N (fun _ => 0))) Q) : Ev G k d (rc + 1) (rs + N) pc ls (.int (nI N) :: stk) n μ Q := by
  obtain ⟨hd, rfl⟩ := hd
  intro p l e R s m args below meth c H locs cells slots mc ms L h
  have hC := h.1
  have hWd := hC.2.2.2.2.2.2.2.2.1
  have hbu := h.2.2.2.1
  have harr : (Cond.arrayClass .long).before args s = true := hWd.w (w := .arrayClass .long) (by decide +kernel) rfl args
  refine va_newaK (atype := .long) hC.1 hC.2.1 harr rfl hd rfl (nI_pos (by omega)) (nI_clamp (by omega)) (by show N * 8 ≤ _; omega) (by omega) (by omega) h.2.1.1 fun H1 cA e1 z1 o1 hA hN1 => ?_
  have hcA : cA = G.2.2.2 2 := Option.some.inj (hN1.symm.trans (hWd.2.1.2 2 _ rfl).2)
  subst hcA
  have e2 : va_at G.2.2.1 classes (G.1 + n, cvE G.2.2.2 (aJ N (fun _ => 0))) H1 := e1
  exact kk p l e R s m args below meth c H1 _ _ _ mc ms L (h.nw z1 o1 e2)
theorem ev_anewI {index N : Nat} (hd : Dk k pc (.anewarray index) 3 pc') (hw : Cond.classLink k.1.cls index "RoomFills$Item" ∈ lw_tbl) (hN : N < 2 ^ 20) (kk : Ev G k d rc rs pc' ls (.ref (G.1 + n) :: stk) (n + 1) (mset μ n (aR 3 N (fun _ => none))) Q) : Ev G k d (rc + 1) (rs + N) pc ls (.int (nI N) :: stk) n μ Q := by
  obtain ⟨hd, rfl⟩ := hd
  intro p l e R s m args below meth c H locs cells slots mc ms L h
  have hC := h.1
  have hWd := hC.2.2.2.2.2.2.2.2.1
  have hbu := h.2.2.2.1
  have hcl : (nI N).toNatClampNeg = N := nI_clamp (by omega)
  refine W.anew hC.1 hC.2.1 hC.2.2.2.2.2.2.1 (hWd.w hw rfl args) (hWd.2.2.1.use) rfl hd rfl (nI_pos (by omega)) (by rw [hcl]; omega) (by omega) (by rw [hcl]; omega) fun cA kA comp h1 h2 h3 h4 => ?_
  rw [hcl, h.2.1.1]
  have hcA : cA = G.2.2.2 3 := by
    obtain ⟨_, _, -, -, -, h5⟩ := (hWd.2.1.2 3 _ rfl).2
    exact Option.some.inj (h1.symm.trans h5)
  subst hcA
  refine kk p l e R s m args below meth c _ _ _ _ mc ms L (h.nw (by simp [h.2.1.1]) (fun q hq => by rw [Array.getElem?_push, if_neg (by rw [h.2.1.1]; exact Nat.ne_of_lt hq)]) ?_)
  show (H.push _)[G.1 + n]? = some (vp_cell _ _)
  rw [← h.2.1.1, vp_cell_q]
  show _ = some (arrV _ _ (fun _ => Value.null))
  rw [← arrV_new]
  simp
end MEM
