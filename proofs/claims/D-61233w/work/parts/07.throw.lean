/-! ===== the three guards: throw new E() where the argument is 0 ===== -/
def exNames : List String := ["java/lang/RuntimeException", "java/lang/Exception"]
def atomOk (w : Cond) : Bool := (decide (w ∈ lw_tbl) && okw w) || decide (w ∈ sxw)
theorem atoms_E0 : (Bundle.ownAtoms0 "RoomFills" 56 "java/lang/IllegalArgumentException" exNames).all atomOk = true := by decide +kernel
theorem atoms_E1 : (Bundle.ownAtoms0 "RoomFills" 62 "java/lang/IllegalStateException" exNames).all atomOk = true := by decide +kernel
theorem atoms_E2 : (Bundle.ownAtoms0 "RoomFills" 59 "java/lang/IndexOutOfBoundsException" exNames).all atomOk = true := by decide +kernel
theorem atoms_hold {G : Gm} {s : State} (hW : Wd G s) (hS : SxQ s) {ws : List Cond} (h : ws.all atomOk = true) (a : Array Value) : ∀ w ∈ ws, w.before a s = true := by
  intro w hw
  have := List.all_eq_true.mp h w hw
  simp only [atomOk, Bool.or_eq_true, Bool.and_eq_true, decide_eq_true_eq] at this
  rcases this with h1 | h1
  · exact hW.1 w h1.1 h1.2 a
  · exact hS w h1 a
theorem same_nil {s U : State} {cells slots : Nat} (h : s.sameButNew U [] cells slots) : ∀ q, q < s.heap.size → U.heap[q]? = s.heap[q]? := by
  intro q hq
  obtain ⟨-, -, -, -, -, h6⟩ := h
  have hc : s.heap[q]? = some s.heap[q] := Array.getElem?_eq_getElem hq
  obtain ⟨c', h1, h2, h3, h4⟩ := h6 q _ hc
  rw [h1, hc]
  congr 1
  rw [h2]
  have : c'.slots = s.heap[q].slots := by
    apply Array.ext_getElem?
    intro i
    exact h4 i (by simp)
  rw [this]
set_option maxHeartbeats 2000000 in
theorem guard_ct {G : Gm} {k : Mk} {d n ci idx ic : Nat} {μ : Mem} {cls : String} (hk : k.1.cls = "RoomFills") (hk2 : k.2.2.1 = 1) (hk3 : k.2.2.2.1 = none) (hk4 : k.2.2.2.2 = [])
    (hcl : classes[ci]? = some (cls, F_E, 0)) (hfit : Bundle.fit cls = true) (hat : (Bundle.ownAtoms0 "RoomFills" ic cls exNames).all atomOk = true) (hwc : Cond.classLink "RoomFills" idx cls ∈ lw_tbl) (hwi : Cond.instantiable cls 6 ∈ lw_tbl) (hwn : Cond.initialized cls ∈ lw_tbl)
    (d0 : decode k.2.1 0 = .ok (.iload_n 0, 1)) (d1 : decode k.2.1 1 = .ok (.ifCond .ne 11, 3)) (d4 : decode k.2.1 4 = .ok (.new idx, 3)) (d7 : decode k.2.1 7 = .ok (.dup, 1)) (d8 : decode k.2.1 8 = .ok (.invokespecial ic, 3)) (d11 : decode k.2.1 11 = .ok (.athrow, 1)) (d12 : decode k.2.1 12 = .ok (.return_, 1)) (b : Bool) :
    Ct G k (d + 6) 1 6 [.int (if b then 1 else 0)] n μ (fun o n' μ' => if b then o = .inl none ∧ n' = n ∧ μ' = μ else o = .inr n ∧ n' = n + 1 ∧ μ' = mset μ n (ob ci [])) := by
  intro p l e R s m below meth c hC hH hmc hms
  rw [lg_entry_eq]
  have he := lv_entry [.int (if b then 1 else 0)] (n := k.2.2.1) (by rw [hk2]; exact Nat.le_refl 1)
  generalize (lg_sl [.int (if b then 1 else 0)] ++ List.replicate (k.2.2.1 - (lg_sl [.int (if b then 1 else 0)]).length) Slot.unset).toArray = L at he ⊢
  obtain ⟨hx, hb, hml, hr, hlk, hnm, hown, hex, hWd, hSx, hh0, hns, hBs, hfr, hlo, htr⟩ := id hC
  have hl0 : L[0]? = some (.val (.int (if b then 1 else 0))) := he.2.2 (0, .int (if b then 1 else 0)) List.mem_cons_self
  refine lv_iload_n hx hb d0 rfl hl0 ?_
  refine lv_if_ne (tgt := 12) hx hb d1 (by decide) (fun h1 => ?_) (fun h1 => ?_)
  · have hbt : b = true := by cases b with | true => rfl | false => exact absurd rfl h1
    subst hbt
    refine W.widen (k := 1) (n := 6) (by omega) (by omega) (W.mono (Q := MQ below (fun _ _ o t => o = .returned none ∧ t.heap = s.heap) _ s 1 6 (fun q => G.1 ≤ q)) ?_ (W.vret hx hb (hr.trans hk3) (fun t ht hW => ⟨rfl, ht⟩) (fun q h => by cases h) d12 hlk))
    rintro t ⟨o, h1, h2, ⟨rfl, hh⟩, L', ⟨hv, hW, hsame⟩, hL⟩
    exact ⟨.inl none, n, μ, L', h1, h2, hW, hsame, hL, ⟨rfl, rfl, rfl⟩, by rw [hh]; exact hH⟩
  · have hbf : b = false := by cases b with | false => rfl | true => exact absurd h1 (by decide)
    subst hbf
    rw [hk] at hown
    refine W.newc hx hb hown (hWd.w hwc rfl _) (hWd.w hwi rfl _) (hWd.w hwn rfl _) rfl d4 (by omega) (by omega) fun cC kC q1 q2 q3 q4 => ?_
    refine lv_dup hx hb d7 rfl ?_
    intro T hT X
    have hout : ∀ x ∈ c.exceptionTable.toList, covers x (8 + 3) = false := by
      have : c.exceptionTable.toList = [] := List.map_eq_nil_iff.mp (hex.trans hk4)
      rw [this]
      intro x hx
      cases hx
    have hcell : T.heap[s.heap.size]? = some (freshCell cC kC) := by rw [hT]; simp [freshCell]
    obtain ⟨U, u1, u2, u3, u4, u5, ce, u6, u7⟩ := X.ctorThrow0 (own := "RoomFills") (cls := cls) (names := exNames) (ic := ic) (a := s.heap.size) (cX := cC) (kX := kC) hx htr hown hfit (by decide +kernel) (atoms_hold hWd (hSx.1 s (Vm.Alike.refl _) hh0) hat _) (fun x hx => by cases hx) q1 q2 hcell (Nat.le_refl _) (g := F0 m 8 L [.ref s.heap.size, .ref s.heap.size]) rfl (by rw [hml]; exact he.1) rfl rfl (rest := []) rfl (by rw [hb]; exact d8) (by rw [hb]; exact d11) hout (by show 2 + 3 < _; omega) (by show 2 * 0 + 1 + (13 * 3 + 41) ≤ _; omega) hlk
    have hsz := hH.1
    refine ⟨U, u1, .inr n, n + 1, mset μ n (ob ci []), [], u2, ?_, u4, ?_, (fun q h => by cases h), ⟨rfl, rfl, rfl⟩, ?_⟩
    · show Ended U below (.threw (G.1 + n))
      rw [← hsz]; exact u3
    · exact u5.mono (by omega) (by omega)
    · have hsame := same_nil u5
      have hlt : s.heap.size < U.heap.size := (Array.getElem?_eq_some_iff.mp u6).1
      have hle : U.heap.size ≤ s.heap.size + (0 + 1) := u5.2.2.1
      refine hH.push (by omega) (fun q hq => hsame q (by omega)) ?_
      refine ⟨_, hcl, ce, by rw [← hsz]; exact u6, ?_, u7.vm, fun j hj => absurd hj (Nat.not_lt_zero j)⟩
      exact Option.some.inj (u7.cls.symm.trans (hWd.2.1.1 ci _ hcl).2.1)
theorem ct_proper {G : Gm} {d n : Nat} {μ : Mem} (b : Bool) : Ct G k_X_proper (d + 6) 1 6 [.int (if b then 1 else 0)] n μ (fun o n' μ' => if b then o = .inl none ∧ n' = n ∧ μ' = μ else o = .inr n ∧ n' = n + 1 ∧ μ' = mset μ n (ob 4 [])) :=
  guard_ct (idx := 54) (ic := 56) (cls := "java/lang/IllegalArgumentException") rfl rfl rfl rfl rfl (by decide +kernel) atoms_E0 (by decide +kernel) (by decide +kernel) (by decide +kernel) (by decide +kernel) (by decide +kernel) (by decide +kernel) (by decide +kernel) (by decide +kernel) (by decide +kernel) (by decide +kernel) b
theorem ct_can {G : Gm} {d n : Nat} {μ : Mem} (b : Bool) : Ct G k_X_can (d + 6) 1 6 [.int (if b then 1 else 0)] n μ (fun o n' μ' => if b then o = .inl none ∧ n' = n ∧ μ' = μ else o = .inr n ∧ n' = n + 1 ∧ μ' = mset μ n (ob 5 [])) :=
  guard_ct (idx := 60) (ic := 62) (cls := "java/lang/IllegalStateException") rfl rfl rfl rfl rfl (by decide +kernel) atoms_E1 (by decide +kernel) (by decide +kernel) (by decide +kernel) (by decide +kernel) (by decide +kernel) (by decide +kernel) (by decide +kernel) (by decide +kernel) (by decide +kernel) (by decide +kernel) b
theorem ct_there {G : Gm} {d n : Nat} {μ : Mem} (b : Bool) : Ct G k_X_there (d + 6) 1 6 [.int (if b then 1 else 0)] n μ (fun o n' μ' => if b then o = .inl none ∧ n' = n ∧ μ' = μ else o = .inr n ∧ n' = n + 1 ∧ μ' = mset μ n (ob 6 [])) :=
  guard_ct (idx := 57) (ic := 59) (cls := "java/lang/IndexOutOfBoundsException") rfl rfl rfl rfl rfl (by decide +kernel) atoms_E2 (by decide +kernel) (by decide +kernel) (by decide +kernel) (by decide +kernel) (by decide +kernel) (by decide +kernel) (by decide +kernel) (by decide +kernel) (by decide +kernel) (by decide +kernel) b
