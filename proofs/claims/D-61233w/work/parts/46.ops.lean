/-! ===== both sides of every call ===== -/
def OpZ (G : Gm) (d : Nat) (σ : Sg) (kL kM : Mk) (as : List Value) : Prop := ∃ (code : Nat) (x : Bool) (σ' : Sg), code ≤ 3 ∧ (∀ n μ f, XW G n μ σ → μ 40 = aJ 1 f → Ct G kL (d + 9) 200 6000 (.ref (G.1 + 0) :: (as ++ [.ref (G.1 + 40)])) n μ (LR G n μ code (lN (if x then 1 else 0)) σ')) ∧ (∀ n μ cd, MW G n μ σ cd → Ct G kM (d + 9) 0 0 (.ref (G.1 + 20) :: as) n μ (MR G n μ (.int (b2 x)) σ' code))
def OpI (G : Gm) (d : Nat) (σ : Sg) (kL kM : Mk) (as : List Value) : Prop := ∃ (code : Nat) (z : Int) (σ' : Sg), code ≤ 3 ∧ (-2147483648 ≤ z ∧ z < 2147483648) ∧ (∀ n μ f, XW G n μ σ → μ 40 = aJ 1 f → Ct G kL (d + 9) 200 6000 (.ref (G.1 + 0) :: (as ++ [.ref (G.1 + 40)])) n μ (LR G n μ code (iI z).toInt64 σ')) ∧ (∀ n μ cd, MW G n μ σ cd → Ct G kM (d + 9) 0 0 (.ref (G.1 + 20) :: as) n μ (MR G n μ (.int (iI z)) σ' code))
def OpJ (G : Gm) (d : Nat) (σ : Sg) (kL kM : Mk) (as : List Value) : Prop := ∃ (code : Nat) (y : Int64) (σ' : Sg), code ≤ 3 ∧ (∀ n μ f, XW G n μ σ → μ 40 = aJ 1 f → Ct G kL (d + 9) 200 6000 (.ref (G.1 + 0) :: (as ++ [.ref (G.1 + 40)])) n μ (LR G n μ code y σ')) ∧ (∀ n μ cd, MW G n μ σ cd → Ct G kM (d + 9) 0 0 (.ref (G.1 + 20) :: as) n μ (MR G n μ (.long y) σ' code))
theorem i00 : iI 0 = nI 0 := by decide
theorem rdR {G : Gm} {n : Nat} {μ : Mem} {v : Value} {σ : Sg} (hX : XW G n μ σ) {o : Oc} {n' : Nat} {μ' : Mem} (h : Rd (some v) n μ o n' μ') : XR G n μ v σ o n' μ' := by
  obtain ⟨rfl, rfl, rfl⟩ := h
  exact ⟨rfl, Nat.le_refl _, hX, fun _ _ _ => rfl⟩
theorem fdV_bd {σ : Sg} (hc : CfOK σ.1) (ul : Nat) : -1 ≤ fdV σ ul ∧ fdV σ ul ≤ 40 := by
  unfold fdV
  cases hD : Db σ.1 (Eb σ.1 σ.2.2.1 σ.2.1 ul) with
  | none => simp
  | some q =>
    have h : (Wb σ.1 (Eb σ.1 σ.2.2.1 σ.2.1 ul)).1.length + 0 ≤ σ.1.st := (wk_ok hc (σ.1.st + 1) 0 6 0 q (by omega) (by omega) hD).1
    have := hc.1.2
    simp only
    show (-1 : Int) ≤ ((Wb σ.1 (Eb σ.1 σ.2.2.1 σ.2.1 ul)).1.length : Int) ∧ ((Wb σ.1 (Eb σ.1 σ.2.2.1 σ.2.1 ul)).1.length : Int) ≤ 40
    omega
theorem atF_bd {c : Cf} {l : List (Nat × Nat)} (h : PcOK c l) (k : Nat) : ∀ j, j ≤ l.length → -1 ≤ atF l k j ∧ atF l k j ≤ 40
  | 0, _ => by simp [atF]
  | j + 1, hj => by
    have ih := atF_bd h k j (by omega)
    have := (h.2 j (by omega)).2
    simp only [atF]
    split <;> omega
theorem plF_bd {c : Cf} (hc : CfOK c) {l : List (Nat × Nat)} (h : PcOK c l) {k : Nat} (hk : k < l.length) (w : Nat) : -1 ≤ plF c (gN l k) w ∧ plF c (gN l k) w ≤ 140 := by
  have h1 := h.2 k hk
  have h2 := wdt_le hc h hk
  have := hc.2.2.2.2.1
  unfold plF
  split
  · split <;> omega
  · split <;> omega
section OPS
variable {G : Gm} {d : Nat} {σ : Sg}
theorem op_door (hc : CfOK σ.1) (a b : Int32) : OpZ G d σ k_L_door k_M_door [.int a, .int b] := by
  obtain ⟨c, tl, td, pl⟩ := σ
  dsimp only at hc
  obtain ⟨a, rfl, ha1, ha2⟩ := i32z a
  obtain ⟨b, rfl, hb1, hb2⟩ := i32z b
  by_cases h : 0 ≤ a ∧ a + 1 ≤ b ∧ b ≤ c.st
  · obtain ⟨f, rfl⟩ := natz h.1
    obtain ⟨w, rfl⟩ : ∃ w : Nat, b = ((f + w : Nat) : Int) := ⟨(b - f).toNat, by omega⟩
    rw [← nI_iI, ← nI_iI]
    have hfw : f + w ≤ c.st := by omega
    refine ⟨0, doorB c f w, (doorC c f (f + w), tl, td, if doorB c f w then none else pl), by omega, fun n μ g hX ho => ?_, fun n μ cd hM => ?_⟩
    ·
      obtain ⟨_, lx, ik, tb, ts, lat, hlx, hXM, htd, hL⟩ := id hX
      dsimp only at hlx hXM htd hL
      exact wr_door_ok hXM.1 ho hXM.2.1 (Ct.bud (by omega) (by omega) (Ct.le (show d + 7 ≤ d + 8 by omega) (Ct.post (fun o n' μ' q => q.toR _ (hc.door hfw) hlx htd hL ⟨rfl, rfl⟩) (ct_X_door_ok (by omega) hfw hXM hc hL.lat))))
    ·
      obtain ⟨_, hn, pc, pw, pn, bw, bk, me, cl, mt, ts, pit, pat, psz, hML, htd, hP⟩ := hM
      dsimp only at hML htd hP
      exact Ct.le (show d + 1 ≤ d + 9 by omega) (Ct.post (fun o n' μ' q => MU.toR (hc.door hfw) hn htd (is_hp _ _) (hP.is _ ⟨rfl, rfl, rfl⟩) q) (ct_M_door_ok (by omega) hfw hn hML hc))
  ·
    refine ⟨1, false, (c, tl, td, pl), by omega, fun n μ g hX ho => ?_, fun n μ cd hM => ?_⟩
    ·
      obtain ⟨_, lx, ik, tb, ts, lat, hlx, hXM, htd, hL⟩ := id hX
      dsimp only at hlx hXM htd hL
      exact wr_door_e4 hXM.1 ho hXM.2.1 hX (Ct.bud (by omega) (by omega) (Ct.le (show d + 7 ≤ d + 8 by omega) (ct_X_door_no ha1 ha2 hb1 hb2 h hXM hc)))
    ·
      obtain ⟨_, hn, pc, pw, pn, bw, bk, me, cl, mt, ts, pit, pat, psz, hML, htd, hP⟩ := hM
      dsimp only at hML htd hP
      exact Ct.le (show d + 1 ≤ d + 9 by omega) (Ct.post (fun o n' μ' q => MU.toR hc hn htd rfl hP q) (ct_M_door_no ha1 ha2 hb1 hb2 h hn hML hc))
theorem op_pipe (hc : CfOK σ.1) (a : Int32) : OpZ G d σ k_L_pipe k_M_pipe [.int a] := by
  obtain ⟨c, tl, td, pl⟩ := σ
  dsimp only at hc
  obtain ⟨a, rfl, ha1, ha2⟩ := i32z a
  by_cases h : 0 ≤ a ∧ a < c.st
  · obtain ⟨p, rfl⟩ := natz h.1
    rw [← nI_iI]
    have hp : p < c.st := by omega
    have e1 : (pipeC c p).st = c.st := by unfold pipeC; split <;> rfl
    have e2 : (pipeC c p).mn = c.mn := by unfold pipeC; split <;> rfl
    have e3 : (pipeC c p).wd = c.wd := by unfold pipeC; split <;> rfl
    have e4 : ∀ lx, LxOK c lx → LxOK (pipeC c p) lx := fun lx h => by unfold pipeC; split <;> exact h
    refine ⟨0, pipeB c p, (pipeC c p, tl, td, if pipeB c p then none else pl), by omega, fun n μ g hX ho => ?_, fun n μ cd hM => ?_⟩
    ·
      obtain ⟨_, lx, ik, tb, ts, lat, hlx, hXM, htd, hL⟩ := id hX
      dsimp only at hlx hXM htd hL
      exact wr_pipe_ok hXM.1 ho hXM.2.1 (Ct.bud (by omega) (by omega) (Ct.le (show d + 7 ≤ d + 8 by omega) (Ct.post (fun o n' μ' q => q.toR _ (hc.pipe hp) (e4 _ hlx) htd hL ⟨e1, e2⟩) (ct_X_pipe_ok hp hXM hc hL.lat))))
    ·
      obtain ⟨_, hn, pc, pw, pn, bw, bk, me, cl, mt, ts, pit, pat, psz, hML, htd, hP⟩ := hM
      dsimp only at hML htd hP
      exact Ct.le (show d + 1 ≤ d + 9 by omega) (Ct.post (fun o n' μ' q => MU.toR (hc.pipe hp) hn htd (is_hp _ _) (hP.is _ ⟨e1, e2, e3⟩) q) (ct_M_pipe_ok hp hn hML hc))
  ·
    refine ⟨1, false, (c, tl, td, pl), by omega, fun n μ g hX ho => ?_, fun n μ cd hM => ?_⟩
    ·
      obtain ⟨_, lx, ik, tb, ts, lat, hlx, hXM, htd, hL⟩ := id hX
      dsimp only at hlx hXM htd hL
      exact wr_pipe_e4 hXM.1 ho hXM.2.1 hX (Ct.bud (by omega) (by omega) (Ct.le (show d + 7 ≤ d + 8 by omega) (ct_X_pipe_no ha1 ha2 h hXM hc)))
    ·
      obtain ⟨_, hn, pc, pw, pn, bw, bk, me, cl, mt, ts, pit, pat, psz, hML, htd, hP⟩ := hM
      dsimp only at hML htd hP
      exact Ct.le (show d + 1 ≤ d + 9 by omega) (Ct.post (fun o n' μ' q => MU.toR hc hn htd rfl hP q) (ct_M_pipe_no ha1 ha2 h hn hML hc))
theorem op_item (hc : CfOK σ.1) (a : Int32) (w1 w2 : Int64) : OpI G d σ k_L_item k_M_item [.int a, .long w1, .long w2] := by
  obtain ⟨c, tl, td, pl⟩ := σ
  dsimp only at hc
  obtain ⟨a, rfl, ha1, ha2⟩ := i32z a
  have hmn := hc.2.2.2.2.1
  by_cases hm : c.mn < 6
  · by_cases h : (1 ≤ a ∧ a ≤ 20) ∧ (0 ≤ w1.toInt ∧ w1.toInt ≤ 100000) ∧ (0 ≤ w2.toInt ∧ w2.toInt ≤ 100000)
    · obtain ⟨w, rfl⟩ := natz (show 0 ≤ a by omega)
      obtain ⟨wo, hwo⟩ := natz h.2.1.1
      obtain ⟨ce, hce⟩ := natz h.2.2.1
      rw [← nI_iI, lN_of hwo (by omega), lN_of hce (by omega)]
      refine ⟨0, (c.mn : Int), (itemC c w wo ce, tl, td, none), by omega, ⟨by omega, by omega⟩, fun n μ g hX ho => ?_, fun n μ cd hM => ?_⟩
      ·
        obtain ⟨_, lx, ik, tb, ts, lat, hlx, hXM, htd, hL⟩ := id hX
        dsimp only at hlx hXM htd hL
        exact wr_item_ok (by omega) (by omega) hXM.1 ho hXM.2.1 (Ct.bud (by omega) (by omega) (Ct.le (show d + 7 ≤ d + 8 by omega) (Ct.post (fun o n' μ' q => by
          obtain ⟨rfl, rfl, q3, q4⟩ := q
          exact ⟨by rw [nI_iI], by omega, ⟨hc.item hm (by omega) (by omega) (by omega) (by omega), lx, _, tb, ts, .null, hlx, q3, htd, rfl⟩, fun t h1 h2 => q4 t h1 (by have := hXM.1; omega)⟩) (ct_X_item_ok hm (by omega) (by omega) (by omega) (by omega) hXM hc))))
      ·
        obtain ⟨_, hn, pc, pw, pn, bw, bk, me, cl, mt, ts, pit, pat, psz, hML, htd, hP⟩ := hM
        dsimp only at hML htd hP
        exact Ct.le (show d + 1 ≤ d + 9 by omega) (Ct.post (fun o n' μ' q => by rw [← nI_iI]; exact MU.toR (pl' := none) (hc.item hm (by omega) (by omega) (by omega) (by omega)) hn htd rfl trivial q) (ct_M_item_ok hm (by omega) (by omega) (by omega) (by omega) hn hML hc))
    ·
      refine ⟨2, 0, (c, tl, td, pl), by omega, ⟨by omega, by omega⟩, fun n μ g hX ho => ?_, fun n μ cd hM => ?_⟩
      ·
        obtain ⟨_, lx, ik, tb, ts, lat, hlx, hXM, htd, hL⟩ := id hX
        dsimp only at hlx hXM htd hL
        exact wr_item_e4 hXM.1 ho hXM.2.1 hX (Ct.bud (by omega) (by omega) (Ct.le (show d + 7 ≤ d + 8 by omega) (ct_X_item_no2 hm h ha1 ha2 hXM hc)))
      ·
        obtain ⟨_, hn, pc, pw, pn, bw, bk, me, cl, mt, ts, pit, pat, psz, hML, htd, hP⟩ := hM
        dsimp only at hML htd hP
        exact Ct.le (show d + 1 ≤ d + 9 by omega) (Ct.post (fun o n' μ' q => by rw [i00]; exact MU.toR hc hn htd rfl hP q) (ct_M_item_no2 hm h ha1 ha2 hn hML hc))
  ·
    refine ⟨1, 0, (c, tl, td, pl), by omega, ⟨by omega, by omega⟩, fun n μ g hX ho => ?_, fun n μ cd hM => ?_⟩
    ·
      obtain ⟨_, lx, ik, tb, ts, lat, hlx, hXM, htd, hL⟩ := id hX
      dsimp only at hlx hXM htd hL
      exact wr_item_e5 hXM.1 ho hXM.2.1 hX (Ct.bud (by omega) (by omega) (Ct.le (show d + 7 ≤ d + 8 by omega) (ct_X_item_no1 hm ha1 ha2 hXM hc)))
    ·
      obtain ⟨_, hn, pc, pw, pn, bw, bk, me, cl, mt, ts, pit, pat, psz, hML, htd, hP⟩ := hM
      dsimp only at hML htd hP
      exact Ct.le (show d + 1 ≤ d + 9 by omega) (Ct.post (fun o n' μ' q => by rw [i00]; exact MU.toR hc hn htd rfl hP q) (ct_M_item_no1 hm ha1 ha2 hn hML hc))
theorem op_need (hc : CfOK σ.1) (a b : Int32) : OpZ G d σ k_L_need k_M_need [.int a, .int b] := by
  obtain ⟨c, tl, td, pl⟩ := σ
  dsimp only at hc
  obtain ⟨a, rfl, ha1, ha2⟩ := i32z a
  obtain ⟨b, rfl, hb1, hb2⟩ := i32z b
  by_cases h : 0 ≤ a ∧ a < c.mn
  · obtain ⟨k, rfl⟩ := natz h.1
    rw [← nI_iI]
    have hk : k < c.mn := by omega
    by_cases h2 : -1 ≤ b ∧ b ≤ 40
    ·
      refine ⟨0, decide (c.nd k ≠ b), (needC c k b, tl, td, if decide (c.nd k ≠ b) then none else pl), by omega, fun n μ g hX ho => ?_, fun n μ cd hM => ?_⟩
      ·
        obtain ⟨_, lx, ik, tb, ts, lat, hlx, hXM, htd, hL⟩ := id hX
        dsimp only at hlx hXM htd hL
        exact wr_need_ok hXM.1 ho hXM.2.1 (Ct.bud (by omega) (by omega) (Ct.le (show d + 8 ≤ d + 8 by omega) (Ct.post (fun o n' μ' q => q.toR _ (hc.need hk h2.1 h2.2) hlx htd hL ⟨rfl, rfl⟩) (ct_X_need_ok hk h2.1 h2.2 hXM hc hL.lat))))
      ·
        obtain ⟨_, hn, pc, pw, pn, bw, bk, me, cl, mt, ts, pit, pat, psz, hML, htd, hP⟩ := hM
        dsimp only at hML htd hP
        exact Ct.le (show d + 1 ≤ d + 9 by omega) (Ct.post (fun o n' μ' q => MU.toR (hc.need hk h2.1 h2.2) hn htd (is_hp _ _) (hP.is _ ⟨rfl, rfl, rfl⟩) q) (ct_M_need_ok hk h2.1 h2.2 hn hML hc))
    ·
      refine ⟨2, false, (c, tl, td, pl), by omega, fun n μ g hX ho => ?_, fun n μ cd hM => ?_⟩
      ·
        obtain ⟨_, lx, ik, tb, ts, lat, hlx, hXM, htd, hL⟩ := id hX
        dsimp only at hlx hXM htd hL
        exact wr_need_e4 hXM.1 ho hXM.2.1 hX (Ct.bud (by omega) (by omega) (Ct.le (show d + 8 ≤ d + 8 by omega) (ct_X_need_no2 hk hb1 hb2 h2 hXM hc)))
      ·
        obtain ⟨_, hn, pc, pw, pn, bw, bk, me, cl, mt, ts, pit, pat, psz, hML, htd, hP⟩ := hM
        dsimp only at hML htd hP
        exact Ct.le (show d + 1 ≤ d + 9 by omega) (Ct.post (fun o n' μ' q => MU.toR hc hn htd rfl hP q) (ct_M_need_no2 hk hb1 hb2 h2 hn hML hc))
  ·
    refine ⟨1, false, (c, tl, td, pl), by omega, fun n μ g hX ho => ?_, fun n μ cd hM => ?_⟩
    ·
      obtain ⟨_, lx, ik, tb, ts, lat, hlx, hXM, htd, hL⟩ := id hX
      dsimp only at hlx hXM htd hL
      exact wr_need_e6 hXM.1 ho hXM.2.1 hX (Ct.bud (by omega) (by omega) (Ct.le (show d + 8 ≤ d + 8 by omega) (ct_X_need_no1 ha1 ha2 h hXM hc)))
    ·
      obtain ⟨_, hn, pc, pw, pn, bw, bk, me, cl, mt, ts, pit, pat, psz, hML, htd, hP⟩ := hM
      dsimp only at hML htd hP
      exact Ct.le (show d + 1 ≤ d + 9 by omega) (Ct.post (fun o n' μ' q => MU.toR hc hn htd rfl hP q) (ct_M_need_no1 ha1 ha2 hb1 hb2 h hn hML hc))
theorem op_place (hc : CfOK σ.1) (a b : Int32) : OpZ G d σ k_L_place k_M_place [.int a, .int b] := by
  obtain ⟨c, tl, td, pl⟩ := σ
  dsimp only at hc
  obtain ⟨a, rfl, ha1, ha2⟩ := i32z a
  obtain ⟨b, rfl, hb1, hb2⟩ := i32z b
  by_cases h : 0 ≤ a ∧ a < c.mn
  · obtain ⟨k, rfl⟩ := natz h.1
    rw [← nI_iI]
    have hk : k < c.mn := by omega
    by_cases h2 : -101 ≤ b ∧ b ≤ 100
    ·
      refine ⟨0, decide (c.pu k ≠ b), (placeC c k b, tl, td, pl), by omega, fun n μ g hX ho => ?_, fun n μ cd hM => ?_⟩
      ·
        obtain ⟨_, lx, ik, tb, ts, lat, hlx, hXM, htd, hL⟩ := id hX
        dsimp only at hlx hXM htd hL
        exact wr_place_ok hXM.1 ho hXM.2.1 (Ct.bud (by omega) (by omega) (Ct.le (show d + 8 ≤ d + 8 by omega) (Ct.post (fun o n' μ' q => XU.toR false (hc.place hk h2.1 h2.2) hlx htd hL ⟨rfl, rfl⟩ q) (ct_X_place_ok hk h2.1 h2.2 hXM hc))))
      ·
        obtain ⟨_, hn, pc, pw, pn, bw, bk, me, cl, mt, ts, pit, pat, psz, hML, htd, hP⟩ := hM
        dsimp only at hML htd hP
        exact Ct.le (show d + 1 ≤ d + 9 by omega) (Ct.post (fun o n' μ' q => MU.toR (hc.place hk h2.1 h2.2) hn htd rfl (hP.is false ⟨rfl, rfl, rfl⟩) q) (ct_M_place_ok hk h2.1 h2.2 hn hML hc))
    ·
      refine ⟨2, false, (c, tl, td, pl), by omega, fun n μ g hX ho => ?_, fun n μ cd hM => ?_⟩
      ·
        obtain ⟨_, lx, ik, tb, ts, lat, hlx, hXM, htd, hL⟩ := id hX
        dsimp only at hlx hXM htd hL
        exact wr_place_e4 hXM.1 ho hXM.2.1 hX (Ct.bud (by omega) (by omega) (Ct.le (show d + 8 ≤ d + 8 by omega) (ct_X_place_no2 hk hb1 hb2 h2 hXM hc)))
      ·
        obtain ⟨_, hn, pc, pw, pn, bw, bk, me, cl, mt, ts, pit, pat, psz, hML, htd, hP⟩ := hM
        dsimp only at hML htd hP
        exact Ct.le (show d + 1 ≤ d + 9 by omega) (Ct.post (fun o n' μ' q => MU.toR hc hn htd rfl hP q) (ct_M_place_no2 hk hb1 hb2 h2 hn hML hc))
  ·
    refine ⟨1, false, (c, tl, td, pl), by omega, fun n μ g hX ho => ?_, fun n μ cd hM => ?_⟩
    ·
      obtain ⟨_, lx, ik, tb, ts, lat, hlx, hXM, htd, hL⟩ := id hX
      dsimp only at hlx hXM htd hL
      exact wr_place_e6 hXM.1 ho hXM.2.1 hX (Ct.bud (by omega) (by omega) (Ct.le (show d + 8 ≤ d + 8 by omega) (ct_X_place_no1 ha1 ha2 h hXM hc)))
    ·
      obtain ⟨_, hn, pc, pw, pn, bw, bk, me, cl, mt, ts, pit, pat, psz, hML, htd, hP⟩ := hM
      dsimp only at hML htd hP
      exact Ct.le (show d + 1 ≤ d + 9 by omega) (Ct.post (fun o n' μ' q => MU.toR hc hn htd rfl hP q) (ct_M_place_no1 ha1 ha2 hb1 hb2 h hn hML hc))
theorem op_must (hc : CfOK σ.1) (a : Int32) (on : Bool) : OpZ G d σ k_L_must k_M_must [.int a, .int (b2 on)] := by
  obtain ⟨c, tl, td, pl⟩ := σ
  dsimp only at hc
  obtain ⟨a, rfl, ha1, ha2⟩ := i32z a
  by_cases h : 0 ≤ a ∧ a < c.mn
  · obtain ⟨k, rfl⟩ := natz h.1
    rw [← nI_iI]
    have hk : k < c.mn := by omega
    obtain ⟨x, hx⟩ : ∃ x, (c.ms k != on) = x := ⟨_, rfl⟩
    refine ⟨0, x, (mustC c k on, tl, td, if x then none else pl), by omega, fun n μ g hX ho => ?_, fun n μ cd hM => ?_⟩
    ·
      obtain ⟨_, lx, ik, tb, ts, lat, hlx, hXM, htd, hL⟩ := id hX
      dsimp only at hlx hXM htd hL
      have h9 := ct_X_must_ok (d := d) (on := on) hk hXM hc hL.lat
      rw [hx] at h9
      exact wr_must_ok (x := x) hXM.1 ho hXM.2.1 (Ct.bud (by omega) (by omega) (Ct.le (show d + 8 ≤ d + 8 by omega) (Ct.post (fun o n' μ' q => XU.toR x (hc.must (z := on) hk) hlx htd hL ⟨rfl, rfl⟩ q) h9)))
    ·
      obtain ⟨_, hn, pc, pw, pn, bw, bk, me, cl, mt, ts, pit, pat, psz, hML, htd, hP⟩ := hM
      dsimp only at hML htd hP
      have h9 := ct_M_must_ok (d := d) (on := on) hk hn hML hc
      rw [hx] at h9
      exact Ct.le (show d + 1 ≤ d + 9 by omega) (Ct.post (fun o n' μ' q => MU.toR (hc.must (z := on) hk) hn htd (is_hp x pl) (hP.is x ⟨rfl, rfl, rfl⟩) q) h9)
  ·
    refine ⟨1, false, (c, tl, td, pl), by omega, fun n μ g hX ho => ?_, fun n μ cd hM => ?_⟩
    ·
      obtain ⟨_, lx, ik, tb, ts, lat, hlx, hXM, htd, hL⟩ := id hX
      dsimp only at hlx hXM htd hL
      exact wr_must_e6 hXM.1 ho hXM.2.1 hX (Ct.bud (by omega) (by omega) (Ct.le (show d + 8 ≤ d + 8 by omega) (ct_X_must_no1 ha1 ha2 h hXM hc)))
    ·
      obtain ⟨_, hn, pc, pw, pn, bw, bk, me, cl, mt, ts, pit, pat, psz, hML, htd, hP⟩ := hM
      dsimp only at hML htd hP
      exact Ct.le (show d + 1 ≤ d + 9 by omega) (Ct.post (fun o n' μ' q => MU.toR hc hn htd rfl hP q) (ct_M_must_no1 ha1 ha2 h hn hML hc))
theorem op_filler (hc : CfOK σ.1) (a b : Int32) : OpZ G d σ k_L_filler k_M_filler [.int a, .int b] := by
  obtain ⟨c, tl, td, pl⟩ := σ
  dsimp only at hc
  obtain ⟨a, rfl, ha1, ha2⟩ := i32z a
  obtain ⟨b, rfl, hb1, hb2⟩ := i32z b
  by_cases h : 1 ≤ a ∧ a ≤ b ∧ b ≤ 40
  · obtain ⟨l, rfl⟩ := natz (show 0 ≤ a by omega)
    obtain ⟨m, rfl⟩ := natz (show 0 ≤ b by omega)
    rw [← nI_iI, ← nI_iI]
    have h1 : 1 ≤ l := by omega
    have h2 : l ≤ m := by omega
    have h3 : m ≤ 40 := by omega
    refine ⟨0, decide (c.le ≠ l ∨ c.mo ≠ m), (fillC c l m, tl, td, if decide (c.le ≠ l ∨ c.mo ≠ m) then none else pl), by omega, fun n μ g hX ho => ?_, fun n μ cd hM => ?_⟩
    ·
      obtain ⟨_, lx, ik, tb, ts, lat, hlx, hXM, htd, hL⟩ := id hX
      dsimp only at hlx hXM htd hL
      exact wr_filler_ok hXM.1 ho hXM.2.1 (Ct.bud (by omega) (by omega) (Ct.le (show d + 7 ≤ d + 8 by omega) (Ct.post (fun o n' μ' q => q.toR _ (hc.fill h1 h2 h3) (Or.inl rfl) htd hL ⟨rfl, rfl⟩) (ct_X_filler_ok h1 h2 h3 hlx hXM hc hL.lat))))
    ·
      obtain ⟨_, hn, pc, pw, pn, bw, bk, me, cl, mt, ts, pit, pat, psz, hML, htd, hP⟩ := hM
      dsimp only at hML htd hP
      exact Ct.le (show d + 1 ≤ d + 9 by omega) (Ct.post (fun o n' μ' q => MU.toR (hc.fill h1 h2 h3) hn htd (is_hp _ _) (hP.is _ ⟨rfl, rfl, rfl⟩) q) (ct_M_filler_ok h1 h2 h3 hn hML hc))
  ·
    refine ⟨1, false, (c, tl, td, pl), by omega, fun n μ g hX ho => ?_, fun n μ cd hM => ?_⟩
    ·
      obtain ⟨_, lx, ik, tb, ts, lat, hlx, hXM, htd, hL⟩ := id hX
      dsimp only at hlx hXM htd hL
      exact wr_filler_e4 hXM.1 ho hXM.2.1 hX (Ct.bud (by omega) (by omega) (Ct.le (show d + 7 ≤ d + 8 by omega) (ct_X_filler_no ha1 ha2 hb1 hb2 h hXM hc)))
    ·
      obtain ⟨_, hn, pc, pw, pn, bw, bk, me, cl, mt, ts, pit, pat, psz, hML, htd, hP⟩ := hM
      dsimp only at hML htd hP
      exact Ct.le (show d + 1 ≤ d + 9 by omega) (Ct.post (fun o n' μ' q => MU.toR hc hn htd rfl hP q) (ct_M_filler_no ha1 ha2 hb1 hb2 h hn hML hc))
theorem op_near (hc : CfOK σ.1) (a b : Int32) (w1 : Int64) : OpZ G d σ k_L_near k_M_near [.int a, .int b, .long w1] := by
  obtain ⟨c, tl, td, pl⟩ := σ
  dsimp only at hc
  obtain ⟨a, rfl, ha1, ha2⟩ := i32z a
  obtain ⟨b, rfl, hb1, hb2⟩ := i32z b
  by_cases h : (0 ≤ a ∧ a < c.mn) ∧ (0 ≤ b ∧ b < c.mn)
  · obtain ⟨i, rfl⟩ := natz h.1.1
    obtain ⟨j, rfl⟩ := natz h.2.1
    rw [← nI_iI, ← nI_iI]
    have hi : i < c.mn := by omega
    have hj : j < c.mn := by omega
    by_cases h2 : i ≠ j ∧ 0 ≤ w1.toInt ∧ w1.toInt ≤ 100000
    ·
      obtain ⟨w, hw⟩ := natz h2.2.1
      rw [lN_of hw (by omega)]
      have hw9 : w ≤ 100000 := by omega
      refine ⟨0, decide (c.nr i j ≠ w), (nearC c i j w, tl, td, if decide (c.nr i j ≠ w) then none else pl), by omega, fun n μ g hX ho => ?_, fun n μ cd hM => ?_⟩
      ·
        obtain ⟨_, lx, ik, tb, ts, lat, hlx, hXM, htd, hL⟩ := id hX
        dsimp only at hlx hXM htd hL
        exact wr_near_ok hXM.1 ho hXM.2.1 (Ct.bud (by omega) (by omega) (Ct.le (show d + 8 ≤ d + 8 by omega) (Ct.post (fun o n' μ' q => q.toR _ (hc.near hw9) hlx htd hL ⟨rfl, rfl⟩) (ct_X_near_ok hi hj h2.1 hw9 hXM hc hL.lat))))
      ·
        obtain ⟨_, hn, pc, pw, pn, bw, bk, me, cl, mt, ts, pit, pat, psz, hML, htd, hP⟩ := hM
        dsimp only at hML htd hP
        exact Ct.le (show d + 2 ≤ d + 9 by omega) (Ct.post (fun o n' μ' q => MU.toR (hc.near hw9) hn htd (is_hp _ _) (hP.is _ ⟨rfl, rfl, rfl⟩) q) (ct_M_near_ok hi hj h2.1 hw9 hn hML hc))
    ·
      refine ⟨2, false, (c, tl, td, pl), by omega, fun n μ g hX ho => ?_, fun n μ cd hM => ?_⟩
      ·
        obtain ⟨_, lx, ik, tb, ts, lat, hlx, hXM, htd, hL⟩ := id hX
        dsimp only at hlx hXM htd hL
        exact wr_near_e4 hXM.1 ho hXM.2.1 hX (Ct.bud (by omega) (by omega) (Ct.le (show d + 8 ≤ d + 8 by omega) (ct_X_near_no2 hi hj h2 hXM hc)))
      ·
        obtain ⟨_, hn, pc, pw, pn, bw, bk, me, cl, mt, ts, pit, pat, psz, hML, htd, hP⟩ := hM
        dsimp only at hML htd hP
        exact Ct.le (show d + 2 ≤ d + 9 by omega) (Ct.post (fun o n' μ' q => MU.toR hc hn htd rfl hP q) (ct_M_near_no2 hi hj h2 hn hML hc))
  ·
    refine ⟨1, false, (c, tl, td, pl), by omega, fun n μ g hX ho => ?_, fun n μ cd hM => ?_⟩
    ·
      obtain ⟨_, lx, ik, tb, ts, lat, hlx, hXM, htd, hL⟩ := id hX
      dsimp only at hlx hXM htd hL
      exact wr_near_e6 hXM.1 ho hXM.2.1 hX (Ct.bud (by omega) (by omega) (Ct.le (show d + 8 ≤ d + 8 by omega) (ct_X_near_no1 ha1 ha2 hb1 hb2 h hXM hc)))
    ·
      obtain ⟨_, hn, pc, pw, pn, bw, bk, me, cl, mt, ts, pit, pat, psz, hML, htd, hP⟩ := hM
      dsimp only at hML htd hP
      exact Ct.le (show d + 2 ≤ d + 9 by omega) (Ct.post (fun o n' μ' q => MU.toR hc hn htd rfl hP q) (ct_M_near_no1 ha1 ha2 hb1 hb2 h hn hML hc))
theorem op_bar (hc : CfOK σ.1) (a b : Int32) : OpZ G d σ k_L_bar k_M_bar [.int a, .int b] := by
  obtain ⟨c, tl, td, pl⟩ := σ
  dsimp only at hc
  obtain ⟨a, rfl, ha1, ha2⟩ := i32z a
  obtain ⟨b, rfl, hb1, hb2⟩ := i32z b
  by_cases h : (0 ≤ a ∧ a < c.mn) ∧ (0 ≤ b ∧ b < c.mn)
  · obtain ⟨i, rfl⟩ := natz h.1.1
    obtain ⟨j, rfl⟩ := natz h.2.1
    rw [← nI_iI, ← nI_iI]
    have hi : i < c.mn := by omega
    have hj : j < c.mn := by omega
    by_cases h2 : i ≠ j
    ·
      refine ⟨0, !c.br i j, (barC c i j, tl, td, if !c.br i j then none else pl), by omega, fun n μ g hX ho => ?_, fun n μ cd hM => ?_⟩
      ·
        obtain ⟨_, lx, ik, tb, ts, lat, hlx, hXM, htd, hL⟩ := id hX
        dsimp only at hlx hXM htd hL
        exact wr_bar_ok hXM.1 ho hXM.2.1 (Ct.bud (by omega) (by omega) (Ct.le (show d + 8 ≤ d + 8 by omega) (Ct.post (fun o n' μ' q => q.toR _ hc.bar hlx htd hL ⟨rfl, rfl⟩) (ct_X_bar_ok hi hj h2 hXM hc hL.lat))))
      ·
        obtain ⟨_, hn, pc, pw, pn, bw, bk, me, cl, mt, ts, pit, pat, psz, hML, htd, hP⟩ := hM
        dsimp only at hML htd hP
        exact Ct.le (show d + 2 ≤ d + 9 by omega) (Ct.post (fun o n' μ' q => MU.toR hc.bar hn htd (is_hp _ _) (hP.is _ ⟨rfl, rfl, rfl⟩) q) (ct_M_bar_ok hi hj h2 hn hML hc))
    ·
      refine ⟨2, false, (c, tl, td, pl), by omega, fun n μ g hX ho => ?_, fun n μ cd hM => ?_⟩
      ·
        obtain ⟨_, lx, ik, tb, ts, lat, hlx, hXM, htd, hL⟩ := id hX
        dsimp only at hlx hXM htd hL
        exact wr_bar_e4 hXM.1 ho hXM.2.1 hX (Ct.bud (by omega) (by omega) (Ct.le (show d + 8 ≤ d + 8 by omega) (ct_X_bar_no2 hi hj h2 hXM hc)))
      ·
        obtain ⟨_, hn, pc, pw, pn, bw, bk, me, cl, mt, ts, pit, pat, psz, hML, htd, hP⟩ := hM
        dsimp only at hML htd hP
        exact Ct.le (show d + 2 ≤ d + 9 by omega) (Ct.post (fun o n' μ' q => MU.toR hc hn htd rfl hP q) (ct_M_bar_no2 hi hj h2 hn hML hc))
  ·
    refine ⟨1, false, (c, tl, td, pl), by omega, fun n μ g hX ho => ?_, fun n μ cd hM => ?_⟩
    ·
      obtain ⟨_, lx, ik, tb, ts, lat, hlx, hXM, htd, hL⟩ := id hX
      dsimp only at hlx hXM htd hL
      exact wr_bar_e6 hXM.1 ho hXM.2.1 hX (Ct.bud (by omega) (by omega) (Ct.le (show d + 8 ≤ d + 8 by omega) (ct_X_bar_no1 ha1 ha2 hb1 hb2 h hXM hc)))
    ·
      obtain ⟨_, hn, pc, pw, pn, bw, bk, me, cl, mt, ts, pit, pat, psz, hML, htd, hP⟩ := hM
      dsimp only at hML htd hP
      exact Ct.le (show d + 2 ≤ d + 9 by omega) (Ct.post (fun o n' μ' q => MU.toR hc hn htd rfl hP q) (ct_M_bar_no1 ha1 ha2 hb1 hb2 h hn hML hc))
theorem op_variant (hc : CfOK σ.1) (a : Int32) : OpI G d σ k_L_variant k_M_variant [.int a] := by
  obtain ⟨c, tl, td, pl⟩ := σ
  dsimp only at hc
  obtain ⟨a, rfl, ha1, ha2⟩ := i32z a
  cases pl with
  | none =>
    refine ⟨1, 0, (c, tl, td, none), by omega, ⟨by omega, by omega⟩, fun n μ g hX ho => ?_, fun n μ cd hM => ?_⟩
    ·
      obtain ⟨_, lx, ik, tb, ts, lat, hlx, hXM, htd, hL⟩ := id hX
      dsimp only at hlx hXM htd hL
      have hL : lat = .null := hL
      subst hL
      exact wr_variant_e5 hXM.1 ho hXM.2.1 hX (Ct.bud (by omega) (by omega) (Ct.le (show d + 7 ≤ d + 8 by omega) (ct_X_variant_no1a ha1 ha2 (t := 0) hXM)))
    ·
      obtain ⟨_, hn, pc, pw, pn, bw, bk, me, cl, mt, ts, pit, pat, psz, hML, htd, hP⟩ := hM
      dsimp only at hML htd hP
      exact Ct.le (show d + 5 ≤ d + 9 by omega) (Ct.post (fun o n' μ' q => by rw [i00]; exact MU.toR hc hn htd rfl hP q) (ct_M_variant_no1a ha1 ha2 hn hML))
  | some q0 =>
    by_cases htl : tl < 16
    · by_cases h : 0 ≤ a ∧ a ≤ 6
      · obtain ⟨u, rfl⟩ := natz h.1
        rw [← nI_iI]
        have hzb : -2147483648 ≤ fdV (c, tl, td, some q0) u ∧ fdV (c, tl, td, some q0) u < 2147483648 := by
          have := fdV_bd (σ := (c, tl, td, some q0)) hc u; omega
        refine ⟨0, fdV (c, tl, td, some q0) u, fdS (c, tl, td, some q0) u, by omega, hzb, fun n μ g hX ho => ?_, fun n μ cd hM => ?_⟩
        ·
          obtain ⟨_, lx, ik, tb, ts, lat, hlx, hXM, htd, hL⟩ := id hX
          dsimp only at hlx hXM htd hL
          have hL2 := hL
          obtain ⟨t, S, ht, rfl, hPM, hWk⟩ := hL
          exact wr_variant_ok hzb.1 hzb.2 hXM.1 ho hXM.2.1 (Ct.bud (by omega) (by omega) (Ct.le (show d + 7 ≤ d + 8 by omega) (Ct.post (fun o n' μ' q => q) (ct_X_variant_ok (pl := some q0) hXM hc hlx (show u ≤ 6 by omega) htd htl hL2))))
        ·
          obtain ⟨_, hn, pc, pw, pn, bw, bk, me, cl, mt, ts, pit, pat, psz, hML, htd, hP⟩ := hM
          dsimp only at hML htd hP
          exact Ct.le (show d + 5 ≤ d + 9 by omega) (ct_M_variant_ok (by omega) htl htd hP hn hML hc)
      ·
        refine ⟨2, 0, (c, tl, td, some q0), by omega, ⟨by omega, by omega⟩, fun n μ g hX ho => ?_, fun n μ cd hM => ?_⟩
        ·
          obtain ⟨_, lx, ik, tb, ts, lat, hlx, hXM, htd, hL⟩ := id hX
          dsimp only at hlx hXM htd hL
          obtain ⟨t, S, ht, rfl, hPM, hWk⟩ := hL
          exact wr_variant_e4 hXM.1 ho hXM.2.1 hX (Ct.bud (by omega) (by omega) (Ct.le (show d + 7 ≤ d + 8 by omega) (ct_X_variant_no2 ha1 ha2 htl h hXM)))
        ·
          obtain ⟨_, hn, pc, pw, pn, bw, bk, me, cl, mt, ts, pit, pat, psz, hML, htd, hP⟩ := hM
          dsimp only at hML htd hP
          exact Ct.le (show d + 5 ≤ d + 9 by omega) (Ct.post (fun o n' μ' q => by rw [i00]; exact MU.toR hc hn htd rfl hP q) (ct_M_variant_no2 ha1 ha2 htl h hn hML))
    ·
      refine ⟨1, 0, (c, tl, td, some q0), by omega, ⟨by omega, by omega⟩, fun n μ g hX ho => ?_, fun n μ cd hM => ?_⟩
      ·
        obtain ⟨_, lx, ik, tb, ts, lat, hlx, hXM, htd, hL⟩ := id hX
        dsimp only at hlx hXM htd hL
        obtain ⟨t, S, ht, rfl, hPM, hWk⟩ := hL
        exact wr_variant_e5 hXM.1 ho hXM.2.1 hX (Ct.bud (by omega) (by omega) (Ct.le (show d + 7 ≤ d + 8 by omega) (ct_X_variant_no1b ha1 ha2 htl htd.1 hXM)))
      ·
        obtain ⟨_, hn, pc, pw, pn, bw, bk, me, cl, mt, ts, pit, pat, psz, hML, htd, hP⟩ := hM
        dsimp only at hML htd hP
        exact Ct.le (show d + 5 ≤ d + 9 by omega) (Ct.post (fun o n' μ' q => by rw [i00]; exact MU.toR hc hn htd rfl hP q) (ct_M_variant_no1b ha1 ha2 htl htd.1 hn hML))
theorem op_at (hc : CfOK σ.1) (a : Int32) : OpI G d σ k_L_at k_M_at [.int a] := by
  obtain ⟨c, tl, td, pl⟩ := σ
  dsimp only at hc
  obtain ⟨a, rfl, ha1, ha2⟩ := i32z a
  cases pl with
  | none =>
    refine ⟨1, 0, (c, tl, td, none), by omega, ⟨by omega, by omega⟩, fun n μ g hX ho => ?_, fun n μ cd hM => ?_⟩
    ·
      obtain ⟨_, lx, ik, tb, ts, lat, hlx, hXM, htd, hL⟩ := id hX
      dsimp only at hlx hXM htd hL
      have hL : lat = .null := hL
      subst hL
      exact wr_at_e5 hXM.1 ho hXM.2.1 hX (Ct.bud (by omega) (by omega) (Ct.le (show d + 8 ≤ d + 8 by omega) (ct_X_at_no1 hXM)))
    ·
      obtain ⟨_, hn, pc, pw, pn, bw, bk, me, cl, mt, ts, pit, pat, psz, hML, htd, hP⟩ := hM
      dsimp only at hML htd hP
      exact Ct.le (show d + 1 ≤ d + 9 by omega) (Ct.post (fun o n' μ' q => by rw [i00]; exact MU.toR hc hn htd rfl hP q) (ct_M_at_no1 hn hML hc))
  | some q0 =>
    by_cases h : 0 ≤ a ∧ a < c.mn
    · obtain ⟨k, rfl⟩ := natz h.1
      rw [← nI_iI]
      have hk : k < c.mn := by omega
      by_cases hwk : WkOK c q0.1 0 0
      · have hzb := atF_bd (hwk.pc hc.1.2) k q0.1.length (Nat.le_refl _)
        refine ⟨0, atF q0.1 k q0.1.length, (c, tl, td, some q0), by omega, ⟨by omega, by omega⟩, fun n μ g hX ho => ?_, fun n μ cd hM => ?_⟩
        ·
          obtain ⟨_, lx, ik, tb, ts, lat, hlx, hXM, htd, hL⟩ := id hX
          dsimp only at hlx hXM htd hL
          obtain ⟨t, S, ht, rfl, hPM, hWk⟩ := hL
          have hPc := hWk.pc hc.1.2
          exact wr_at_ok (by omega) (by omega) hXM.1 ho hXM.2.1 (Ct.bud (by omega) (by omega) (Ct.le (show d + 8 ≤ d + 8 by omega) (Ct.post (fun o n' μ' q => rdR hX q) (ct_X_at_ok hk hXM hc hPM hPc))))
        ·
          obtain ⟨_, hn, pc, pw, pn, bw, bk, me, cl, mt, ts, pit, pat, psz, hML, htd, hP⟩ := hM
          dsimp only at hML htd hP
          obtain ⟨rfl, rfl, rfl, hPc, hWk⟩ := hP
          exact Ct.le (show d + 1 ≤ d + 9 by omega) (Ct.post (fun o n' μ' q => MU.toR (pl' := some q0) hc hn htd rfl ⟨rfl, rfl, rfl, hPc, hWk⟩ q) (ct_M_at_ok hk (hWk.pc hc.1.2) hPc hWk.2.2.2 hn hML hc))
      ·
        refine ⟨0, 0, (c, tl, td, some q0), by omega, ⟨by omega, by omega⟩, fun n μ g hX ho => ?_, fun n μ cd hM => ?_⟩
        ·
          obtain ⟨_, lx, ik, tb, ts, lat, hlx, hXM, htd, hL⟩ := id hX
          dsimp only at hlx hXM htd hL
          obtain ⟨t, S, ht, rfl, hPM, hWk⟩ := hL
          exact absurd hWk hwk
        ·
          obtain ⟨_, hn, pc, pw, pn, bw, bk, me, cl, mt, ts, pit, pat, psz, hML, htd, hP⟩ := hM
          dsimp only at hML htd hP
          obtain ⟨rfl, rfl, rfl, hPc, hWk⟩ := hP
          exact absurd hWk hwk
    ·
      refine ⟨2, 0, (c, tl, td, some q0), by omega, ⟨by omega, by omega⟩, fun n μ g hX ho => ?_, fun n μ cd hM => ?_⟩
      ·
        obtain ⟨_, lx, ik, tb, ts, lat, hlx, hXM, htd, hL⟩ := id hX
        dsimp only at hlx hXM htd hL
        obtain ⟨t, S, ht, rfl, hPM, hWk⟩ := hL
        exact wr_at_e6 hXM.1 ho hXM.2.1 hX (Ct.bud (by omega) (by omega) (Ct.le (show d + 8 ≤ d + 8 by omega) (ct_X_at_no2 ha1 ha2 h hXM hc hPM (hWk.pc hc.1.2))))
      ·
        obtain ⟨_, hn, pc, pw, pn, bw, bk, me, cl, mt, ts, pit, pat, psz, hML, htd, hP⟩ := hM
        dsimp only at hML htd hP
        obtain ⟨rfl, rfl, rfl, hPc, hWk⟩ := hP
        exact Ct.le (show d + 1 ≤ d + 9 by omega) (Ct.post (fun o n' μ' q => by rw [i00]; exact MU.toR (pl' := some q0) hc hn htd rfl ⟨rfl, rfl, rfl, hPc, hWk⟩ q) (ct_M_at_no2 ha1 ha2 h (hWk.pc hc.1.2) hn hML hc))
theorem op_plan (hc : CfOK σ.1) (a b : Int32) : OpI G d σ k_L_plan k_M_plan [.int a, .int b] := by
  obtain ⟨c, tl, td, pl⟩ := σ
  dsimp only at hc
  obtain ⟨a, rfl, ha1, ha2⟩ := i32z a
  obtain ⟨b, rfl, hb1, hb2⟩ := i32z b
  cases pl with
  | none =>
    refine ⟨1, 0, (c, tl, td, none), by omega, ⟨by omega, by omega⟩, fun n μ g hX ho => ?_, fun n μ cd hM => ?_⟩
    ·
      obtain ⟨_, lx, ik, tb, ts, lat, hlx, hXM, htd, hL⟩ := id hX
      dsimp only at hlx hXM htd hL
      have hL : lat = .null := hL
      subst hL
      exact wr_plan_e5 hXM.1 ho hXM.2.1 hX (Ct.bud (by omega) (by omega) (Ct.le (show d + 7 ≤ d + 8 by omega) (ct_X_plan_no1 hXM)))
    ·
      obtain ⟨_, hn, pc, pw, pn, bw, bk, me, cl, mt, ts, pit, pat, psz, hML, htd, hP⟩ := hM
      dsimp only at hML htd hP
      exact Ct.le (show d + 1 ≤ d + 9 by omega) (Ct.post (fun o n' μ' q => by rw [i00]; exact MU.toR hc hn htd rfl hP q) (ct_M_plan_no1 hn hML hc))
  | some q0 =>
    by_cases h : 0 ≤ a ∧ a < q0.1.length
    · obtain ⟨k, rfl⟩ := natz h.1
      rw [← nI_iI]
      have hk : k < q0.1.length := by omega
      by_cases h2 : 0 ≤ b ∧ b ≤ 2
      · obtain ⟨w, rfl⟩ := natz h2.1
        rw [← nI_iI]
        have hw : w ≤ 2 := by omega
        by_cases hwk : WkOK c q0.1 0 0
        · have hzb := plF_bd hc (hwk.pc hc.1.2) hk w
          refine ⟨0, plF c (gN q0.1 k) w, (c, tl, td, some q0), by omega, ⟨by omega, by omega⟩, fun n μ g hX ho => ?_, fun n μ cd hM => ?_⟩
          ·
            obtain ⟨_, lx, ik, tb, ts, lat, hlx, hXM, htd, hL⟩ := id hX
            dsimp only at hlx hXM htd hL
            obtain ⟨t, S, ht, rfl, hPM, hWk⟩ := hL
            have hPc := hWk.pc hc.1.2
            exact wr_plan_ok (by omega) (by omega) hXM.1 ho hXM.2.1 (Ct.bud (by omega) (by omega) (Ct.le (show d + 7 ≤ d + 8 by omega) (Ct.post (fun o n' μ' q => rdR hX q) (ct_X_plan_ok hk hw hXM hc hPM hPc))))
          ·
            obtain ⟨_, hn, pc, pw, pn, bw, bk, me, cl, mt, ts, pit, pat, psz, hML, htd, hP⟩ := hM
            dsimp only at hML htd hP
            obtain ⟨rfl, rfl, rfl, hPc, hWk⟩ := hP
            exact Ct.le (show d + 1 ≤ d + 9 by omega) (Ct.post (fun o n' μ' q => MU.toR (pl' := some q0) hc hn htd rfl ⟨rfl, rfl, rfl, hPc, hWk⟩ q) (ct_M_plan_ok hk hw (hWk.pc hc.1.2) hPc hn hML hc))
        ·
          refine ⟨0, 0, (c, tl, td, some q0), by omega, ⟨by omega, by omega⟩, fun n μ g hX ho => ?_, fun n μ cd hM => ?_⟩
          ·
            obtain ⟨_, lx, ik, tb, ts, lat, hlx, hXM, htd, hL⟩ := id hX
            dsimp only at hlx hXM htd hL
            obtain ⟨t, S, ht, rfl, hPM, hWk⟩ := hL
            exact absurd hWk hwk
          ·
            obtain ⟨_, hn, pc, pw, pn, bw, bk, me, cl, mt, ts, pit, pat, psz, hML, htd, hP⟩ := hM
            dsimp only at hML htd hP
            obtain ⟨rfl, rfl, rfl, hPc, hWk⟩ := hP
            exact absurd hWk hwk
      ·
        refine ⟨3, 0, (c, tl, td, some q0), by omega, ⟨by omega, by omega⟩, fun n μ g hX ho => ?_, fun n μ cd hM => ?_⟩
        ·
          obtain ⟨_, lx, ik, tb, ts, lat, hlx, hXM, htd, hL⟩ := id hX
          dsimp only at hlx hXM htd hL
          obtain ⟨t, S, ht, rfl, hPM, hWk⟩ := hL
          exact wr_plan_e4 hXM.1 ho hXM.2.1 hX (Ct.bud (by omega) (by omega) (Ct.le (show d + 7 ≤ d + 8 by omega) (ct_X_plan_no3 hb1 hb2 hk h2 hXM hc hPM (hWk.pc hc.1.2))))
        ·
          obtain ⟨_, hn, pc, pw, pn, bw, bk, me, cl, mt, ts, pit, pat, psz, hML, htd, hP⟩ := hM
          dsimp only at hML htd hP
          obtain ⟨rfl, rfl, rfl, hPc, hWk⟩ := hP
          exact Ct.le (show d + 1 ≤ d + 9 by omega) (Ct.post (fun o n' μ' q => by rw [i00]; exact MU.toR (pl' := some q0) hc hn htd rfl ⟨rfl, rfl, rfl, hPc, hWk⟩ q) (ct_M_plan_no3 hb1 hb2 hk h2 (hWk.pc hc.1.2) hn hML hc))
    ·
      refine ⟨2, 0, (c, tl, td, some q0), by omega, ⟨by omega, by omega⟩, fun n μ g hX ho => ?_, fun n μ cd hM => ?_⟩
      ·
        obtain ⟨_, lx, ik, tb, ts, lat, hlx, hXM, htd, hL⟩ := id hX
        dsimp only at hlx hXM htd hL
        obtain ⟨t, S, ht, rfl, hPM, hWk⟩ := hL
        exact wr_plan_e6 hXM.1 ho hXM.2.1 hX (Ct.bud (by omega) (by omega) (Ct.le (show d + 7 ≤ d + 8 by omega) (ct_X_plan_no2 ha1 ha2 h hXM hc hPM (hWk.pc hc.1.2))))
      ·
        obtain ⟨_, hn, pc, pw, pn, bw, bk, me, cl, mt, ts, pit, pat, psz, hML, htd, hP⟩ := hM
        dsimp only at hML htd hP
        obtain ⟨rfl, rfl, rfl, hPc, hWk⟩ := hP
        exact Ct.le (show d + 1 ≤ d + 9 by omega) (Ct.post (fun o n' μ' q => by rw [i00]; exact MU.toR (pl' := some q0) hc hn htd rfl ⟨rfl, rfl, rfl, hPc, hWk⟩ q) (ct_M_plan_no2 ha1 ha2 h (hWk.pc hc.1.2) hn hML hc))
theorem op_worth (hc : CfOK σ.1) (a : Int32) : OpJ G d σ k_L_worth k_M_worth [.int a] := by
  obtain ⟨c, tl, td, pl⟩ := σ
  dsimp only at hc
  obtain ⟨a, rfl, ha1, ha2⟩ := i32z a
  cases pl with
  | none =>
    refine ⟨1, lN 0, (c, tl, td, none), by omega, fun n μ g hX ho => ?_, fun n μ cd hM => ?_⟩
    ·
      obtain ⟨_, lx, ik, tb, ts, lat, hlx, hXM, htd, hL⟩ := id hX
      dsimp only at hlx hXM htd hL
      have hL : lat = .null := hL
      subst hL
      exact wr_worth_e5 hXM.1 ho hXM.2.1 hX (Ct.bud (by omega) (by omega) (Ct.le (show d + 7 ≤ d + 8 by omega) (ct_X_worth_no1 hXM)))
    ·
      obtain ⟨_, hn, pc, pw, pn, bw, bk, me, cl, mt, ts, pit, pat, psz, hML, htd, hP⟩ := hM
      dsimp only at hML htd hP
      exact Ct.le (show d + 1 ≤ d + 9 by omega) (Ct.post (fun o n' μ' q => MU.toR hc hn htd rfl hP q) (ct_M_worth_no1 hn hML hc))
  | some q0 =>
    by_cases h : 0 ≤ a ∧ a ≤ 1
    · obtain ⟨w, rfl⟩ := natz h.1
      rw [← nI_iI]
      have hw : w ≤ 1 := by omega
      refine ⟨0, lN (if w = 0 then q0.2.1 else q0.2.2), (c, tl, td, some q0), by omega, fun n μ g hX ho => ?_, fun n μ cd hM => ?_⟩
      ·
        obtain ⟨_, lx, ik, tb, ts, lat, hlx, hXM, htd, hL⟩ := id hX
        dsimp only at hlx hXM htd hL
        obtain ⟨t, S, ht, rfl, hPM, hWk⟩ := hL
        have hPc := hWk.pc hc.1.2
        exact wr_worth_ok hXM.1 ho hXM.2.1 (Ct.bud (by omega) (by omega) (Ct.le (show d + 7 ≤ d + 8 by omega) (Ct.post (fun o n' μ' q => rdR hX q) (ct_X_worth_ok hw hXM hc hPM hPc))))
      ·
        obtain ⟨_, hn, pc, pw, pn, bw, bk, me, cl, mt, ts, pit, pat, psz, hML, htd, hP⟩ := hM
        dsimp only at hML htd hP
        obtain ⟨rfl, rfl, rfl, hPc, hWk⟩ := hP
        exact Ct.le (show d + 1 ≤ d + 9 by omega) (Ct.post (fun o n' μ' q => MU.toR (pl' := some q0) hc hn htd rfl ⟨rfl, rfl, rfl, hPc, hWk⟩ q) (ct_M_worth_ok hw hn hML hc))
    ·
      refine ⟨2, lN 0, (c, tl, td, some q0), by omega, fun n μ g hX ho => ?_, fun n μ cd hM => ?_⟩
      ·
        obtain ⟨_, lx, ik, tb, ts, lat, hlx, hXM, htd, hL⟩ := id hX
        dsimp only at hlx hXM htd hL
        obtain ⟨t, S, ht, rfl, hPM, hWk⟩ := hL
        exact wr_worth_e6 hXM.1 ho hXM.2.1 hX (Ct.bud (by omega) (by omega) (Ct.le (show d + 7 ≤ d + 8 by omega) (ct_X_worth_no2 ha1 ha2 h hXM hc hPM (hWk.pc hc.1.2))))
      ·
        obtain ⟨_, hn, pc, pw, pn, bw, bk, me, cl, mt, ts, pit, pat, psz, hML, htd, hP⟩ := hM
        dsimp only at hML htd hP
        obtain ⟨rfl, rfl, rfl, hPc, hWk⟩ := hP
        exact Ct.le (show d + 1 ≤ d + 9 by omega) (Ct.post (fun o n' μ' q => MU.toR (pl' := some q0) hc hn htd rfl ⟨rfl, rfl, rfl, hPc, hWk⟩ q) (ct_M_worth_no2 ha1 ha2 h hn hML hc))
theorem op_top (hc : CfOK σ.1) (a b : Int32) : OpI G d σ k_L_top k_M_top [.int a, .int b] := by
  obtain ⟨c, tl, td, pl⟩ := σ
  dsimp only at hc
  obtain ⟨a, rfl, ha1, ha2⟩ := i32z a
  obtain ⟨b, rfl, hb1, hb2⟩ := i32z b
  cases pl with
  | none =>
    refine ⟨1, 0, (c, tl, td, none), by omega, ⟨by omega, by omega⟩, fun n μ g hX ho => ?_, fun n μ cd hM => ?_⟩
    ·
      obtain ⟨_, lx, ik, tb, ts, lat, hlx, hXM, htd, hL⟩ := id hX
      dsimp only at hlx hXM htd hL
      have hL : lat = .null := hL
      subst hL
      exact wr_top_e5 hXM.1 ho hXM.2.1 hX (Ct.bud (by omega) (by omega) (Ct.le (show d + 7 ≤ d + 8 by omega) (ct_X_top_no1 hXM)))
    ·
      obtain ⟨_, hn, pc, pw, pn, bw, bk, me, cl, mt, ts, pit, pat, psz, hML, htd, hP⟩ := hM
      dsimp only at hML htd hP
      exact Ct.le (show d + 1 ≤ d + 9 by omega) (Ct.post (fun o n' μ' q => by rw [i00]; exact MU.toR hc hn htd rfl hP q) (ct_M_top_no1 hn hML hc))
  | some q0 =>
    by_cases h : a = -1 ∨ frZ c q0.1 a q0.1.length ≠ -1
    · by_cases h2 : 0 ≤ b ∧ b ≤ 1
      · by_cases hwk : WkOK c q0.1 0 0
        · have hzb : -2147483648 ≤ (if a = -1 then (tpN c q0.1 q0.1.length : Int) else if b = 0 then frZ c q0.1 a q0.1.length else (szN c q0.1 a q0.1.length : Int)) ∧ (if a = -1 then (tpN c q0.1 q0.1.length : Int) else if b = 0 then frZ c q0.1 a q0.1.length else (szN c q0.1 a q0.1.length : Int)) < 2147483648 := by
            have h1 := (hwk.pc hc.1.2).1
            have h3 := tpN_le c q0.1 q0.1.length
            have h4 := frZ_bd (hwk.pc hc.1.2) a q0.1.length (Nat.le_refl _)
            have h5 := szN_bd hc (hwk.pc hc.1.2) a q0.1.length (Nat.le_refl _)
            split
            · omega
            · split <;> omega
          refine ⟨0, (if a = -1 then (tpN c q0.1 q0.1.length : Int) else if b = 0 then frZ c q0.1 a q0.1.length else (szN c q0.1 a q0.1.length : Int)), (c, tl, td, some q0), by omega, hzb, fun n μ g hX ho => ?_, fun n μ cd hM => ?_⟩
          ·
            obtain ⟨_, lx, ik, tb, ts, lat, hlx, hXM, htd, hL⟩ := id hX
            dsimp only at hlx hXM htd hL
            obtain ⟨t, S, ht, rfl, hPM, hWk⟩ := hL
            have hPc := hWk.pc hc.1.2
            exact wr_top_ok hzb.1 hzb.2 hXM.1 ho hXM.2.1 (Ct.bud (by omega) (by omega) (Ct.le (show d + 7 ≤ d + 8 by omega) (Ct.post (fun o n' μ' q => rdR hX q) (ct_X_top_ok ha1 ha2 hb1 hb2 h h2.1 h2.2 hXM hc hPM hPc))))
          ·
            obtain ⟨_, hn, pc, pw, pn, bw, bk, me, cl, mt, ts, pit, pat, psz, hML, htd, hP⟩ := hM
            dsimp only at hML htd hP
            obtain ⟨rfl, rfl, rfl, hPc, hWk⟩ := hP
            exact Ct.le (show d + 1 ≤ d + 9 by omega) (Ct.post (fun o n' μ' q => MU.toR (pl' := some q0) hc hn htd rfl ⟨rfl, rfl, rfl, hPc, hWk⟩ q) (ct_M_top_ok ha1 ha2 hb1 hb2 h h2.1 h2.2 (hWk.pc hc.1.2) hPc hn hML hc))
        ·
          refine ⟨0, 0, (c, tl, td, some q0), by omega, ⟨by omega, by omega⟩, fun n μ g hX ho => ?_, fun n μ cd hM => ?_⟩
          ·
            obtain ⟨_, lx, ik, tb, ts, lat, hlx, hXM, htd, hL⟩ := id hX
            dsimp only at hlx hXM htd hL
            obtain ⟨t, S, ht, rfl, hPM, hWk⟩ := hL
            exact absurd hWk hwk
          ·
            obtain ⟨_, hn, pc, pw, pn, bw, bk, me, cl, mt, ts, pit, pat, psz, hML, htd, hP⟩ := hM
            dsimp only at hML htd hP
            obtain ⟨rfl, rfl, rfl, hPc, hWk⟩ := hP
            exact absurd hWk hwk
      ·
        refine ⟨3, 0, (c, tl, td, some q0), by omega, ⟨by omega, by omega⟩, fun n μ g hX ho => ?_, fun n μ cd hM => ?_⟩
        ·
          obtain ⟨_, lx, ik, tb, ts, lat, hlx, hXM, htd, hL⟩ := id hX
          dsimp only at hlx hXM htd hL
          obtain ⟨t, S, ht, rfl, hPM, hWk⟩ := hL
          exact wr_top_e4 hXM.1 ho hXM.2.1 hX (Ct.bud (by omega) (by omega) (Ct.le (show d + 7 ≤ d + 8 by omega) (ct_X_top_no3 ha1 ha2 hb1 hb2 h h2 hXM hc hPM (hWk.pc hc.1.2))))
        ·
          obtain ⟨_, hn, pc, pw, pn, bw, bk, me, cl, mt, ts, pit, pat, psz, hML, htd, hP⟩ := hM
          dsimp only at hML htd hP
          obtain ⟨rfl, rfl, rfl, hPc, hWk⟩ := hP
          exact Ct.le (show d + 1 ≤ d + 9 by omega) (Ct.post (fun o n' μ' q => by rw [i00]; exact MU.toR (pl' := some q0) hc hn htd rfl ⟨rfl, rfl, rfl, hPc, hWk⟩ q) (ct_M_top_no3 ha1 ha2 hb1 hb2 h h2 (hWk.pc hc.1.2) hPc hn hML hc))
    ·
      refine ⟨2, 0, (c, tl, td, some q0), by omega, ⟨by omega, by omega⟩, fun n μ g hX ho => ?_, fun n μ cd hM => ?_⟩
      ·
        obtain ⟨_, lx, ik, tb, ts, lat, hlx, hXM, htd, hL⟩ := id hX
        dsimp only at hlx hXM htd hL
        obtain ⟨t, S, ht, rfl, hPM, hWk⟩ := hL
        exact wr_top_e6 hXM.1 ho hXM.2.1 hX (Ct.bud (by omega) (by omega) (Ct.le (show d + 7 ≤ d + 8 by omega) (ct_X_top_no2 ha1 ha2 hb1 hb2 h hXM hc hPM (hWk.pc hc.1.2))))
      ·
        obtain ⟨_, hn, pc, pw, pn, bw, bk, me, cl, mt, ts, pit, pat, psz, hML, htd, hP⟩ := hM
        dsimp only at hML htd hP
        obtain ⟨rfl, rfl, rfl, hPc, hWk⟩ := hP
        exact Ct.le (show d + 1 ≤ d + 9 by omega) (Ct.post (fun o n' μ' q => by rw [i00]; exact MU.toR (pl' := some q0) hc hn htd rfl ⟨rfl, rfl, rfl, hPc, hWk⟩ q) (ct_M_top_no2 ha1 ha2 hb1 hb2 h (hWk.pc hc.1.2) hPc hn hML hc))
end OPS
