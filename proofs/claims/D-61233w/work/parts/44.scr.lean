/-! ===== the script; changes of the configuration ===== -/
/-- the script: L ints xs at the old address b -/
def Scr (G : Gm) (b L : Nat) (xs : Nat → Int32) : Prop := b < G.1 ∧ L ≤ 3073 ∧ ∃ scr : Cell, G.2.1[b]? = some scr ∧ scr.cls = G.2.2.2 7 ∧ (∀ k, scr.vm ≠ .statics k) ∧ scr.vm ≠ .unknown ∧ scr.slots.size = L ∧ ∀ j : Nat, j < L → scr.slots[j]? = some (.int (xs j))
section SCR
variable {G : Gm} {k : Mk} {d rc rs pc pc' n : Nat} {ls : List (Option Value)} {stk : List Value} {μ : Mem} {Q : Oc → Nat → Mem → Prop} {b L : Nat} {xs : Nat → Int32}
theorem ev_sld {j : Nat} (hS : Scr G b L xs) (hd : Dk k pc .iaload 1 pc') (hj : j < L) (kk : Ev G k d rc rs pc' ls (.int (xs j) :: stk) n μ Q) : Ev G k d rc rs pc ls (.int (nI j) :: .ref b :: stk) n μ Q := by
  obtain ⟨hd, rfl⟩ := hd
  obtain ⟨hb, hL, scr, h1, h2, h3, h4, h5, h6⟩ := hS
  intro p l e R s m args below meth c H locs cells slots mc ms Lo h
  have hC := h.1
  have hSx := hC.2.2.2.2.2.2.2.2.2.1.2
  have hH : H[b]? = some scr := (h.2.1.2.1 b hb).trans h1
  have hof : s.isArrayOf scr .int := ⟨h3, by rw [h2]; exact hSx⟩
  refine W.iald (v := .int (xs j)) hC.1 hC.2.1 hH hof h4 (by rw [h5]; exact vp_in_nI hj (by omega)) (by rw [nI_clamp (by omega)]; exact h6 j hj) rfl rfl hd ?_
  exact kk p l e R s m args below meth c H locs cells slots mc ms Lo h
theorem ev_slen (hS : Scr G b L xs) (hd : Dk k pc .arraylength 1 pc') (kk : Ev G k d rc rs pc' ls (.int (nI L) :: stk) n μ Q) : Ev G k d rc rs pc ls (.ref b :: stk) n μ Q := by
  obtain ⟨hd, rfl⟩ := hd
  obtain ⟨hb, hL, scr, h1, h2, h3, h4, h5, h6⟩ := hS
  intro p l e R s m args below meth c H locs cells slots mc ms Lo h
  have hC := h.1
  have hSx := hC.2.2.2.2.2.2.2.2.2.1.2
  have hH : H[b]? = some scr := (h.2.1.2.1 b hb).trans h1
  have hof : s.isArrayOf scr .int := ⟨h3, by rw [h2]; exact hSx⟩
  refine W.alen (n := Int32.ofNat L) hC.1 hC.2.1 hH hof (by rw [h5] <;> rfl) rfl rfl hd ?_
  exact kk p l e R s m args below meth c H locs cells slots mc ms Lo h
end SCR
section CFO
variable {c : Cf}
theorem CfOK.door (hc : CfOK c) {f w : Nat} (h : f + w ≤ c.st) : CfOK (doorC c f (f + w)) := by
  obtain ⟨h1, h2, h3, h4, h5, h6, h7, h8, h9, h10, h11, h12⟩ := hc
  refine ⟨h1, fun j hj => ?_, h3, h4, h5, h6, h7, h8, h9, h10, h11, h12⟩
  have hj : (c.fr j || (decide (f ≤ j) && decide (j < f + w))) = true := hj
  show j < c.st
  simp only [Bool.or_eq_true, Bool.and_eq_true, decide_eq_true_eq] at hj
  rcases hj with q | q
  · exact h2 j q
  · omega
theorem CfOK.pipe (hc : CfOK c) {p : Nat} (h : p < c.st) : CfOK (pipeC c p) := by
  unfold pipeC
  split
  · next hb =>
    simp only [pipeB, Bool.and_eq_true, decide_eq_true_eq] at hb
    obtain ⟨h1, h2, h3, h4, h5, h6, h7, h8, h9, h10, h11, h12⟩ := hc
    refine ⟨h1, h2, ?_, fun k hk => ?_, h5, h6, h7, h8, h9, h10, h11, h12⟩
    · show c.pn + 1 ≤ 8; omega
    · have hk : k < c.pn + 1 := hk
      show (if k = c.pn then p else c.pp k) < c.st
      split
      · exact h
      · exact h4 k (by omega)
  · exact hc
theorem CfOK.item (hc : CfOK c) {w wo ce : Nat} (hm : c.mn < 6) (hw1 : 1 ≤ w) (hw2 : w ≤ 20) (hwo : wo ≤ 100000) (hce : ce ≤ 100000) : CfOK (itemC c w wo ce) := by
  obtain ⟨h1, h2, h3, h4, h5, h6, h7, h8, h9, h10, h11, h12⟩ := hc
  refine ⟨h1, h2, h3, h4, ?_, fun k hk => ?_, h7, h8, h9, h10, h11, fun k hk => ?_⟩
  · show c.mn + 1 ≤ 6; omega
  · have hk : k < c.mn + 1 := hk
    show 1 ≤ (if k = c.mn then w else c.wd k) ∧ (if k = c.mn then w else c.wd k) ≤ 20 ∧ (if k = c.mn then wo else c.wo k) ≤ 100000 ∧ (if k = c.mn then ce else c.ce k) ≤ 100000
    by_cases e : k = c.mn
    · simp only [if_pos e]; omega
    · simp only [if_neg e]; exact h6 k (by omega)
  · have hk : c.mn + 1 ≤ k := hk
    exact h12 k (by omega)
theorem CfOK.need (hc : CfOK c) {k : Nat} {z : Int} (hk : k < c.mn) (h1' : -1 ≤ z) (h2' : z ≤ 40) : CfOK (needC c k z) := by
  obtain ⟨h1, h2, h3, h4, h5, h6, h7, h8, h9, h10, h11, h12⟩ := hc
  refine ⟨h1, h2, h3, h4, h5, h6, fun j => ?_, h8, h9, h10, h11, fun j hj => ?_⟩
  · show -1 ≤ (if j = k then z else c.nd j) ∧ (if j = k then z else c.nd j) ≤ 40
    split
    · exact ⟨h1', h2'⟩
    · exact h7 j
  · have hj : c.mn ≤ j := hj
    show (if j = k then z else c.nd j) = -1 ∧ _
    rw [if_neg (by omega)]; exact h12 j hj
theorem CfOK.must (hc : CfOK c) {k : Nat} {z : Bool} (hk : k < c.mn) : CfOK (mustC c k z) := by
  obtain ⟨h1, h2, h3, h4, h5, h6, h7, h8, h9, h10, h11, h12⟩ := hc
  refine ⟨h1, h2, h3, h4, h5, h6, h7, h8, h9, h10, h11, fun j hj => ?_⟩
  have hj : c.mn ≤ j := hj
  show c.nd j = -1 ∧ (if j = k then z else c.ms j) = false ∧ c.pu j = -101
  rw [if_neg (by omega)]; exact h12 j hj
theorem CfOK.place (hc : CfOK c) {k : Nat} {z : Int} (hk : k < c.mn) (h1' : -101 ≤ z) (h2' : z ≤ 100) : CfOK (placeC c k z) := by
  obtain ⟨h1, h2, h3, h4, h5, h6, h7, h8, h9, h10, h11, h12⟩ := hc
  refine ⟨h1, h2, h3, h4, h5, h6, h7, fun j => ?_, h9, h10, h11, fun j hj => ?_⟩
  · show -101 ≤ (if j = k then z else c.pu j) ∧ (if j = k then z else c.pu j) ≤ 100
    split
    · exact ⟨h1', h2'⟩
    · exact h8 j
  · have hj : c.mn ≤ j := hj
    show c.nd j = -1 ∧ c.ms j = false ∧ (if j = k then z else c.pu j) = -101
    rw [if_neg (by omega)]; exact h12 j hj
theorem CfOK.near (hc : CfOK c) {a b w : Nat} (hw : w ≤ 100000) : CfOK (nearC c a b w) := by
  obtain ⟨h1, h2, h3, h4, h5, h6, h7, h8, h9, h10, h11, h12⟩ := hc
  refine ⟨h1, h2, h3, h4, h5, h6, h7, h8, fun x y => ?_, h10, h11, h12⟩
  show (if (x = a ∧ y = b) ∨ (x = b ∧ y = a) then w else c.nr x y) ≤ 100000 ∧ (if (x = a ∧ y = b) ∨ (x = b ∧ y = a) then w else c.nr x y) = (if (y = a ∧ x = b) ∨ (y = b ∧ x = a) then w else c.nr y x)
  by_cases e : (x = a ∧ y = b) ∨ (x = b ∧ y = a)
  · rw [if_pos e, if_pos (by omega)]; exact ⟨hw, rfl⟩
  · rw [if_neg e, if_neg (by omega)]; exact h9 x y
theorem CfOK.bar (hc : CfOK c) {a b : Nat} : CfOK (barC c a b) := by
  obtain ⟨h1, h2, h3, h4, h5, h6, h7, h8, h9, h10, h11, h12⟩ := hc
  refine ⟨h1, h2, h3, h4, h5, h6, h7, h8, h9, fun x y => ?_, h11, h12⟩
  show (decide ((x = a ∧ y = b) ∨ (x = b ∧ y = a)) || c.br x y) = (decide ((y = a ∧ x = b) ∨ (y = b ∧ x = a)) || c.br y x)
  rw [h10 x y, show decide ((x = a ∧ y = b) ∨ (x = b ∧ y = a)) = decide ((y = a ∧ x = b) ∨ (y = b ∧ x = a)) from by rw [decide_eq_decide]; omega]
theorem CfOK.fill (hc : CfOK c) {l m : Nat} (h1' : 1 ≤ l) (h2' : l ≤ m) (h3' : m ≤ 40) : CfOK (fillC c l m) := by
  obtain ⟨h1, h2, h3, h4, h5, h6, h7, h8, h9, h10, h11, h12⟩ := hc
  exact ⟨h1, h2, h3, h4, h5, h6, h7, h8, h9, h10, ⟨h1', by show l ≤ 40; omega, h3'⟩, h12⟩
end CFO
/-- the class's answer, over the states -/
theorem XU.toR {G : Gm} {n : Nat} {μ : Mem} {v : Value} {c c' : Cf} {lx' : Nat} {ik : Nat → Nat} {tb : Nat → Int64} {tl : Nat} {ts : Nat → Int32} {td : Nat → Nat} {lat : Value} {pl : Pl} (is : Bool) (hc' : CfOK c') (hlx : LxOK c' lx') (htd : TdOK tl ts td) (hL : XL G n μ c lat pl) (e : c'.st = c.st ∧ c'.mn = c.mn) {o : Oc} {n' : Nat} {μ' : Mem}
    (h : XU G n μ v c' lx' ik tb tl ts (if is then .null else lat) o n' μ') : XR G n μ v (c', tl, td, if is then none else pl) o n' μ' := by
  obtain ⟨rfl, rfl, h3, h4⟩ := h
  refine ⟨rfl, Nat.le_refl _, ⟨hc', lx', ik, tb, ts, _, hlx, h3, htd, ?_⟩, fun t h1 h2 => h4 t h1 (Or.inl h2)⟩
  cases is with
  | true => exact rfl
  | false => exact hL.frame (Nat.le_refl _) e (fun t h1 _ h2 => h4 t (by omega) (Or.inr h2))
/-- the model's answer, over the states -/
theorem MU.toR {G : Gm} {n : Nat} {μ : Mem} {v : Value} {c' : Cf} {cd : Nat} {hp : Bool} {tl pc : Nat} {pw pn : Int64} {bw bk : Nat → Int64} {me cl mt ts pit pat psz : Nat → Int32} {td : Nat → Nat} {pl' : Pl} (hc' : CfOK c') (hn : 41 ≤ n) (htd : TdOK tl ts td) (ehp : hp = pl'.isSome) (hP : MP c' pl' pc pw pn pit pat psz) {o : Oc} {n' : Nat} {μ' : Mem}
    (h : MU G n μ (some v) (mmL G c' cd hp tl pc pw pn bw bk me cl mt ts pit pat psz) o n' μ') : MR G n μ v (c', tl, td, pl') cd o n' μ' := by
  obtain ⟨rfl, rfl, h3, h4⟩ := h
  subst ehp
  exact ⟨rfl, rfl, ⟨hc', hn, pc, pw, pn, bw, bk, me, cl, mt, ts, pit, pat, psz, h3, htd, hP⟩, h4⟩
theorem MP.is {c c' : Cf} {pl : Pl} {pc : Nat} {pw pn : Int64} {pit pat psz : Nat → Int32} (is : Bool) (h : MP c pl pc pw pn pit pat psz) (e : c'.st = c.st ∧ c'.mn = c.mn ∧ c'.wd = c.wd) : MP c' (if is then none else pl) pc pw pn pit pat psz := by
  cases is with
  | true => trivial
  | false =>
    cases pl with
    | none => trivial
    | some q =>
      obtain ⟨h1, h2, h3, h4, h5⟩ := h
      refine ⟨h1, h2, h3, ?_, ?_⟩
      · unfold MPc plF wdt at h4 ⊢; rw [e.2.2]; exact h4
      · unfold WkOK at h5 ⊢; rw [e.1, e.2.1]; exact h5
theorem is_hp (is : Bool) (pl : Pl) : (pl.isSome && !is) = (if is then none else pl : Pl).isSome := by cases is <;> cases pl <;> rfl
