/-! ===== rows ===== -/
def pbB (c : Cf) (sh : Bool) (a b : Nat) : Bool := if sh then shareB c a b else c.br a b && touchB c a b
def pbN (c : Cf) (sh : Bool) (m : Nat) : Nat := sm (fun a => sm (fun b => if pbB c sh a b then 1 else 0) a) m
def rowI (c : Cf) (a j : Nat) : Nat := sm (fun b => if touchB c a b then c.nr a b else 0) j
def rowN (c : Cf) (m : Nat) : Nat := sm (fun a => (if isputB c a then c.wo a else 0) + rowI c a a) m
def anyN (P : Nat → Bool) (m : Nat) : Bool := (List.range m).any P
theorem anyN_s (P : Nat → Bool) (i : Nat) : anyN P (i + 1) = (anyN P i || P i) := any_succ P i
theorem anyN_t {P : Nat → Bool} {m : Nat} : anyN P m = true ↔ ∃ k, k < m ∧ P k = true := by
  simp [anyN, List.any_eq_true, List.mem_range]
theorem anyN_f {P : Nat → Bool} {m : Nat} : anyN P m = false ↔ ∀ k, k < m → P k = false := by
  simp [anyN, List.any_eq_false, List.mem_range]
def onfB (c : Cf) (k : Nat) : Bool := isputB c k && !beyB c k && !opn c (c.pu k).toNat (c.wd k)
def misB (c : Cf) (k : Nat) : Bool := c.ms k && !isputB c k
def unmB (c : Cf) (k : Nat) : Bool := isputB c k && !metB c k (c.pu k)
def covB (c : Cf) (k s : Nat) : Bool := isputB c k && decide (c.pu k ≤ s) && decide ((s : Int) < c.pu k + c.wd k)
def empB (c : Cf) (s : Nat) : Bool := decide (s < c.st) && !c.fr s && !anyN (fun k => covB c k s) c.mn
def runN (c : Cf) : Nat → Nat
  | 0 => 0
  | s + 1 => if empB c s then runN c s + 1 else 0
def badR (c : Cf) (r : Nat) : Bool := decide (0 < r) && (decide (r < c.le) || decide (c.mo < r))
def gapB (c : Cf) : Nat → Bool
  | 0 => false
  | s + 1 => gapB c s || (!empB c s && badR c (runN c s))
theorem runN_le (c : Cf) : ∀ s, runN c s ≤ s
  | 0 => Nat.le_refl _
  | s + 1 => by have := runN_le c s; simp only [runN]; split <;> omega
def chkN (c : Cf) : Nat := if anyN (beyB c) c.mn then 1 else if 0 < pbN c true c.mn then 2 else if anyN (onfB c) c.mn then 3 else if anyN (misB c) c.mn then 4 else if anyN (unmB c) c.mn then 5 else if 0 < pbN c false c.mn then 6 else if gapB c (c.st + 1) then 7 else 0
section RW
variable {G : Gm} {d n : Nat} {μ : Mem} {c : Cf} {lx : Nat} {ik : Nat → Nat} {tb : Nat → Int64} {tl : Nat} {ts : Nat → Int32} {lat : Value}
theorem lp_X_pb2_true {Q : Oc → Nat → Mem → Prop} {a xx : Nat} (hX : XM G n μ c lx ik tb tl ts lat) (hc : CfOK c) (ha : a < c.mn) (hexit : Ev G k_X_pairsBroken (d + 2) 0 0 79 [some (.ref (G.1 + 0)), some (.int (b2 (true))), some (.int (nI (xx + sm (fun b => if pbB c true a b then 1 else 0) a))), some (.int (nI (a))), none] [] n μ Q) : ∀ (m b : Nat), b ≤ a → a < b + m → Ev G k_X_pairsBroken (d + 2) 0 0 15 [some (.ref (G.1 + 0)), some (.int (b2 (true))), some (.int (nI (xx + sm (fun b => if pbB c true a b then 1 else 0) b))), some (.int (nI (a))), some (.int (nI (b)))] [] n μ Q := by
  obtain ⟨hn, x0, x1, x2, x3, x4, x5, x11, x12, x18, x19, xi, xj⟩ := id hX
  obtain ⟨⟨hst1, hst2⟩, hfr, hpn, hpp, hmn, hwd, hnd, hpu, hnr, hbr, hle, hdef⟩ := id hc
  intro m
  induction m with
  | zero =>
    intro b h1 h2
    exact absurd h2 (by omega)
  | succ m ih =>
    intro b hb hbm
    refine ev_iload d_X_pairsBroken_15 rfl ?_
    refine ev_iload_n d_X_pairsBroken_17 rfl rfl ?_
    refine ev_icmp_ge d_X_pairsBroken_18 (fun c_18 => ?_) (fun c_18 => ?_)
    ·
      simp (disch := omega) only [nI_ltI, nI_leI, nI_eq, Nat.not_lt, Nat.not_le] at c_18
      have hb2 : b = a := by omega
      subst hb2
      exact Ev.fg [true, true, true, true, false] rfl hexit
    ·
      simp (disch := omega) only [nI_ltI, nI_leI, nI_eq, Nat.not_lt, Nat.not_le] at c_18
      refine ev_iload_n d_X_pairsBroken_21 rfl rfl ?_
      have hJ_71 : ∀ y : Nat, (y = if pbB c true a b then 1 else 0) → Ev G k_X_pairsBroken (d + 2) 0 0 71 [some (.ref (G.1 + 0)), some (.int (b2 (true))), some (.int (nI (xx + sm (fun b => if pbB c true a b then 1 else 0) b))), some (.int (nI (a))), some (.int (nI (b)))] [.int (nI (y)), .int (nI (xx + sm (fun b => if pbB c true a b then 1 else 0) b))] n μ Q := by
        intro y hJ
        refine ev_iadd d_X_pairsBroken_71 ?_
        refine ev_topi (w := (nI ((xx + sm (fun b => if pbB c true a b then 1 else 0) b) + y))) (nI_add _ _) ?_
        refine ev_istore_n (ls' := [_, _, _, _, _]) d_X_pairsBroken_72 rfl (by decide) rfl rfl ?_
        refine ev_iinc (v := (nI (b + 1))) (ls' := [_, _, _, _, _]) d_X_pairsBroken_73 rfl (nI_1 _) (by decide) rfl rfl ?_
        refine ev_goto d_X_pairsBroken_76 ?_
        have e : xx + sm (fun b => if pbB c true a b then 1 else 0) b + y = xx + sm (fun b => if pbB c true a b then 1 else 0) (b + 1) := by rw [hJ]; simp only [sm]; omega
        rw [e]
        exact ih (b + 1) (by omega) (by omega)
      refine ev_iload_n d_X_pairsBroken_22 rfl rfl ?_
      refine ev_if_eq d_X_pairsBroken_23 (fun c_23 => ?_) (fun c_23 => ?_)
      ·
        have c_23 := b2_f c_23
        cases c_23
      ·
        have c_23 := b2_t c_23
        refine ev_aload_n d_X_pairsBroken_26 rfl rfl ?_
        refine ev_iload_n d_X_pairsBroken_27 rfl rfl ?_
        refine ev_iload d_X_pairsBroken_28 rfl ?_
        refine cv (mc' := 0) (ms' := 0) (k' := k_X_share) (As := [.int (nI (a)), .int (nI (b))]) (stk := [.int (nI (xx + sm (fun b => if pbB c true a b then 1 else 0) b))]) d_X_pairsBroken_30 ml_X_241 kk_X_share rfl rfl (Nat.le_of_ble_eq_true rfl) (by omega) x0 rfl rfl (ct_X_share (d := d) hX hc ha (by omega)) (rd ?_)
        refine ev_if_eq d_X_pairsBroken_33 (fun c_33 => ?_) (fun c_33 => ?_)
        ·
          have c_33 := b2_f c_33
          refine ev_iconst (v := (nI (0))) d_X_pairsBroken_40 (by decide) ?_
          refine ev_goto d_X_pairsBroken_41 ?_
          exact hJ_71 0 (by simp [pbB, c_33])
        ·
          have c_33 := b2_t c_33
          refine ev_iconst (v := (nI (1))) d_X_pairsBroken_36 (by decide) ?_
          refine ev_goto d_X_pairsBroken_37 ?_
          exact hJ_71 1 (by simp [pbB, c_33])
theorem lp_X_pb3_true {Q : Oc → Nat → Mem → Prop} {a x : Nat} (h : Ev G k_X_pairsBroken (d + 2) 0 0 4 [some (.ref (G.1 + 0)), some (.int (b2 (true))), some (.int (nI (x))), some (.int (nI (a + 1))), none] [] n μ Q) : Ev G k_X_pairsBroken (d + 2) 0 0 79 [some (.ref (G.1 + 0)), some (.int (b2 (true))), some (.int (nI (x))), some (.int (nI (a))), none] [] n μ Q := by
  refine ev_iinc (v := (nI (a + 1))) (ls' := [_, _, _, _, none]) d_X_pairsBroken_79 rfl (nI_1 _) (by decide) rfl rfl ?_
  refine ev_goto d_X_pairsBroken_82 ?_
  exact h
theorem lp_X_pb1_true (hX : XM G n μ c lx ik tb tl ts lat) (hc : CfOK c) : ∀ (m : Nat) (a : Nat), a ≤ c.mn → c.mn < a + m → Ev G k_X_pairsBroken (d + 2) 0 0 4 [some (.ref (G.1 + 0)), some (.int (b2 (true))), some (.int (nI (pbN c true a))), some (.int (nI (a))), none] [] n μ ((Rd (some (.int (nI (pbN c true c.mn)))) n μ)) := by
  obtain ⟨hn, x0, x1, x2, x3, x4, x5, x11, x12, x18, x19, xi, xj⟩ := id hX
  obtain ⟨⟨hst1, hst2⟩, hfr, hpn, hpp, hmn, hwd, hnd, hpu, hnr, hbr, hle, hdef⟩ := id hc
  generalize hQ : (Rd (some (.int (nI (pbN c true c.mn)))) n μ) = Q
  intro m
  induction m with
  | zero =>
    intro a h1 h2
    exact absurd h2 (by omega)
  | succ m ih =>
    intro a hi him 
    refine ev_iload_n d_X_pairsBroken_4 rfl rfl ?_
    refine ev_aload_n d_X_pairsBroken_5 rfl rfl ?_
    refine ev_getf (kf := 5) (T := F_X) (C := R_X) (N := 14) (v := .int (nI (c.mn))) d_X_pairsBroken_6 fl_X_81 rfl i_X (by decide) (by omega) x0 rfl ?_
    refine ev_icmp_ge d_X_pairsBroken_9 (fun c_9 => ?_) (fun c_9 => ?_)
    ·
      simp (disch := omega) only [nI_ltI, nI_leI, nI_eq, Nat.not_lt, Nat.not_le] at c_9
      refine ev_iload_n d_X_pairsBroken_85 rfl rfl ?_
      refine ev_ireturn d_X_pairsBroken_86 rfl rfl ?_
      subst hQ
      have ha2 : a = c.mn := by omega
      subst ha2
      exact ⟨rfl, rfl, rfl⟩
    ·
      simp (disch := omega) only [nI_ltI, nI_leI, nI_eq, Nat.not_lt, Nat.not_le] at c_9
      refine ev_iconst (v := (nI (0))) d_X_pairsBroken_12 (by decide) ?_
      refine ev_istore (ls' := [_, _, _, _, _]) d_X_pairsBroken_13 (by decide) rfl rfl ?_
      refine lp_X_pb2_true (xx := pbN c true a) hX hc c_9 ?_ (a + 1) 0 (by omega) (by omega)
      exact lp_X_pb3_true (ih (a + 1) (by omega) (by omega))
theorem ct_X_pb_true (hX : XM G n μ c lx ik tb tl ts lat) (hc : CfOK c) : Ct G k_X_pairsBroken (d + 2) 0 0 [.ref (G.1 + 0), .int (b2 true)] n μ (Rd (some (.int (nI (pbN c true c.mn)))) n μ) := by
  refine Ct.ofp (r := 3) (ls := [some (.ref (G.1 + 0)), some (.int (b2 (true))), none, none, none]) rfl (Nat.le_of_ble_eq_true rfl) ?_
  refine ev_iconst (v := (nI (0))) d_X_pairsBroken_0 (by decide) ?_
  refine ev_istore_n (ls' := [_, _, _, none, none]) d_X_pairsBroken_1 rfl (by decide) rfl rfl ?_
  refine ev_iconst (v := (nI (0))) d_X_pairsBroken_2 (by decide) ?_
  refine ev_istore_n (ls' := [_, _, _, _, none]) d_X_pairsBroken_3 rfl (by decide) rfl rfl ?_
  exact lp_X_pb1_true hX hc (c.mn + 1) 0 (by omega) (by omega)
theorem lp_X_pb2_false {Q : Oc → Nat → Mem → Prop} {a xx : Nat} (hX : XM G n μ c lx ik tb tl ts lat) (hc : CfOK c) (ha : a < c.mn) (hexit : Ev G k_X_pairsBroken (d + 2) 0 0 79 [some (.ref (G.1 + 0)), some (.int (b2 (false))), some (.int (nI (xx + sm (fun b => if pbB c false a b then 1 else 0) a))), some (.int (nI (a))), none] [] n μ Q) : ∀ (m b : Nat), b ≤ a → a < b + m → Ev G k_X_pairsBroken (d + 2) 0 0 15 [some (.ref (G.1 + 0)), some (.int (b2 (false))), some (.int (nI (xx + sm (fun b => if pbB c false a b then 1 else 0) b))), some (.int (nI (a))), some (.int (nI (b)))] [] n μ Q := by
  obtain ⟨hn, x0, x1, x2, x3, x4, x5, x11, x12, x18, x19, xi, xj⟩ := id hX
  obtain ⟨⟨hst1, hst2⟩, hfr, hpn, hpp, hmn, hwd, hnd, hpu, hnr, hbr, hle, hdef⟩ := id hc
  intro m
  induction m with
  | zero =>
    intro b h1 h2
    exact absurd h2 (by omega)
  | succ m ih =>
    intro b hb hbm
    refine ev_iload d_X_pairsBroken_15 rfl ?_
    refine ev_iload_n d_X_pairsBroken_17 rfl rfl ?_
    refine ev_icmp_ge d_X_pairsBroken_18 (fun c_18 => ?_) (fun c_18 => ?_)
    ·
      simp (disch := omega) only [nI_ltI, nI_leI, nI_eq, Nat.not_lt, Nat.not_le] at c_18
      have hb2 : b = a := by omega
      subst hb2
      exact Ev.fg [true, true, true, true, false] rfl hexit
    ·
      simp (disch := omega) only [nI_ltI, nI_leI, nI_eq, Nat.not_lt, Nat.not_le] at c_18
      refine ev_iload_n d_X_pairsBroken_21 rfl rfl ?_
      have hJ_71 : ∀ y : Nat, (y = if pbB c false a b then 1 else 0) → Ev G k_X_pairsBroken (d + 2) 0 0 71 [some (.ref (G.1 + 0)), some (.int (b2 (false))), some (.int (nI (xx + sm (fun b => if pbB c false a b then 1 else 0) b))), some (.int (nI (a))), some (.int (nI (b)))] [.int (nI (y)), .int (nI (xx + sm (fun b => if pbB c false a b then 1 else 0) b))] n μ Q := by
        intro y hJ
        refine ev_iadd d_X_pairsBroken_71 ?_
        refine ev_topi (w := (nI ((xx + sm (fun b => if pbB c false a b then 1 else 0) b) + y))) (nI_add _ _) ?_
        refine ev_istore_n (ls' := [_, _, _, _, _]) d_X_pairsBroken_72 rfl (by decide) rfl rfl ?_
        refine ev_iinc (v := (nI (b + 1))) (ls' := [_, _, _, _, _]) d_X_pairsBroken_73 rfl (nI_1 _) (by decide) rfl rfl ?_
        refine ev_goto d_X_pairsBroken_76 ?_
        have e : xx + sm (fun b => if pbB c false a b then 1 else 0) b + y = xx + sm (fun b => if pbB c false a b then 1 else 0) (b + 1) := by rw [hJ]; simp only [sm]; omega
        rw [e]
        exact ih (b + 1) (by omega) (by omega)
      refine ev_iload_n d_X_pairsBroken_22 rfl rfl ?_
      refine ev_if_eq d_X_pairsBroken_23 (fun c_23 => ?_) (fun c_23 => ?_)
      ·
        have c_23 := b2_f c_23
        refine ev_aload_n d_X_pairsBroken_44 rfl rfl ?_
        refine ev_getf (kf := 7) (T := F_X) (C := R_X) (N := 14) (v := .ref (G.1 + 11)) d_X_pairsBroken_45 fl_X_30 rfl i_X (by decide) (by omega) x0 rfl ?_
        refine ev_iload_n d_X_pairsBroken_48 rfl rfl ?_
        refine ev_aald (j := a) d_X_pairsBroken_49 (by omega) x11 (by decide) (by omega) (by decide) ?_
        refine ev_top (w := .ref (G.1 + (12 + a))) (row_ref _ 11 (by omega)) ?_
        refine ev_iload d_X_pairsBroken_50 rfl ?_
        refine ev_zald (j := b) d_X_pairsBroken_52 (by omega) (x12 a (by omega)) (by omega) (by decide) ?_
        refine ev_if_eq d_X_pairsBroken_53 (fun c_53 => ?_) (fun c_53 => ?_)
        ·
          have c_53 := b2_f c_53
          refine ev_iconst (v := (nI (0))) d_X_pairsBroken_70 (by decide) ?_
          exact hJ_71 0 (by simp [pbB, c_53])
        ·
          have c_53 := b2_t c_53
          refine ev_aload_n d_X_pairsBroken_56 rfl rfl ?_
          refine ev_iload_n d_X_pairsBroken_57 rfl rfl ?_
          refine ev_iload d_X_pairsBroken_58 rfl ?_
          refine cv (mc' := 0) (ms' := 0) (k' := k_X_touches) (As := [.int (nI (a)), .int (nI (b))]) (stk := [.int (nI (xx + sm (fun b => if pbB c false a b then 1 else 0) b))]) d_X_pairsBroken_60 ml_X_244 kk_X_touches rfl rfl (Nat.le_of_ble_eq_true rfl) (by omega) x0 rfl rfl (ct_X_touches (d := d) hX hc ha (by omega)) (rd ?_)
          refine ev_if_eq d_X_pairsBroken_63 (fun c_63 => ?_) (fun c_63 => ?_)
          ·
            have c_63 := b2_f c_63
            refine ev_iconst (v := (nI (0))) d_X_pairsBroken_70 (by decide) ?_
            exact hJ_71 0 (by simp [pbB, c_53, c_63])
          ·
            have c_63 := b2_t c_63
            refine ev_iconst (v := (nI (1))) d_X_pairsBroken_66 (by decide) ?_
            refine ev_goto d_X_pairsBroken_67 ?_
            exact hJ_71 1 (by simp [pbB, c_53, c_63])
      ·
        have c_23 := b2_t c_23
        cases c_23
theorem lp_X_pb3_false {Q : Oc → Nat → Mem → Prop} {a x : Nat} (h : Ev G k_X_pairsBroken (d + 2) 0 0 4 [some (.ref (G.1 + 0)), some (.int (b2 (false))), some (.int (nI (x))), some (.int (nI (a + 1))), none] [] n μ Q) : Ev G k_X_pairsBroken (d + 2) 0 0 79 [some (.ref (G.1 + 0)), some (.int (b2 (false))), some (.int (nI (x))), some (.int (nI (a))), none] [] n μ Q := by
  refine ev_iinc (v := (nI (a + 1))) (ls' := [_, _, _, _, none]) d_X_pairsBroken_79 rfl (nI_1 _) (by decide) rfl rfl ?_
  refine ev_goto d_X_pairsBroken_82 ?_
  exact h
theorem lp_X_pb1_false (hX : XM G n μ c lx ik tb tl ts lat) (hc : CfOK c) : ∀ (m : Nat) (a : Nat), a ≤ c.mn → c.mn < a + m → Ev G k_X_pairsBroken (d + 2) 0 0 4 [some (.ref (G.1 + 0)), some (.int (b2 (false))), some (.int (nI (pbN c false a))), some (.int (nI (a))), none] [] n μ ((Rd (some (.int (nI (pbN c false c.mn)))) n μ)) := by
  obtain ⟨hn, x0, x1, x2, x3, x4, x5, x11, x12, x18, x19, xi, xj⟩ := id hX
  obtain ⟨⟨hst1, hst2⟩, hfr, hpn, hpp, hmn, hwd, hnd, hpu, hnr, hbr, hle, hdef⟩ := id hc
  generalize hQ : (Rd (some (.int (nI (pbN c false c.mn)))) n μ) = Q
  intro m
  induction m with
  | zero =>
    intro a h1 h2
    exact absurd h2 (by omega)
  | succ m ih =>
    intro a hi him 
    refine ev_iload_n d_X_pairsBroken_4 rfl rfl ?_
    refine ev_aload_n d_X_pairsBroken_5 rfl rfl ?_
    refine ev_getf (kf := 5) (T := F_X) (C := R_X) (N := 14) (v := .int (nI (c.mn))) d_X_pairsBroken_6 fl_X_81 rfl i_X (by decide) (by omega) x0 rfl ?_
    refine ev_icmp_ge d_X_pairsBroken_9 (fun c_9 => ?_) (fun c_9 => ?_)
    ·
      simp (disch := omega) only [nI_ltI, nI_leI, nI_eq, Nat.not_lt, Nat.not_le] at c_9
      refine ev_iload_n d_X_pairsBroken_85 rfl rfl ?_
      refine ev_ireturn d_X_pairsBroken_86 rfl rfl ?_
      subst hQ
      have ha2 : a = c.mn := by omega
      subst ha2
      exact ⟨rfl, rfl, rfl⟩
    ·
      simp (disch := omega) only [nI_ltI, nI_leI, nI_eq, Nat.not_lt, Nat.not_le] at c_9
      refine ev_iconst (v := (nI (0))) d_X_pairsBroken_12 (by decide) ?_
      refine ev_istore (ls' := [_, _, _, _, _]) d_X_pairsBroken_13 (by decide) rfl rfl ?_
      refine lp_X_pb2_false (xx := pbN c false a) hX hc c_9 ?_ (a + 1) 0 (by omega) (by omega)
      exact lp_X_pb3_false (ih (a + 1) (by omega) (by omega))
theorem ct_X_pb_false (hX : XM G n μ c lx ik tb tl ts lat) (hc : CfOK c) : Ct G k_X_pairsBroken (d + 2) 0 0 [.ref (G.1 + 0), .int (b2 false)] n μ (Rd (some (.int (nI (pbN c false c.mn)))) n μ) := by
  refine Ct.ofp (r := 3) (ls := [some (.ref (G.1 + 0)), some (.int (b2 (false))), none, none, none]) rfl (Nat.le_of_ble_eq_true rfl) ?_
  refine ev_iconst (v := (nI (0))) d_X_pairsBroken_0 (by decide) ?_
  refine ev_istore_n (ls' := [_, _, _, none, none]) d_X_pairsBroken_1 rfl (by decide) rfl rfl ?_
  refine ev_iconst (v := (nI (0))) d_X_pairsBroken_2 (by decide) ?_
  refine ev_istore_n (ls' := [_, _, _, _, none]) d_X_pairsBroken_3 rfl (by decide) rfl rfl ?_
  exact lp_X_pb1_false hX hc (c.mn + 1) 0 (by omega) (by omega)
theorem lp_X_row2 {Q : Oc → Nat → Mem → Prop} {a xx : Nat} (hX : XM G n μ c lx ik tb tl ts lat) (hc : CfOK c) (ha : a < c.mn) (hexit : Ev G k_X_row (d + 2) 0 0 77 [some (.ref (G.1 + 0)), some (.long (lN (xx + rowI c a a))), none, some (.int (nI (a))), none] [] n μ Q) : ∀ (m b : Nat), b ≤ a → a < b + m → Ev G k_X_row (d + 2) 0 0 39 [some (.ref (G.1 + 0)), some (.long (lN (xx + rowI c a b))), none, some (.int (nI (a))), some (.int (nI (b)))] [] n μ Q := by
  obtain ⟨hn, x0, x1, x2, x3, x4, x5, x11, x12, x18, x19, xi, xj⟩ := id hX
  obtain ⟨⟨hst1, hst2⟩, hfr, hpn, hpp, hmn, hwd, hnd, hpu, hnr, hbr, hle, hdef⟩ := id hc
  intro m
  induction m with
  | zero =>
    intro b h1 h2
    exact absurd h2 (by omega)
  | succ m ih =>
    intro b hb hbm
    refine ev_iload d_X_row_39 rfl ?_
    refine ev_iload_n d_X_row_41 rfl rfl ?_
    refine ev_icmp_ge d_X_row_42 (fun c_42 => ?_) (fun c_42 => ?_)
    ·
      simp (disch := omega) only [nI_ltI, nI_leI, nI_eq, Nat.not_lt, Nat.not_le] at c_42
      have hb2 : b = a := by omega
      subst hb2
      exact Ev.fg [true, true, false, true, false] rfl hexit
    ·
      simp (disch := omega) only [nI_ltI, nI_leI, nI_eq, Nat.not_lt, Nat.not_le] at c_42
      refine ev_lload_n d_X_row_45 rfl rfl ?_
      have hJ_69 : ∀ y : Nat, (y = if touchB c a b then c.nr a b else 0) → Ev G k_X_row (d + 2) 0 0 69 [some (.ref (G.1 + 0)), some (.long (lN (xx + rowI c a b))), none, some (.int (nI (a))), some (.int (nI (b)))] [.long (lN (y)), .long (lN (xx + rowI c a b))] n μ Q := by
        intro y hJ
        refine ev_ladd d_X_row_69 ?_
        refine ev_topl (w := (lN ((xx + rowI c a b) + y))) (lN_add _ _) ?_
        refine ev_lstore_n (ls' := [_, _, none, _, _]) d_X_row_70 rfl (by decide) rfl rfl ?_
        refine ev_iinc (v := (nI (b + 1))) (ls' := [_, _, none, _, _]) d_X_row_71 rfl (nI_1 _) (by decide) rfl rfl ?_
        refine ev_goto d_X_row_74 ?_
        have e : xx + rowI c a b + y = xx + rowI c a (b + 1) := by rw [hJ]; simp only [rowI, sm]; omega
        rw [e]
        exact ih (b + 1) (by omega) (by omega)
      refine ev_aload_n d_X_row_46 rfl rfl ?_
      refine ev_iload_n d_X_row_47 rfl rfl ?_
      refine ev_iload d_X_row_48 rfl ?_
      refine cv (mc' := 0) (ms' := 0) (k' := k_X_touches) (As := [.int (nI (a)), .int (nI (b))]) (stk := [.long (lN (xx + rowI c a b))]) d_X_row_50 ml_X_244 kk_X_touches rfl rfl (Nat.le_of_ble_eq_true rfl) (by omega) x0 rfl rfl (ct_X_touches (d := d) hX hc ha (by omega)) (rd ?_)
      refine ev_if_eq d_X_row_53 (fun c_53 => ?_) (fun c_53 => ?_)
      ·
        have c_53 := b2_f c_53
        refine ev_lconst (v := lN 0) d_X_row_68 (by decide) ?_
        exact hJ_69 (0) (by rw [c_53]; rfl)
      ·
        have c_53 := b2_t c_53
        refine ev_aload_n d_X_row_56 rfl rfl ?_
        refine ev_getf (kf := 6) (T := F_X) (C := R_X) (N := 14) (v := .ref (G.1 + 4)) d_X_row_57 fl_X_25 rfl i_X (by decide) (by omega) x0 rfl ?_
        refine ev_iload_n d_X_row_60 rfl rfl ?_
        refine ev_aald (j := a) d_X_row_61 (by omega) x4 (by decide) (by omega) (by decide) ?_
        refine ev_top (w := .ref (G.1 + (5 + a))) (row_ref _ 4 (by omega)) ?_
        refine ev_iload d_X_row_62 rfl ?_
        refine ev_lald (j := b) d_X_row_64 (by omega) (x5 a (by omega)) (by omega) (by decide) ?_
        refine ev_goto d_X_row_65 ?_
        exact hJ_69 (c.nr a b) (by rw [c_53]; rfl)
theorem lp_X_row3 {Q : Oc → Nat → Mem → Prop} {a x : Nat} (h : Ev G k_X_row (d + 2) 0 0 4 [some (.ref (G.1 + 0)), some (.long (lN (x))), none, some (.int (nI (a + 1))), none] [] n μ Q) : Ev G k_X_row (d + 2) 0 0 77 [some (.ref (G.1 + 0)), some (.long (lN (x))), none, some (.int (nI (a))), none] [] n μ Q := by
  refine ev_iinc (v := (nI (a + 1))) (ls' := [_, _, none, _, none]) d_X_row_77 rfl (nI_1 _) (by decide) rfl rfl ?_
  refine ev_goto d_X_row_80 ?_
  exact h
theorem lp_X_row1 (hX : XM G n μ c lx ik tb tl ts lat) (hc : CfOK c) : ∀ (m : Nat) (a : Nat), a ≤ c.mn → c.mn < a + m → Ev G k_X_row (d + 2) 0 0 4 [some (.ref (G.1 + 0)), some (.long (lN (rowN c a))), none, some (.int (nI (a))), none] [] n μ ((Rd (some (.long (lN (rowN c c.mn)))) n μ)) := by
  obtain ⟨hn, x0, x1, x2, x3, x4, x5, x11, x12, x18, x19, xi, xj⟩ := id hX
  obtain ⟨⟨hst1, hst2⟩, hfr, hpn, hpp, hmn, hwd, hnd, hpu, hnr, hbr, hle, hdef⟩ := id hc
  generalize hQ : (Rd (some (.long (lN (rowN c c.mn)))) n μ) = Q
  intro m
  induction m with
  | zero =>
    intro a h1 h2
    exact absurd h2 (by omega)
  | succ m ih =>
    intro a hi him 
    refine ev_iload_n d_X_row_4 rfl rfl ?_
    refine ev_aload_n d_X_row_5 rfl rfl ?_
    refine ev_getf (kf := 5) (T := F_X) (C := R_X) (N := 14) (v := .int (nI (c.mn))) d_X_row_6 fl_X_81 rfl i_X (by decide) (by omega) x0 rfl ?_
    refine ev_icmp_ge d_X_row_9 (fun c_9 => ?_) (fun c_9 => ?_)
    ·
      simp (disch := omega) only [nI_ltI, nI_leI, nI_eq, Nat.not_lt, Nat.not_le] at c_9
      refine ev_lload_n d_X_row_83 rfl rfl ?_
      refine ev_lreturn d_X_row_84 rfl ?_
      subst hQ
      have ha2 : a = c.mn := by omega
      subst ha2
      exact ⟨rfl, rfl, rfl⟩
    ·
      simp (disch := omega) only [nI_ltI, nI_leI, nI_eq, Nat.not_lt, Nat.not_le] at c_9
      refine ev_lload_n d_X_row_12 rfl rfl ?_
      have hJ_34 : ∀ y : Nat, (y = if isputB c a then c.wo a else 0) → Ev G k_X_row (d + 2) 0 0 34 [some (.ref (G.1 + 0)), some (.long (lN (rowN c a))), none, some (.int (nI (a))), none] [.long (lN (y)), .long (lN (rowN c a))] n μ Q := by
        intro y hJ
        refine ev_ladd d_X_row_34 ?_
        refine ev_topl (w := (lN ((rowN c a) + y))) (lN_add _ _) ?_
        refine ev_lstore_n (ls' := [_, _, none, _, none]) d_X_row_35 rfl (by decide) rfl rfl ?_
        refine ev_iconst (v := (nI (0))) d_X_row_36 (by decide) ?_
        refine ev_istore (ls' := [_, _, none, _, _]) d_X_row_37 (by decide) rfl rfl ?_
        refine lp_X_row2 (xx := rowN c a + y) hX hc c_9 ?_ (a + 1) 0 (by omega) (by omega)
        have e : rowN c a + y + rowI c a a = rowN c (a + 1) := by rw [hJ]; simp only [rowN, sm]; omega
        rw [e]
        exact lp_X_row3 (ih (a + 1) (by omega) (by omega))
      refine ev_aload_n d_X_row_13 rfl rfl ?_
      refine ev_iload_n d_X_row_14 rfl rfl ?_
      refine cv (mc' := 0) (ms' := 0) (k' := k_X_isPut) (As := [.int (nI (a))]) (stk := [.long (lN (rowN c a))]) d_X_row_15 ml_X_238 kk_X_isPut rfl rfl (Nat.le_of_ble_eq_true rfl) (by omega) x0 rfl rfl (ct_X_isPut (d := d + 1) hX hc c_9) (rd ?_)
      refine ev_if_eq d_X_row_18 (fun c_18 => ?_) (fun c_18 => ?_)
      ·
        have c_18 := b2_f c_18
        refine ev_lconst (v := lN 0) d_X_row_33 (by decide) ?_
        exact hJ_34 (0) (by rw [c_18]; rfl)
      ·
        have c_18 := b2_t c_18
        refine ev_aload_n d_X_row_21 rfl rfl ?_
        refine ev_getf (kf := 4) (T := F_X) (C := R_X) (N := 14) (v := .ref (G.1 + 3)) d_X_row_22 fl_X_19 rfl i_X (by decide) (by omega) x0 rfl ?_
        refine ev_iload_n d_X_row_25 rfl rfl ?_
        refine ev_aald (j := a) d_X_row_26 (by omega) x3 (by decide) (by omega) (by decide) ?_
        refine ev_top (w := .ref (G.1 + ik a)) (by rw [if_pos c_9]; rfl) ?_
        refine ev_getN (kf := 1) (T := F_I) (C := R_I) (N := 6) (v := .long (lN (c.wo a))) d_X_row_27 fl_X_137 rfl i_I (by decide) (xi a c_9).2.1 (xi a c_9).2.2 rfl ?_
        refine ev_goto d_X_row_30 ?_
        exact hJ_34 (c.wo a) (by rw [c_18]; rfl)
theorem ct_X_row (hX : XM G n μ c lx ik tb tl ts lat) (hc : CfOK c) : Ct G k_X_row (d + 2) 0 0 [.ref (G.1 + 0)] n μ (Rd (some (.long (lN (rowN c c.mn)))) n μ) := by
  refine Ct.ofp (r := 4) (ls := [some (.ref (G.1 + 0)), none, none, none, none]) rfl (Nat.le_of_ble_eq_true rfl) ?_
  refine ev_lconst (v := lN 0) d_X_row_0 (by decide) ?_
  refine ev_lstore_n (ls' := [_, _, none, none, none]) d_X_row_1 rfl (by decide) rfl rfl ?_
  refine ev_iconst (v := (nI (0))) d_X_row_2 (by decide) ?_
  refine ev_istore_n (ls' := [_, _, none, _, none]) d_X_row_3 rfl (by decide) rfl rfl ?_
  exact lp_X_row1 hX hc (c.mn + 1) 0 (by omega) (by omega)
theorem lp_X_full3 {Q : Oc → Nat → Mem → Prop} {k : Nat} (hX : XM G n μ c lx ik tb tl ts lat) (hc : CfOK c) (hby : ∀ k, k < c.mn → isputB c k = true → 0 ≤ c.pu k ∧ c.pu k + c.wd k ≤ c.st) (hk : k < c.mn) {tk0 : Nat → Bool} (hexit : ∀ ν, (∀ t, t < n → ν t = μ t) → ν n = aZ (c.st + 1) (fun j => b2 (tk0 j || covB c k j)) → Ev G k_X_isFull (d + 1) 0 0 62 [some (.ref (G.1 + 0)), some (.ref (G.1 + n)), some (.int (nI (k))), none, none] [] (n + 1) ν Q) : ∀ (m i : Nat) (ν : Mem), i ≤ c.wd k → c.wd k < i + m → (∀ t, t < n → ν t = μ t) → ν n = aZ (c.st + 1) (fun j => b2 (tk0 j || (isputB c k && decide (c.pu k ≤ j) && decide ((j : Int) < c.pu k + i)))) → Ev G k_X_isFull (d + 1) 0 0 21 [some (.ref (G.1 + 0)), some (.ref (G.1 + n)), some (.int (nI (k))), some (.int (nI (i))), none] [] (n + 1) ν Q := by
  intro m
  induction m with
  | zero =>
    intro i ν h1 h2
    exact absurd h2 (by omega)
  | succ m ih =>
    intro i ν hi him hff htk
    have hXv : XM G (n + 1) ν c lx ik tb tl ts lat := hX.frame (by omega) (fun t ht _ => hff t ht)
    obtain ⟨hn, x0, x1, x2, x3, x4, x5, x11, x12, x18, x19, xi, xj⟩ := id hXv
    obtain ⟨⟨hst1, hst2⟩, hfr, hpn, hpp, hmn, hwd, hnd, hpu, hnr, hbr, hle, hdef⟩ := id hc
    have hwk := hwd k hk
    have hpk := hpu k
    refine ev_aload_n d_X_isFull_21 rfl rfl ?_
    refine ev_iload_n d_X_isFull_22 rfl rfl ?_
    refine cv (mc' := 0) (ms' := 0) (k' := k_X_isPut) (As := [.int (nI (k))]) (stk := []) d_X_isFull_23 ml_X_238 kk_X_isPut rfl rfl (Nat.le_of_ble_eq_true rfl) (by omega) x0 rfl rfl (ct_X_isPut (d := d) hXv hc hk) (rd ?_)
    refine ev_if_eq d_X_isFull_26 (fun c_26 => ?_) (fun c_26 => ?_)
    ·
      have c_26 := b2_f c_26
      refine Ev.fg [true, true, true, false, false] rfl (hexit ν hff ?_)
      rw [htk]
      congr 4
      funext j
      congr 2
      unfold covB
      rw [c_26]; rfl
    ·
      have c_26 := b2_t c_26
      have hbk := hby k hk c_26
      refine ev_iload_n d_X_isFull_29 rfl rfl ?_
      refine ev_aload_n d_X_isFull_30 rfl rfl ?_
      refine ev_getf (kf := 4) (T := F_X) (C := R_X) (N := 14) (v := .ref (G.1 + 3)) d_X_isFull_31 fl_X_19 rfl i_X (by decide) (by omega) x0 rfl ?_
      refine ev_iload_n d_X_isFull_34 rfl rfl ?_
      refine ev_aald (j := k) d_X_isFull_35 (by omega) x3 (by decide) (by omega) (by omega) ?_
      refine ev_top (w := .ref (G.1 + ik k)) (by rw [if_pos hk]; rfl) ?_
      refine ev_getN (kf := 0) (T := F_I) (C := R_I) (N := 6) (v := .int (nI (c.wd k))) d_X_isFull_36 fl_X_122 rfl i_I (by decide) (xi k hk).2.1 (xi k hk).2.2 rfl ?_
      refine ev_icmp_ge d_X_isFull_39 (fun c_39 => ?_) (fun c_39 => ?_)
      ·
        simp (disch := omega) only [nI_ltI, nI_leI, nI_eq, Nat.not_lt, Nat.not_le] at c_39
        refine Ev.fg [true, true, true, false, false] rfl (hexit ν hff ?_)
        rw [htk]
        congr 4
        funext j
        congr 2
        unfold covB
        rw [show i = c.wd k by omega]
      ·
        simp (disch := omega) only [nI_ltI, nI_leI, nI_eq, Nat.not_lt, Nat.not_le] at c_39
        refine ev_aload_n d_X_isFull_42 rfl rfl ?_
        refine ev_aload_n d_X_isFull_43 rfl rfl ?_
        refine ev_getf (kf := 4) (T := F_X) (C := R_X) (N := 14) (v := .ref (G.1 + 3)) d_X_isFull_44 fl_X_19 rfl i_X (by decide) (by omega) x0 rfl ?_
        refine ev_iload_n d_X_isFull_47 rfl rfl ?_
        refine ev_aald (j := k) d_X_isFull_48 (by omega) x3 (by decide) (by omega) (by omega) ?_
        refine ev_top (w := .ref (G.1 + ik k)) (by rw [if_pos hk]; rfl) ?_
        refine ev_getN (kf := 5) (T := F_I) (C := R_I) (N := 6) (v := .int (iI (c.pu k))) d_X_isFull_49 fl_X_235 rfl i_I (by decide) (xi k hk).2.1 (xi k hk).2.2 rfl ?_
        refine ev_iload_n d_X_isFull_52 rfl rfl ?_
        refine ev_iadd d_X_isFull_53 ?_
        refine ev_topi (w := (nI ((c.pu k + i).toNat))) (by rw [nI_iI, nI_iI, iI_add]; congr 1; omega) ?_
        refine ev_iconst (v := (nI (1))) d_X_isFull_54 (by decide) ?_
        refine ev_zast (j := (c.pu k + i).toNat) d_X_isFull_55 (by omega) htk rfl (by omega) (by omega) ?_
        refine ev_iinc (v := (nI (i + 1))) (ls' := [_, _, _, _, none]) d_X_isFull_56 rfl (nI_1 _) (by decide) rfl rfl ?_
        refine ev_goto d_X_isFull_59 ?_
        refine ih (i + 1) _ (by omega) (by omega) (fun t ht => (mset_ne _ _ (by omega)).trans (hff t ht)) ?_
        rw [mset_eq, show nI 1 = b2 true from rfl, upd_b2]
        congr 4
        funext j
        congr 1
        by_cases e : j = (c.pu k + i).toNat
        · rw [if_pos e, c_26]
          have : decide (c.pu k ≤ j) = true := decide_eq_true (by omega)
          have h2 : decide ((j : Int) < c.pu k + ((i + 1 : Nat) : Int)) = true := decide_eq_true (by omega)
          rw [this, h2]; simp
        · rw [if_neg e]
          congr 1
          by_cases h0 : c.pu k ≤ j
          · congr 1
            rw [decide_eq_decide]; omega
          · rw [decide_eq_false h0]; simp
theorem lp_X_full2b {Q : Oc → Nat → Mem → Prop} {k : Nat} {ν : Mem} (h : Ev G k_X_isFull (d + 1) 0 0 11 [some (.ref (G.1 + 0)), some (.ref (G.1 + n)), some (.int (nI (k + 1))), none, none] [] (n + 1) ν Q) : Ev G k_X_isFull (d + 1) 0 0 62 [some (.ref (G.1 + 0)), some (.ref (G.1 + n)), some (.int (nI (k))), none, none] [] (n + 1) ν Q := by
  refine ev_iinc (v := (nI (k + 1))) (ls' := [_, _, _, none, none]) d_X_isFull_62 rfl (nI_1 _) (by decide) rfl rfl ?_
  refine ev_goto d_X_isFull_65 ?_
  exact h
theorem lp_X_full2 {Q : Oc → Nat → Mem → Prop} (hX : XM G n μ c lx ik tb tl ts lat) (hc : CfOK c) (hby : ∀ k, k < c.mn → isputB c k = true → 0 ≤ c.pu k ∧ c.pu k + c.wd k ≤ c.st) (hexit : ∀ ν, (∀ t, t < n → ν t = μ t) → ν n = aZ (c.st + 1) (fun j => b2 (anyN (fun k => covB c k j) c.mn)) → Ev G k_X_isFull (d + 1) 0 0 68 [some (.ref (G.1 + 0)), some (.ref (G.1 + n)), none, none, none] [] (n + 1) ν Q) : ∀ (m k : Nat) (ν : Mem), k ≤ c.mn → c.mn < k + m → (∀ t, t < n → ν t = μ t) → ν n = aZ (c.st + 1) (fun j => b2 (anyN (fun k => covB c k j) k)) → Ev G k_X_isFull (d + 1) 0 0 11 [some (.ref (G.1 + 0)), some (.ref (G.1 + n)), some (.int (nI (k))), none, none] [] (n + 1) ν Q := by
  intro m
  induction m with
  | zero =>
    intro k ν h1 h2
    exact absurd h2 (by omega)
  | succ m ih =>
    intro k ν hi him hff htk
    have hXv : XM G (n + 1) ν c lx ik tb tl ts lat := hX.frame (by omega) (fun t ht _ => hff t ht)
    obtain ⟨hn, x0, x1, x2, x3, x4, x5, x11, x12, x18, x19, xi, xj⟩ := id hXv
    obtain ⟨⟨hst1, hst2⟩, hfr, hpn, hpp, hmn, hwd, hnd, hpu, hnr, hbr, hle, hdef⟩ := id hc
    refine ev_iload_n d_X_isFull_11 rfl rfl ?_
    refine ev_aload_n d_X_isFull_12 rfl rfl ?_
    refine ev_getf (kf := 5) (T := F_X) (C := R_X) (N := 14) (v := .int (nI (c.mn))) d_X_isFull_13 fl_X_81 rfl i_X (by decide) (by omega) x0 rfl ?_
    refine ev_icmp_ge d_X_isFull_16 (fun c_16 => ?_) (fun c_16 => ?_)
    ·
      simp (disch := omega) only [nI_ltI, nI_leI, nI_eq, Nat.not_lt, Nat.not_le] at c_16
      have hk2 : k = c.mn := by omega
      subst hk2
      exact Ev.fg [true, true, false, false, false] rfl (hexit ν hff htk)
    ·
      simp (disch := omega) only [nI_ltI, nI_leI, nI_eq, Nat.not_lt, Nat.not_le] at c_16
      refine ev_iconst (v := (nI (0))) d_X_isFull_19 (by decide) ?_
      refine ev_istore_n (ls' := [_, _, _, _, none]) d_X_isFull_20 rfl (by decide) rfl rfl ?_
      refine lp_X_full3 hX hc hby c_16 (fun ν hff htk => ?_) (c.wd k + 1) 0 ν (by omega) (by omega) hff (tk0 := fun j => anyN (fun k => covB c k j) k) ?_
      · refine lp_X_full2b (ih (k + 1) ν (by omega) (by omega) hff ?_)
        rw [htk]
        congr 4
        funext j
        rw [anyN_s]
      · rw [htk]
        congr 4
        funext j
        congr 1
        have : (decide (c.pu k ≤ j) && decide ((j : Int) < c.pu k + ((0 : Nat) : Int))) = false := by
          rw [Bool.and_eq_false_iff, decide_eq_false_iff_not, decide_eq_false_iff_not]; omega
        rw [Bool.and_assoc, this]; simp
theorem lp_X_full1 (hX : XM G n μ c lx ik tb tl ts lat) (hc : CfOK c) (hlx : LxOK c lx) {ν : Mem} (hff : ∀ t, t < n → ν t = μ t) (htk : ν n = aZ (c.st + 1) (fun j => b2 (if j = c.st then true else anyN (fun k => covB c k j) c.mn))) : ∀ (m s : Nat), s ≤ c.st + 1 → c.st + 1 < s + m → Ev G k_X_isFull (d + 1) 0 0 82 [some (.ref (G.1 + 0)), some (.ref (G.1 + n)), some (.int (b2 (!gapB c s))), some (.int (nI (runN c s))), some (.int (nI (s)))] [] (n + 1) ν (fun (o : Oc) (n' : Nat) (μ' : Mem) => o = .inl (some (.int (b2 (!gapB c (c.st + 1))))) ∧ n' = n + 1 ∧ ∀ t, t < n → μ' t = μ t) := by
  generalize hQ : (fun (o : Oc) (n' : Nat) (μ' : Mem) => o = .inl (some (.int (b2 (!gapB c (c.st + 1))))) ∧ n' = n + 1 ∧ ∀ t, t < n → μ' t = μ t) = Q
  have hXv : XM G (n + 1) ν c lx ik tb tl ts lat := hX.frame (by omega) (fun t ht _ => hff t ht)
  obtain ⟨hn, x0, x1, x2, x3, x4, x5, x11, x12, x18, x19, xi, xj⟩ := id hXv
  obtain ⟨⟨hst1, hst2⟩, hfr, hpn, hpp, hmn, hwd, hnd, hpu, hnr, hbr, hle, hdef⟩ := id hc
  intro m
  induction m with
  | zero =>
    intro s h1 h2
    exact absurd h2 (by omega)
  | succ m ih =>
    intro s hs hsm
    have hr := runN_le c s
    refine ev_iload d_X_isFull_82 rfl ?_
    refine ev_aload_n d_X_isFull_84 rfl rfl ?_
    refine ev_getf (kf := 0) (T := F_X) (C := R_X) (N := 14) (v := .int (nI (c.st))) d_X_isFull_85 fl_X_50 rfl i_X (by decide) (by omega) x0 rfl ?_
    refine ev_icmp_gt d_X_isFull_88 (fun c_88 => ?_) (fun c_88 => ?_)
    ·
      simp (disch := omega) only [nI_ltI, nI_leI, nI_eq, Nat.not_lt, Nat.not_le] at c_88
      refine ev_iload_n d_X_isFull_150 rfl rfl ?_
      refine ev_ireturn d_X_isFull_151 rfl (b2_nar _) ?_
      subst hQ
      have hs2 : s = c.st + 1 := by omega
      subst hs2
      exact ⟨rfl, rfl, hff⟩
    ·
      simp (disch := omega) only [nI_ltI, nI_leI, nI_eq, Nat.not_lt, Nat.not_le] at c_88
      have hlx9 : lx ≤ 40 := by rcases hlx with q | q <;> omega
      refine ev_aload_n d_X_isFull_91 rfl rfl ?_
      refine ev_iload d_X_isFull_92 rfl ?_
      refine ev_zald (j := s) d_X_isFull_94 (by omega) htk (by omega) (by omega) ?_
      refine ev_if_ne d_X_isFull_95 (fun c_95 => ?_) (fun c_95 => ?_)
      ·
        have c_95 := b2_t c_95
        refine ev_iload_n d_X_isFull_114 rfl rfl ?_
        have hJ_140 : ∀ y : Bool, y = !badR c (runN c s) → Ev G k_X_isFull (d + 1) 0 0 140 [some (.ref (G.1 + 0)), some (.ref (G.1 + n)), some (.int (b2 (!gapB c s))), some (.int (nI (runN c s))), some (.int (nI (s)))] [.int (b2 (y)), .int (b2 (!gapB c s))] (n + 1) ν Q := by
          intro y hJ
          refine ev_iand d_X_isFull_140 ?_
          refine ev_topi (w := (b2 (!gapB c s && y))) (b2_and _ _) ?_
          refine ev_istore_n (ls' := [_, _, _, _, _]) d_X_isFull_141 rfl (by decide) rfl rfl ?_
          refine ev_iconst (v := (nI (0))) d_X_isFull_142 (by decide) ?_
          refine ev_istore_n (ls' := [_, _, _, _, _]) d_X_isFull_143 rfl (by decide) rfl rfl ?_
          refine ev_iinc (v := (nI (s + 1))) (ls' := [_, _, _, _, _]) d_X_isFull_144 rfl (nI_1 _) (by decide) rfl rfl ?_
          refine ev_goto d_X_isFull_147 ?_
          have he : empB c s = false := by
            unfold empB
            by_cases q : s = c.st
            · rw [decide_eq_false (by omega)]; rfl
            · rw [if_neg q] at c_95
              rw [c_95]; simp
          have e1 : (!gapB c s && y) = !gapB c (s + 1) := by rw [hJ]; simp only [gapB]; rw [he]; simp
          have e2 : runN c (s + 1) = 0 := by simp only [runN]; rw [if_neg (by rw [he]; decide)]
          have h := ih (s + 1) (by omega) (by omega)
          rw [e2, ← e1] at h
          exact h
        refine ev_iload_n d_X_isFull_115 rfl rfl ?_
        refine ev_if_eq d_X_isFull_116 (fun c_116 => ?_) (fun c_116 => ?_)
        ·
          have c_116 : runN c s = 0 := (nI_eq (b := 0) (by omega) (by omega)).mp c_116
          refine ev_iconst (v := (nI (1))) d_X_isFull_135 (by decide) ?_
          refine ev_goto d_X_isFull_136 ?_
          exact hJ_140 true (by unfold badR; rcases hlx with q | q <;> simp <;> omega)
        ·
          have c_116 : ¬ runN c s = 0 := fun q => c_116 (by rw [q]; rfl)
          refine ev_iload_n d_X_isFull_119 rfl rfl ?_
          refine ev_aload_n d_X_isFull_120 rfl rfl ?_
          refine ev_getf (kf := 8) (T := F_X) (C := R_X) (N := 14) (v := .int (nI (lx))) d_X_isFull_121 fl_X_116 rfl i_X (by decide) (by omega) x0 rfl ?_
          refine ev_icmp_lt d_X_isFull_124 (fun c_124 => ?_) (fun c_124 => ?_)
          ·
            simp (disch := omega) only [nI_ltI, nI_leI, nI_eq, Nat.not_lt, Nat.not_le] at c_124
            refine ev_iconst (v := (nI (0))) d_X_isFull_139 (by decide) ?_
            exact hJ_140 false (by unfold badR; rcases hlx with q | q <;> simp <;> omega)
          ·
            simp (disch := omega) only [nI_ltI, nI_leI, nI_eq, Nat.not_lt, Nat.not_le] at c_124
            refine ev_iload_n d_X_isFull_127 rfl rfl ?_
            refine ev_aload_n d_X_isFull_128 rfl rfl ?_
            refine ev_getf (kf := 9) (T := F_X) (C := R_X) (N := 14) (v := .int (nI (c.mo))) d_X_isFull_129 fl_X_119 rfl i_X (by decide) (by omega) x0 rfl ?_
            refine ev_icmp_gt d_X_isFull_132 (fun c_132 => ?_) (fun c_132 => ?_)
            ·
              simp (disch := omega) only [nI_ltI, nI_leI, nI_eq, Nat.not_lt, Nat.not_le] at c_132
              refine ev_iconst (v := (nI (0))) d_X_isFull_139 (by decide) ?_
              exact hJ_140 false (by unfold badR; rcases hlx with q | q <;> simp <;> omega)
            ·
              simp (disch := omega) only [nI_ltI, nI_leI, nI_eq, Nat.not_lt, Nat.not_le] at c_132
              refine ev_iconst (v := (nI (1))) d_X_isFull_135 (by decide) ?_
              refine ev_goto d_X_isFull_136 ?_
              exact hJ_140 true (by unfold badR; rcases hlx with q | q <;> simp <;> omega)
      ·
        have c_95 := b2_f c_95
        refine ev_aload_n d_X_isFull_98 rfl rfl ?_
        refine ev_getf (kf := 1) (T := F_X) (C := R_X) (N := 14) (v := .ref (G.1 + 1)) d_X_isFull_99 fl_X_7 rfl i_X (by decide) (by omega) x0 rfl ?_
        refine ev_iload d_X_isFull_102 rfl ?_
        refine ev_zald (j := s) d_X_isFull_104 (by omega) x1 (by omega) (by omega) ?_
        refine ev_if_ne d_X_isFull_105 (fun c_105 => ?_) (fun c_105 => ?_)
        ·
          have c_105 := b2_t c_105
          refine ev_iload_n d_X_isFull_114 rfl rfl ?_
          have hJ_140 : ∀ y : Bool, y = !badR c (runN c s) → Ev G k_X_isFull (d + 1) 0 0 140 [some (.ref (G.1 + 0)), some (.ref (G.1 + n)), some (.int (b2 (!gapB c s))), some (.int (nI (runN c s))), some (.int (nI (s)))] [.int (b2 (y)), .int (b2 (!gapB c s))] (n + 1) ν Q := by
            intro y hJ
            refine ev_iand d_X_isFull_140 ?_
            refine ev_topi (w := (b2 (!gapB c s && y))) (b2_and _ _) ?_
            refine ev_istore_n (ls' := [_, _, _, _, _]) d_X_isFull_141 rfl (by decide) rfl rfl ?_
            refine ev_iconst (v := (nI (0))) d_X_isFull_142 (by decide) ?_
            refine ev_istore_n (ls' := [_, _, _, _, _]) d_X_isFull_143 rfl (by decide) rfl rfl ?_
            refine ev_iinc (v := (nI (s + 1))) (ls' := [_, _, _, _, _]) d_X_isFull_144 rfl (nI_1 _) (by decide) rfl rfl ?_
            refine ev_goto d_X_isFull_147 ?_
            have he : empB c s = false := by
              unfold empB
              rw [c_105]; simp
            have e1 : (!gapB c s && y) = !gapB c (s + 1) := by rw [hJ]; simp only [gapB]; rw [he]; simp
            have e2 : runN c (s + 1) = 0 := by simp only [runN]; rw [if_neg (by rw [he]; decide)]
            have h := ih (s + 1) (by omega) (by omega)
            rw [e2, ← e1] at h
            exact h
          refine ev_iload_n d_X_isFull_115 rfl rfl ?_
          refine ev_if_eq d_X_isFull_116 (fun c_116 => ?_) (fun c_116 => ?_)
          ·
            have c_116 : runN c s = 0 := (nI_eq (b := 0) (by omega) (by omega)).mp c_116
            refine ev_iconst (v := (nI (1))) d_X_isFull_135 (by decide) ?_
            refine ev_goto d_X_isFull_136 ?_
            exact hJ_140 true (by unfold badR; rcases hlx with q | q <;> simp <;> omega)
          ·
            have c_116 : ¬ runN c s = 0 := fun q => c_116 (by rw [q]; rfl)
            refine ev_iload_n d_X_isFull_119 rfl rfl ?_
            refine ev_aload_n d_X_isFull_120 rfl rfl ?_
            refine ev_getf (kf := 8) (T := F_X) (C := R_X) (N := 14) (v := .int (nI (lx))) d_X_isFull_121 fl_X_116 rfl i_X (by decide) (by omega) x0 rfl ?_
            refine ev_icmp_lt d_X_isFull_124 (fun c_124 => ?_) (fun c_124 => ?_)
            ·
              simp (disch := omega) only [nI_ltI, nI_leI, nI_eq, Nat.not_lt, Nat.not_le] at c_124
              refine ev_iconst (v := (nI (0))) d_X_isFull_139 (by decide) ?_
              exact hJ_140 false (by unfold badR; rcases hlx with q | q <;> simp <;> omega)
            ·
              simp (disch := omega) only [nI_ltI, nI_leI, nI_eq, Nat.not_lt, Nat.not_le] at c_124
              refine ev_iload_n d_X_isFull_127 rfl rfl ?_
              refine ev_aload_n d_X_isFull_128 rfl rfl ?_
              refine ev_getf (kf := 9) (T := F_X) (C := R_X) (N := 14) (v := .int (nI (c.mo))) d_X_isFull_129 fl_X_119 rfl i_X (by decide) (by omega) x0 rfl ?_
              refine ev_icmp_gt d_X_isFull_132 (fun c_132 => ?_) (fun c_132 => ?_)
              ·
                simp (disch := omega) only [nI_ltI, nI_leI, nI_eq, Nat.not_lt, Nat.not_le] at c_132
                refine ev_iconst (v := (nI (0))) d_X_isFull_139 (by decide) ?_
                exact hJ_140 false (by unfold badR; rcases hlx with q | q <;> simp <;> omega)
              ·
                simp (disch := omega) only [nI_ltI, nI_leI, nI_eq, Nat.not_lt, Nat.not_le] at c_132
                refine ev_iconst (v := (nI (1))) d_X_isFull_135 (by decide) ?_
                refine ev_goto d_X_isFull_136 ?_
                exact hJ_140 true (by unfold badR; rcases hlx with q | q <;> simp <;> omega)
        ·
          have c_105 := b2_f c_105
          refine ev_iinc (v := (nI (runN c s + 1))) (ls' := [_, _, _, _, _]) d_X_isFull_108 rfl (nI_1 _) (by decide) rfl rfl ?_
          refine ev_goto d_X_isFull_111 ?_
          refine ev_iinc (v := (nI (s + 1))) (ls' := [_, _, _, _, _]) d_X_isFull_144 rfl (nI_1 _) (by decide) rfl rfl ?_
          refine ev_goto d_X_isFull_147 ?_
          have he : empB c s = true := by
            have hne : s ≠ c.st := fun q => by rw [if_pos q] at c_95; cases c_95
            rw [if_neg hne] at c_95
            unfold empB
            rw [c_95, c_105, decide_eq_true (by omega)]; rfl
          have e1 : gapB c (s + 1) = gapB c s := by simp only [gapB]; rw [he]; simp
          have e2 : runN c (s + 1) = runN c s + 1 := by simp only [runN]; rw [if_pos he]
          rw [← e1, ← e2]
          exact ih (s + 1) (by omega) (by omega)
theorem lp_X_full0 {Q : Oc → Nat → Mem → Prop} (hX : XM G n μ c lx ik tb tl ts lat) (hc : CfOK c) {ν : Mem} (hff : ∀ t, t < n → ν t = μ t) (htk : ν n = aZ (c.st + 1) (fun j => b2 (anyN (fun k => covB c k j) c.mn))) (hexit : ∀ ν, (∀ t, t < n → ν t = μ t) → ν n = aZ (c.st + 1) (fun j => b2 (if j = c.st then true else anyN (fun k => covB c k j) c.mn)) → Ev G k_X_isFull (d + 1) 0 0 82 [some (.ref (G.1 + 0)), some (.ref (G.1 + n)), some (.int (b2 (!gapB c 0))), some (.int (nI (runN c 0))), some (.int (nI (0)))] [] (n + 1) ν Q) : Ev G k_X_isFull (d + 1) 0 0 68 [some (.ref (G.1 + 0)), some (.ref (G.1 + n)), none, none, none] [] (n + 1) ν Q := by
  have hXv : XM G (n + 1) ν c lx ik tb tl ts lat := hX.frame (by omega) (fun t ht _ => hff t ht)
  obtain ⟨hn, x0, x1, x2, x3, x4, x5, x11, x12, x18, x19, xi, xj⟩ := id hXv
  obtain ⟨⟨hst1, hst2⟩, hfr, hpn, hpp, hmn, hwd, hnd, hpu, hnr, hbr, hle, hdef⟩ := id hc
  refine ev_aload_n d_X_isFull_68 rfl rfl ?_
  refine ev_aload_n d_X_isFull_69 rfl rfl ?_
  refine ev_getf (kf := 0) (T := F_X) (C := R_X) (N := 14) (v := .int (nI (c.st))) d_X_isFull_70 fl_X_50 rfl i_X (by decide) (by omega) x0 rfl ?_
  refine ev_iconst (v := (nI (1))) d_X_isFull_73 (by decide) ?_
  refine ev_zast (j := c.st) d_X_isFull_74 (by omega) htk rfl (by omega) (by omega) ?_
  refine ev_iconst (v := (nI (1))) d_X_isFull_75 (by decide) ?_
  refine ev_istore_n (ls' := [_, _, _, none, none]) d_X_isFull_76 rfl (by decide) rfl rfl ?_
  refine ev_iconst (v := (nI (0))) d_X_isFull_77 (by decide) ?_
  refine ev_istore_n (ls' := [_, _, _, _, none]) d_X_isFull_78 rfl (by decide) rfl rfl ?_
  refine ev_iconst (v := (nI (0))) d_X_isFull_79 (by decide) ?_
  refine ev_istore (ls' := [_, _, _, _, _]) d_X_isFull_80 (by decide) rfl rfl ?_
  refine hexit _ (fun t ht => (mset_ne _ _ (by omega)).trans (hff t ht)) ?_
  rw [mset_eq, show nI 1 = b2 true from rfl, upd_b2]
theorem ct_X_isFull (hX : XM G n μ c lx ik tb tl ts lat) (hc : CfOK c) (hby : ∀ k, k < c.mn → isputB c k = true → 0 ≤ c.pu k ∧ c.pu k + c.wd k ≤ c.st) (hlx : LxOK c lx) : Ct G k_X_isFull (d + 1) 1 41 [.ref (G.1 + 0)] n μ (fun (o : Oc) (n' : Nat) (μ' : Mem) => o = .inl (some (.int (b2 (!gapB c (c.st + 1))))) ∧ n' = n + 1 ∧ ∀ t, t < n → μ' t = μ t) := by
  generalize hQ : (fun (o : Oc) (n' : Nat) (μ' : Mem) => o = .inl (some (.int (b2 (!gapB c (c.st + 1))))) ∧ n' = n + 1 ∧ ∀ t, t < n → μ' t = μ t) = Q
  refine Ct.ofp (r := 4) (ls := [some (.ref (G.1 + 0)), none, none, none, none]) rfl (Nat.le_of_ble_eq_true rfl) ?_
  obtain ⟨hn, x0, x1, x2, x3, x4, x5, x11, x12, x18, x19, xi, xj⟩ := id hX
  obtain ⟨⟨hst1, hst2⟩, hfr, hpn, hpp, hmn, hwd, hnd, hpu, hnr, hbr, hle, hdef⟩ := id hc
  refine ev_aload_n d_X_isFull_0 rfl rfl ?_
  refine ev_getf (kf := 0) (T := F_X) (C := R_X) (N := 14) (v := .int (nI (c.st))) d_X_isFull_1 fl_X_50 rfl i_X (by decide) (by omega) x0 rfl ?_
  refine ev_iconst (v := (nI (1))) d_X_isFull_4 (by decide) ?_
  refine ev_iadd d_X_isFull_5 ?_
  refine ev_topi (w := (nI (c.st + 1))) (nI_add _ _) ?_
  refine Ev.bud (rc' := 0 + 1) (rs' := 0 + (c.st + 1)) (by omega) (by omega) (ev_newZ (N := c.st + 1) d_X_isFull_6 (by omega) ?_)
  refine ev_astore_n (ls' := [_, _, none, none, none]) d_X_isFull_8 rfl (by decide) rfl rfl ?_
  refine ev_iconst (v := (nI (0))) d_X_isFull_9 (by decide) ?_
  refine ev_istore_n (ls' := [_, _, _, none, none]) d_X_isFull_10 rfl (by decide) rfl rfl ?_
  refine lp_X_full2 hX hc hby (fun ν hff htk => ?_) (c.mn + 1) 0 _ (by omega) (by omega) (fun t ht => mset_ne _ _ (by omega)) ?_
  · refine lp_X_full0 hX hc hff htk (fun ν hff htk => ?_)
    subst hQ
    exact lp_X_full1 hX hc hlx hff htk (c.st + 2) 0 (by omega) (by omega)
  · rw [mset_eq]; rfl
theorem pb_le (c : Cf) (sh : Bool) : ∀ m, m ≤ 6 → pbN c sh m ≤ 6 * m
  | 0, _ => Nat.le_refl _
  | m + 1, h => by
    have := pb_le c sh m (by omega)
    have h2 : sm (fun b => if pbB c sh m b then 1 else 0) m ≤ 1 * m := sm_bnd m (fun k _ => by (try dsimp only); split <;> omega)
    unfold pbN at this ⊢
    simp only [sm]
    omega
theorem pbgt {x m : Nat} (h : 0 < x) (h2 : x ≤ 6 * m) (h3 : m ≤ 6 := by assumption) : ¬ nI x ≤ 0 := fun q => by
  have := (nI_leI (b := 0) (by omega) (by omega)).mp q
  omega
theorem lp_X_checkE (hX : XM G n μ c lx ik tb tl ts lat) (hc : CfOK c) (hlx : LxOK c lx) : Ev G k_X_check (d + 3) 1 41 146 [some (.ref (G.1 + 0)), some (.int (b2 (anyN (beyB c) c.mn))), some (.int (b2 (anyN (onfB c) c.mn))), some (.int (b2 (anyN (misB c) c.mn))), some (.int (b2 (anyN (unmB c) c.mn))), none, none, none] [] n μ (fun (o : Oc) (n' : Nat) (μ' : Mem) => o = .inl (some (.int (nI (chkN c)))) ∧ n ≤ n' ∧ ∀ t, t < n → μ' t = μ t) := by
  generalize hQ : (fun (o : Oc) (n' : Nat) (μ' : Mem) => o = .inl (some (.int (nI (chkN c)))) ∧ n ≤ n' ∧ ∀ t, t < n → μ' t = μ t) = Q
  obtain ⟨hn, x0, x1, x2, x3, x4, x5, x11, x12, x18, x19, xi, xj⟩ := id hX
  obtain ⟨⟨hst1, hst2⟩, hfr, hpn, hpp, hmn, hwd, hnd, hpu, hnr, hbr, hle, hdef⟩ := id hc
  refine ev_iload_n d_X_check_146 rfl rfl ?_
  refine ev_if_eq d_X_check_147 (fun c_147 => ?_) (fun c_147 => ?_)
  ·
    have c_147 := b2_f c_147
    refine ev_aload_n d_X_check_152 rfl rfl ?_
    refine ev_iconst (v := (nI (1))) d_X_check_153 (by decide) ?_
    refine cv (mc' := 0) (ms' := 0) (k' := k_X_pairsBroken) (As := [.int (b2 true)]) (stk := []) d_X_check_154 ml_X_250 kk_X_pairsBroken rfl rfl (Nat.le_of_ble_eq_true rfl) (by omega) x0 rfl rfl (ct_X_pb_true (d := d) hX hc) (rd ?_)
    refine ev_if_le d_X_check_157 (fun c_157 => ?_) (fun c_157 => ?_)
    ·
      have c_157 : ¬ 0 < pbN c true c.mn := fun q => absurd c_157 (pbgt q (pb_le c true c.mn hmn))
      refine ev_iload_n d_X_check_162 rfl rfl ?_
      refine ev_if_ne d_X_check_163 (fun c_163 => ?_) (fun c_163 => ?_)
      ·
        have c_163 := b2_t c_163
        refine ev_iload_n d_X_check_175 rfl rfl ?_
        refine ev_if_eq d_X_check_176 (fun c_176 => ?_) (fun c_176 => ?_)
        ·
          have c_176 := b2_f c_176
          refine ev_iload_n d_X_check_183 rfl rfl ?_
          refine ev_if_eq d_X_check_184 (fun c_184 => ?_) (fun c_184 => ?_)
          ·
            have c_184 := b2_f c_184
            refine ev_iconst (v := (nI (5))) d_X_check_191 (by decide) ?_
            refine ev_ireturn d_X_check_192 rfl rfl ?_
            subst hQ
            refine ⟨?_, by omega, fun t _ => rfl⟩
            unfold chkN
            first | rfl | simp_all
          ·
            have c_184 := b2_t c_184
            refine ev_iconst (v := (nI (4))) d_X_check_187 (by decide) ?_
            refine ev_goto d_X_check_188 ?_
            refine ev_ireturn d_X_check_192 rfl rfl ?_
            subst hQ
            refine ⟨?_, by omega, fun t _ => rfl⟩
            unfold chkN
            first | rfl | simp_all
        ·
          have c_176 := b2_t c_176
          refine ev_iconst (v := (nI (3))) d_X_check_179 (by decide) ?_
          refine ev_goto d_X_check_180 ?_
          refine ev_ireturn d_X_check_192 rfl rfl ?_
          subst hQ
          refine ⟨?_, by omega, fun t _ => rfl⟩
          unfold chkN
          first | rfl | simp_all
      ·
        have c_163 := b2_f c_163
        refine ev_iload_n d_X_check_166 rfl rfl ?_
        refine ev_if_ne d_X_check_167 (fun c_167 => ?_) (fun c_167 => ?_)
        ·
          have c_167 := b2_t c_167
          refine ev_iload_n d_X_check_175 rfl rfl ?_
          refine ev_if_eq d_X_check_176 (fun c_176 => ?_) (fun c_176 => ?_)
          ·
            have c_176 := b2_f c_176
            refine ev_iload_n d_X_check_183 rfl rfl ?_
            refine ev_if_eq d_X_check_184 (fun c_184 => ?_) (fun c_184 => ?_)
            ·
              have c_184 := b2_f c_184
              refine ev_iconst (v := (nI (5))) d_X_check_191 (by decide) ?_
              refine ev_ireturn d_X_check_192 rfl rfl ?_
              subst hQ
              refine ⟨?_, by omega, fun t _ => rfl⟩
              unfold chkN
              first | rfl | simp_all
            ·
              have c_184 := b2_t c_184
              refine ev_iconst (v := (nI (4))) d_X_check_187 (by decide) ?_
              refine ev_goto d_X_check_188 ?_
              refine ev_ireturn d_X_check_192 rfl rfl ?_
              subst hQ
              refine ⟨?_, by omega, fun t _ => rfl⟩
              unfold chkN
              first | rfl | simp_all
          ·
            have c_176 := b2_t c_176
            refine ev_iconst (v := (nI (3))) d_X_check_179 (by decide) ?_
            refine ev_goto d_X_check_180 ?_
            refine ev_ireturn d_X_check_192 rfl rfl ?_
            subst hQ
            refine ⟨?_, by omega, fun t _ => rfl⟩
            unfold chkN
            first | rfl | simp_all
        ·
          have c_167 := b2_f c_167
          refine ev_iload d_X_check_170 rfl ?_
          refine ev_if_eq d_X_check_172 (fun c_172 => ?_) (fun c_172 => ?_)
          ·
            have c_172 := b2_f c_172
            refine ev_aload_n d_X_check_193 rfl rfl ?_
            refine ev_iconst (v := (nI (0))) d_X_check_194 (by decide) ?_
            refine cv (mc' := 0) (ms' := 0) (k' := k_X_pairsBroken) (As := [.int (b2 false)]) (stk := []) d_X_check_195 ml_X_250 kk_X_pairsBroken rfl rfl (Nat.le_of_ble_eq_true rfl) (by omega) x0 rfl rfl (ct_X_pb_false (d := d) hX hc) (rd ?_)
            refine ev_if_le d_X_check_198 (fun c_198 => ?_) (fun c_198 => ?_)
            ·
              have c_198 : ¬ 0 < pbN c false c.mn := fun q => absurd c_198 (pbgt q (pb_le c false c.mn hmn))
              have hby : ∀ k, k < c.mn → isputB c k = true → 0 ≤ c.pu k ∧ c.pu k + c.wd k ≤ c.st := fun k hk hp => by
                have := anyN_f.mp c_147 k hk
                simp only [beyB, hp, Bool.true_and, Bool.or_eq_false_iff, decide_eq_false_iff_not] at this
                omega
              refine ev_aload_n d_X_check_206 rfl rfl ?_
              refine cv (mc' := 1) (ms' := 41) (k' := k_X_isFull) (As := []) (stk := []) d_X_check_207 ml_X_254 kk_X_isFull rfl rfl (Nat.le_of_ble_eq_true rfl) (by omega) x0 rfl rfl (ct_X_isFull (d := d + 1) hX hc hby hlx) (af fun n1 ν hq => ?_)
              obtain ⟨hn1, hfn⟩ := hq
              subst n1
              refine ev_if_eq d_X_check_210 (fun c_210 => ?_) (fun c_210 => ?_)
              ·
                have c_210 := b2_f c_210
                refine ev_bipush (v := (nI (7))) d_X_check_217 (by decide) ?_
                refine ev_ireturn d_X_check_219 rfl rfl ?_
                subst hQ
                refine ⟨?_, by omega, hfn⟩
                unfold chkN
                first | rfl | simp_all
              ·
                have c_210 := b2_t c_210
                refine ev_iconst (v := (nI (0))) d_X_check_213 (by decide) ?_
                refine ev_goto d_X_check_214 ?_
                refine ev_ireturn d_X_check_219 rfl rfl ?_
                subst hQ
                refine ⟨?_, by omega, hfn⟩
                unfold chkN
                first | rfl | simp_all
            ·
              have c_198 : 0 < pbN c false c.mn := Nat.pos_of_ne_zero (fun q => c_198 (by rw [q]; decide))
              refine ev_bipush (v := (nI (6))) d_X_check_201 (by decide) ?_
              refine ev_goto d_X_check_203 ?_
              refine ev_ireturn d_X_check_219 rfl rfl ?_
              subst hQ
              refine ⟨?_, by omega, fun t _ => rfl⟩
              unfold chkN
              first | rfl | simp_all
          ·
            have c_172 := b2_t c_172
            refine ev_iload_n d_X_check_175 rfl rfl ?_
            refine ev_if_eq d_X_check_176 (fun c_176 => ?_) (fun c_176 => ?_)
            ·
              have c_176 := b2_f c_176
              refine ev_iload_n d_X_check_183 rfl rfl ?_
              refine ev_if_eq d_X_check_184 (fun c_184 => ?_) (fun c_184 => ?_)
              ·
                have c_184 := b2_f c_184
                refine ev_iconst (v := (nI (5))) d_X_check_191 (by decide) ?_
                refine ev_ireturn d_X_check_192 rfl rfl ?_
                subst hQ
                refine ⟨?_, by omega, fun t _ => rfl⟩
                unfold chkN
                first | rfl | simp_all
              ·
                have c_184 := b2_t c_184
                refine ev_iconst (v := (nI (4))) d_X_check_187 (by decide) ?_
                refine ev_goto d_X_check_188 ?_
                refine ev_ireturn d_X_check_192 rfl rfl ?_
                subst hQ
                refine ⟨?_, by omega, fun t _ => rfl⟩
                unfold chkN
                first | rfl | simp_all
            ·
              have c_176 := b2_t c_176
              refine ev_iconst (v := (nI (3))) d_X_check_179 (by decide) ?_
              refine ev_goto d_X_check_180 ?_
              refine ev_ireturn d_X_check_192 rfl rfl ?_
              subst hQ
              refine ⟨?_, by omega, fun t _ => rfl⟩
              unfold chkN
              first | rfl | simp_all
    ·
      have c_157 : 0 < pbN c true c.mn := Nat.pos_of_ne_zero (fun q => c_157 (by rw [q]; decide))
      refine ev_iconst (v := (nI (2))) d_X_check_160 (by decide) ?_
      refine ev_ireturn d_X_check_161 rfl rfl ?_
      subst hQ
      refine ⟨?_, by omega, fun t _ => rfl⟩
      unfold chkN
      first | rfl | simp_all
  ·
    have c_147 := b2_t c_147
    refine ev_iconst (v := (nI (1))) d_X_check_150 (by decide) ?_
    refine ev_ireturn d_X_check_151 rfl rfl ?_
    subst hQ
    refine ⟨?_, by omega, fun t _ => rfl⟩
    unfold chkN
    first | rfl | simp_all
theorem lp_X_check (hX : XM G n μ c lx ik tb tl ts lat) (hc : CfOK c) (hlx : LxOK c lx) : ∀ (m i : Nat), i ≤ c.mn → c.mn < i + m → Ev G k_X_check (d + 3) 1 41 12 [some (.ref (G.1 + 0)), some (.int (b2 (anyN (beyB c) i))), some (.int (b2 (anyN (onfB c) i))), some (.int (b2 (anyN (misB c) i))), some (.int (b2 (anyN (unmB c) i))), some (.int (nI (i))), none, none] [] n μ (fun (o : Oc) (n' : Nat) (μ' : Mem) => o = .inl (some (.int (nI (chkN c)))) ∧ n ≤ n' ∧ ∀ t, t < n → μ' t = μ t) := by
  generalize hQ : (fun (o : Oc) (n' : Nat) (μ' : Mem) => o = .inl (some (.int (nI (chkN c)))) ∧ n ≤ n' ∧ ∀ t, t < n → μ' t = μ t) = Q
  obtain ⟨hn, x0, x1, x2, x3, x4, x5, x11, x12, x18, x19, xi, xj⟩ := id hX
  obtain ⟨⟨hst1, hst2⟩, hfr, hpn, hpp, hmn, hwd, hnd, hpu, hnr, hbr, hle, hdef⟩ := id hc
  intro m
  induction m with
  | zero =>
    intro i h1 h2
    exact absurd h2 (by omega)
  | succ m ih =>
    intro i hi him
    refine ev_iload d_X_check_12 rfl ?_
    refine ev_aload_n d_X_check_14 rfl rfl ?_
    refine ev_getf (kf := 5) (T := F_X) (C := R_X) (N := 14) (v := .int (nI (c.mn))) d_X_check_15 fl_X_81 rfl i_X (by decide) (by omega) x0 rfl ?_
    refine ev_icmp_ge d_X_check_18 (fun c_18 => ?_) (fun c_18 => ?_)
    ·
      simp (disch := omega) only [nI_ltI, nI_leI, nI_eq, Nat.not_lt, Nat.not_le] at c_18
      have hi2 : i = c.mn := by omega
      subst hi2
      subst hQ
      exact Ev.fg [true, true, true, true, true, false, false, false] rfl (lp_X_checkE hX hc hlx)
    ·
      simp (disch := omega) only [nI_ltI, nI_leI, nI_eq, Nat.not_lt, Nat.not_le] at c_18
      have hwi := hwd i c_18
      have hpi := hpu i
      refine ev_aload_n d_X_check_21 rfl rfl ?_
      refine ev_getf (kf := 4) (T := F_X) (C := R_X) (N := 14) (v := .ref (G.1 + 3)) d_X_check_22 fl_X_19 rfl i_X (by decide) (by omega) x0 rfl ?_
      refine ev_iload d_X_check_25 rfl ?_
      refine ev_aald (j := i) d_X_check_27 (by omega) x3 (by decide) (by omega) (by decide) ?_
      refine ev_top (w := .ref (G.1 + ik i)) (by rw [if_pos c_18]; rfl) ?_
      refine ev_astore (ls' := [_, _, _, _, _, _, _, none]) d_X_check_28 (by decide) rfl rfl ?_
      refine ev_aload_n d_X_check_30 rfl rfl ?_
      refine ev_iload d_X_check_31 rfl ?_
      refine cv (mc' := 0) (ms' := 0) (k' := k_X_isBeyond) (As := [.int (nI (i))]) (stk := []) d_X_check_33 ml_X_247 kk_X_isBeyond rfl rfl (Nat.le_of_ble_eq_true rfl) (by omega) x0 rfl rfl (ct_X_isBeyond (d := d + 1) hX hc c_18) (rd ?_)
      refine ev_istore (ls' := [_, _, _, _, _, _, _, _]) d_X_check_36 (by decide) rfl rfl ?_
      refine ev_iload_n d_X_check_38 rfl rfl ?_
      refine ev_iload d_X_check_39 rfl ?_
      refine ev_ior d_X_check_41 ?_
      refine ev_topi (w := (b2 (anyN (beyB c) i || beyB c i))) (b2_or _ _) ?_
      refine ev_istore_n (ls' := [_, _, _, _, _, _, _, _]) d_X_check_42 rfl (by decide) rfl rfl ?_
      refine ev_iload_n d_X_check_43 rfl rfl ?_
      have hJ_80 : ∀ y : Bool, y = onfB c i → Ev G k_X_check (d + 3) 1 41 80 [some (.ref (G.1 + 0)), some (.int (b2 (anyN (beyB c) i || beyB c i))), some (.int (b2 (anyN (onfB c) i))), some (.int (b2 (anyN (misB c) i))), some (.int (b2 (anyN (unmB c) i))), some (.int (nI (i))), some (.ref (G.1 + ik i)), some (.int (b2 (beyB c i)))] [.int (b2 (y)), .int (b2 (anyN (onfB c) i))] n μ Q := by
        intro y hJ
        have hy0 := hJ
        refine ev_ior d_X_check_80 ?_
        refine ev_topi (w := (b2 (anyN (onfB c) i || y))) (b2_or _ _) ?_
        refine ev_istore_n (ls' := [_, _, _, _, _, _, _, _]) d_X_check_81 rfl (by decide) rfl rfl ?_
        refine ev_iload_n d_X_check_82 rfl rfl ?_
        have hJ_105 : ∀ y_1 : Bool, y_1 = misB c i → Ev G k_X_check (d + 3) 1 41 105 [some (.ref (G.1 + 0)), some (.int (b2 (anyN (beyB c) i || beyB c i))), some (.int (b2 (anyN (onfB c) i || y))), some (.int (b2 (anyN (misB c) i))), some (.int (b2 (anyN (unmB c) i))), some (.int (nI (i))), some (.ref (G.1 + ik i)), some (.int (b2 (beyB c i)))] [.int (b2 (y_1)), .int (b2 (anyN (misB c) i))] n μ Q := by
          intro y_1 hJ
          have hy1 := hJ
          refine ev_ior d_X_check_105 ?_
          refine ev_topi (w := (b2 (anyN (misB c) i || y_1))) (b2_or _ _) ?_
          refine ev_istore_n (ls' := [_, _, _, _, _, _, _, _]) d_X_check_106 rfl (by decide) rfl rfl ?_
          refine ev_iload d_X_check_107 rfl ?_
          have hJ_137 : ∀ y_2 : Bool, y_2 = unmB c i → Ev G k_X_check (d + 3) 1 41 137 [some (.ref (G.1 + 0)), some (.int (b2 (anyN (beyB c) i || beyB c i))), some (.int (b2 (anyN (onfB c) i || y))), some (.int (b2 (anyN (misB c) i || y_1))), some (.int (b2 (anyN (unmB c) i))), some (.int (nI (i))), some (.ref (G.1 + ik i)), some (.int (b2 (beyB c i)))] [.int (b2 (y_2)), .int (b2 (anyN (unmB c) i))] n μ Q := by
            intro y_2 hJ
            refine ev_ior d_X_check_137 ?_
            refine ev_topi (w := (b2 (anyN (unmB c) i || y_2))) (b2_or _ _) ?_
            refine ev_istore (ls' := [_, _, _, _, _, _, _, _]) d_X_check_138 (by decide) rfl rfl ?_
            refine ev_iinc (v := (nI (i + 1))) (ls' := [_, _, _, _, _, _, _, _]) d_X_check_140 rfl (nI_1 _) (by decide) rfl rfl ?_
            refine ev_goto d_X_check_143 ?_
            rw [show (anyN (beyB c) i || beyB c i) = anyN (beyB c) (i + 1) from (anyN_s _ _).symm, show (anyN (onfB c) i || y) = anyN (onfB c) (i + 1) from by rw [anyN_s, hy0], show (anyN (misB c) i || y_1) = anyN (misB c) (i + 1) from by rw [anyN_s, hy1], show (anyN (unmB c) i || y_2) = anyN (unmB c) (i + 1) from by rw [anyN_s, hJ]]
            exact Ev.fg [true, true, true, true, true, true, false, false] rfl (ih (i + 1) (by omega) (by omega))
          refine ev_aload_n d_X_check_109 rfl rfl ?_
          refine ev_iload d_X_check_110 rfl ?_
          refine cv (mc' := 0) (ms' := 0) (k' := k_X_isPut) (As := [.int (nI (i))]) (stk := [.int (b2 (anyN (unmB c) i))]) d_X_check_112 ml_X_238 kk_X_isPut rfl rfl (Nat.le_of_ble_eq_true rfl) (by omega) x0 rfl rfl (ct_X_isPut (d := d + 2) hX hc c_18) (rd ?_)
          refine ev_if_eq d_X_check_115 (fun c_115 => ?_) (fun c_115 => ?_)
          ·
            have c_115 := b2_f c_115
            refine ev_iconst (v := (nI (0))) d_X_check_136 (by decide) ?_
            exact hJ_137 false (by simp [unmB, c_115])
          ·
            have c_115 := b2_t c_115
            refine ev_aload_n d_X_check_118 rfl rfl ?_
            refine ev_aload d_X_check_119 rfl ?_
            refine ev_aload d_X_check_121 rfl ?_
            refine ev_getN (kf := 5) (T := F_I) (C := R_I) (N := 6) (v := .int (iI (c.pu i))) d_X_check_123 fl_X_235 rfl i_I (by decide) (xi i c_18).2.1 (xi i c_18).2.2 rfl ?_
            refine cv (mc' := 0) (ms' := 0) (k' := k_X_isMet) (As := [.ref (G.1 + ik i), .int (iI (c.pu i))]) (stk := [.int (b2 (anyN (unmB c) i))]) d_X_check_126 ml_X_129 kk_X_isMet rfl rfl (Nat.le_of_ble_eq_true rfl) (by omega) x0 rfl rfl (ct_X_isMet (d := d + 1) (k := i) (f := c.pu i) c_18 (by omega) (by omega) hX hc) (rd ?_)
            refine ev_if_ne d_X_check_129 (fun c_129 => ?_) (fun c_129 => ?_)
            ·
              have c_129 := b2_t c_129
              refine ev_iconst (v := (nI (0))) d_X_check_136 (by decide) ?_
              exact hJ_137 false (by simp [unmB, c_115, c_129])
            ·
              have c_129 := b2_f c_129
              refine ev_iconst (v := (nI (1))) d_X_check_132 (by decide) ?_
              refine ev_goto d_X_check_133 ?_
              exact hJ_137 true (by simp [unmB, c_115, c_129])
        refine ev_aload d_X_check_83 rfl ?_
        refine ev_getN (kf := 4) (T := F_I) (C := R_I) (N := 6) (v := .int (b2 (c.ms i))) d_X_check_85 fl_X_112 rfl i_I (by decide) (xi i c_18).2.1 (xi i c_18).2.2 rfl ?_
        refine ev_if_eq d_X_check_88 (fun c_88 => ?_) (fun c_88 => ?_)
        ·
          have c_88 := b2_f c_88
          refine ev_iconst (v := (nI (0))) d_X_check_104 (by decide) ?_
          exact hJ_105 false (by simp [misB, c_88])
        ·
          have c_88 := b2_t c_88
          refine ev_aload_n d_X_check_91 rfl rfl ?_
          refine ev_iload d_X_check_92 rfl ?_
          refine cv (mc' := 0) (ms' := 0) (k' := k_X_isPut) (As := [.int (nI (i))]) (stk := [.int (b2 (anyN (misB c) i))]) d_X_check_94 ml_X_238 kk_X_isPut rfl rfl (Nat.le_of_ble_eq_true rfl) (by omega) x0 rfl rfl (ct_X_isPut (d := d + 2) hX hc c_18) (rd ?_)
          refine ev_if_ne d_X_check_97 (fun c_97 => ?_) (fun c_97 => ?_)
          ·
            have c_97 := b2_t c_97
            refine ev_iconst (v := (nI (0))) d_X_check_104 (by decide) ?_
            exact hJ_105 false (by simp [misB, c_88, c_97])
          ·
            have c_97 := b2_f c_97
            refine ev_iconst (v := (nI (1))) d_X_check_100 (by decide) ?_
            refine ev_goto d_X_check_101 ?_
            exact hJ_105 true (by simp [misB, c_88, c_97])
      refine ev_aload_n d_X_check_44 rfl rfl ?_
      refine ev_iload d_X_check_45 rfl ?_
      refine cv (mc' := 0) (ms' := 0) (k' := k_X_isPut) (As := [.int (nI (i))]) (stk := [.int (b2 (anyN (onfB c) i))]) d_X_check_47 ml_X_238 kk_X_isPut rfl rfl (Nat.le_of_ble_eq_true rfl) (by omega) x0 rfl rfl (ct_X_isPut (d := d + 2) hX hc c_18) (rd ?_)
      refine ev_if_eq d_X_check_50 (fun c_50 => ?_) (fun c_50 => ?_)
      ·
        have c_50 := b2_f c_50
        refine ev_iconst (v := (nI (0))) d_X_check_79 (by decide) ?_
        exact hJ_80 false (by simp [onfB, c_50])
      ·
        have c_50 := b2_t c_50
        refine ev_iload d_X_check_53 rfl ?_
        refine ev_if_ne d_X_check_55 (fun c_55 => ?_) (fun c_55 => ?_)
        ·
          have c_55 := b2_t c_55
          refine ev_iconst (v := (nI (0))) d_X_check_79 (by decide) ?_
          exact hJ_80 false (by simp [onfB, c_50, c_55])
        ·
          have c_55 := b2_f c_55
          have hbe := c_55
          simp only [beyB, c_50, Bool.true_and, Bool.or_eq_false_iff, decide_eq_false_iff_not] at hbe
          have hpn0 : c.pu i = ((c.pu i).toNat : Int) := by omega
          refine ev_aload_n d_X_check_58 rfl rfl ?_
          refine ev_aload d_X_check_59 rfl ?_
          refine ev_getN (kf := 5) (T := F_I) (C := R_I) (N := 6) (v := .int (iI (c.pu i))) d_X_check_61 fl_X_235 rfl i_I (by decide) (xi i c_18).2.1 (xi i c_18).2.2 rfl ?_
          refine ev_aload d_X_check_64 rfl ?_
          refine ev_getN (kf := 0) (T := F_I) (C := R_I) (N := 6) (v := .int (nI (c.wd i))) d_X_check_66 fl_X_122 rfl i_I (by decide) (xi i c_18).2.1 (xi i c_18).2.2 rfl ?_
          rw [show iI (c.pu i) = nI (c.pu i).toNat from by rw [nI_iI]; congr 1]
          refine cv (mc' := 0) (ms' := 0) (k' := k_X_isOpen) (As := [.int (nI ((c.pu i).toNat)), .int (nI (c.wd i))]) (stk := [.int (b2 (anyN (onfB c) i))]) d_X_check_69 ml_X_125 kk_X_isOpen rfl rfl (Nat.le_of_ble_eq_true rfl) (by omega) x0 rfl rfl (ct_X_isOpen (d := d + 2) (f := (c.pu i).toNat) (w := c.wd i) (by omega) (by omega) hX hc) (rd ?_)
          refine ev_if_ne d_X_check_72 (fun c_72 => ?_) (fun c_72 => ?_)
          ·
            have c_72 := b2_t c_72
            refine ev_iconst (v := (nI (0))) d_X_check_79 (by decide) ?_
            exact hJ_80 false (by simp [onfB, c_50, c_55, c_72])
          ·
            have c_72 := b2_f c_72
            refine ev_iconst (v := (nI (1))) d_X_check_75 (by decide) ?_
            refine ev_goto d_X_check_76 ?_
            exact hJ_80 true (by simp [onfB, c_50, c_55, c_72])
theorem ct_X_check (hX : XM G n μ c lx ik tb tl ts lat) (hc : CfOK c) (hlx : LxOK c lx) : Ct G k_X_check (d + 3) 1 41 [.ref (G.1 + 0)] n μ (fun (o : Oc) (n' : Nat) (μ' : Mem) => o = .inl (some (.int (nI (chkN c)))) ∧ n ≤ n' ∧ ∀ t, t < n → μ' t = μ t) := by
  refine Ct.ofp (r := 7) (ls := [some (.ref (G.1 + 0)), none, none, none, none, none, none, none]) rfl (Nat.le_of_ble_eq_true rfl) ?_
  refine ev_iconst (v := (nI (0))) d_X_check_0 (by decide) ?_
  refine ev_istore_n (ls' := [_, _, none, none, none, none, none, none]) d_X_check_1 rfl (by decide) rfl rfl ?_
  refine ev_iconst (v := (nI (0))) d_X_check_2 (by decide) ?_
  refine ev_istore_n (ls' := [_, _, _, none, none, none, none, none]) d_X_check_3 rfl (by decide) rfl rfl ?_
  refine ev_iconst (v := (nI (0))) d_X_check_4 (by decide) ?_
  refine ev_istore_n (ls' := [_, _, _, _, none, none, none, none]) d_X_check_5 rfl (by decide) rfl rfl ?_
  refine ev_iconst (v := (nI (0))) d_X_check_6 (by decide) ?_
  refine ev_istore (ls' := [_, _, _, _, _, none, none, none]) d_X_check_7 (by decide) rfl rfl ?_
  refine ev_iconst (v := (nI (0))) d_X_check_9 (by decide) ?_
  refine ev_istore (ls' := [_, _, _, _, _, _, none, none]) d_X_check_10 (by decide) rfl rfl ?_
  exact lp_X_check hX hc hlx (c.mn + 1) 0 (by omega) (by omega)
end RW
