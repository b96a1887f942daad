/-! ===== looking at the plan ===== -/
def wdt (c : Cf) (x : Nat × Nat) : Nat := if 100 ≤ x.1 then x.1 - 100 else c.wd x.1
def atF (l : List (Nat × Nat)) (k : Nat) : Nat → Int
  | 0 => -1
  | i + 1 => if (gN l i).1 = k then ((gN l i).2 : Int) else atF l k i
def plF (c : Cf) (x : Nat × Nat) (wh : Nat) : Int := if wh = 0 then (if 100 ≤ x.1 then -1 else (x.1 : Int)) else if wh = 1 then (x.2 : Int) else (wdt c x : Int)
def bgB (c : Cf) (l : List (Nat × Nat)) (p : Nat) : Bool := decide (p = 0) || decide ((gN l (p - 1)).2 + wdt c (gN l (p - 1)) ≠ (gN l p).2)
def tpN (c : Cf) (l : List (Nat × Nat)) : Nat → Nat
  | 0 => 0
  | p + 1 => tpN c l p + (if bgB c l p then 1 else 0)
def frZ (c : Cf) (l : List (Nat × Nat)) (z : Int) : Nat → Int
  | 0 => -1
  | p + 1 => if (tpN c l (p + 1) : Int) - 1 = z then (if frZ c l z p = -1 then ((gN l p).2 : Int) else frZ c l z p) else frZ c l z p
def szN (c : Cf) (l : List (Nat × Nat)) (z : Int) : Nat → Nat
  | 0 => 0
  | p + 1 => if (tpN c l (p + 1) : Int) - 1 = z then szN c l z p + wdt c (gN l p) else szN c l z p
theorem tpN_le (c : Cf) (l : List (Nat × Nat)) : ∀ p, tpN c l p ≤ p
  | 0 => Nat.le_refl _
  | p + 1 => by have := tpN_le c l p; simp only [tpN]; split <;> omega
/-- what holds of a piece -/
def PcOK (c : Cf) (l : List (Nat × Nat)) : Prop := l.length ≤ 40 ∧ ∀ i, i < l.length → ((gN l i).1 < c.mn ∨ (100 < (gN l i).1 ∧ (gN l i).1 ≤ 140)) ∧ (gN l i).2 ≤ 40
theorem WkOK.pc {c : Cf} {l : List (Nat × Nat)} (h : WkOK c l 0 0) (hs : c.st ≤ 40) : PcOK c l := by
  refine ⟨by have := h.1; omega, fun i hi => ?_⟩
  have := h.2.1 _ (List.mem_of_getElem? (gN_some hi))
  exact ⟨this.1, by omega⟩
theorem wdt_le {c : Cf} (hc : CfOK c) {l : List (Nat × Nat)} (h : PcOK c l) {i : Nat} (hi : i < l.length) : wdt c (gN l i) ≤ 40 := by
  have h1 := (h.2 i hi).1
  unfold wdt
  split
  · rcases h1 with q | q
    · have := hc.2.2.2.2.1; omega
    · omega
  · rcases h1 with q | q
    · have := hc.2.2.2.2.2.1 _ q; omega
    · omega
theorem frZ_bd {c : Cf} {l : List (Nat × Nat)} (h : PcOK c l) (z : Int) : ∀ p, p ≤ l.length → -1 ≤ frZ c l z p ∧ frZ c l z p ≤ 40
  | 0, _ => by simp [frZ]
  | p + 1, hp => by
    have ih := frZ_bd h z p (by omega)
    have := (h.2 p (by omega)).2
    simp only [frZ]
    split
    · split <;> omega
    · exact ih
theorem szN_bd {c : Cf} (hc : CfOK c) {l : List (Nat × Nat)} (h : PcOK c l) (z : Int) : ∀ p, p ≤ l.length → szN c l z p ≤ 40 * p
  | 0, _ => Nat.le_refl _
  | p + 1, hp => by
    have ih := szN_bd hc h z p (by omega)
    have := wdt_le hc h (show p < l.length by omega)
    simp only [szN]
    split <;> omega
section LKP
variable {G : Gm} {d n : Nat} {μ : Mem} {c : Cf} {lx : Nat} {ik : Nat → Nat} {tb : Nat → Int64} {tl : Nat} {ts : Nat → Int32}  {t S w ct : Nat} {l : List (Nat × Nat)}
theorem ct_X_at_no1 {a : Int} (hX : XM G n μ c lx ik tb tl ts .null) : Ct G k_X_at (d + 8) 2 12 [.ref (G.1 + 0), .int (iI a)] n μ (XT 5 n μ) := by
  obtain ⟨hn, x0, x1, x2, x3, x4, x5, x11, x12, x18, x19, xi, xj⟩ := id hX
  refine Ct.ofp (r := 3) (ls := [some (.ref (G.1 + 0)), some (.int (iI (a))), none, none, none]) rfl (Nat.le_of_ble_eq_true rfl) ?_
  refine ev_aload_n d_X_at_0 rfl rfl ?_
  refine ev_getf (kf := 13) (T := F_X) (C := R_X) (N := 14) (v := .null) d_X_at_1 fl_X_63 rfl i_X (by decide) (by omega) x0 rfl ?_
  refine ev_ifnullN d_X_at_4 ?_
  refine ev_iconst (v := (nI (0))) d_X_at_11 (by decide) ?_
  refine cs (mc' := 1) (ms' := 6) (k' := k_X_can) (As := [.int (nI (0))]) (stk := []) d_X_at_12 ml_X_84 kk_X_can rfl rfl (Nat.le_of_ble_eq_true rfl) (ct_can (d := d + 1) (false)) (gdF (rfl) ?_)
  exact ⟨rfl, rfl, rfl⟩
theorem ct_X_plan_no1 {a b : Int} (hX : XM G n μ c lx ik tb tl ts .null) : Ct G k_X_plan (d + 7) 3 18 [.ref (G.1 + 0), .int (iI a), .int (iI b)] n μ (XT 5 n μ) := by
  obtain ⟨hn, x0, x1, x2, x3, x4, x5, x11, x12, x18, x19, xi, xj⟩ := id hX
  refine Ct.ofp (r := 1) (ls := [some (.ref (G.1 + 0)), some (.int (iI (a))), some (.int (iI (b))), none]) rfl (Nat.le_of_ble_eq_true rfl) ?_
  refine ev_aload_n d_X_plan_0 rfl rfl ?_
  refine ev_getf (kf := 13) (T := F_X) (C := R_X) (N := 14) (v := .null) d_X_plan_1 fl_X_63 rfl i_X (by decide) (by omega) x0 rfl ?_
  refine ev_ifnullN d_X_plan_4 ?_
  refine ev_iconst (v := (nI (0))) d_X_plan_11 (by decide) ?_
  refine cs (mc' := 1) (ms' := 6) (k' := k_X_can) (As := [.int (nI (0))]) (stk := []) d_X_plan_12 ml_X_84 kk_X_can rfl rfl (Nat.le_of_ble_eq_true rfl) (ct_can (d := d) (false)) (gdF (rfl) ?_)
  exact ⟨rfl, rfl, rfl⟩
theorem ct_X_worth_no1 {a : Int} (hX : XM G n μ c lx ik tb tl ts .null) : Ct G k_X_worth (d + 7) 2 12 [.ref (G.1 + 0), .int (iI a)] n μ (XT 5 n μ) := by
  obtain ⟨hn, x0, x1, x2, x3, x4, x5, x11, x12, x18, x19, xi, xj⟩ := id hX
  refine Ct.ofp (r := 0) (ls := [some (.ref (G.1 + 0)), some (.int (iI (a)))]) rfl (Nat.le_of_ble_eq_true rfl) ?_
  refine ev_aload_n d_X_worth_0 rfl rfl ?_
  refine ev_getf (kf := 13) (T := F_X) (C := R_X) (N := 14) (v := .null) d_X_worth_1 fl_X_63 rfl i_X (by decide) (by omega) x0 rfl ?_
  refine ev_ifnullN d_X_worth_4 ?_
  refine ev_iconst (v := (nI (0))) d_X_worth_11 (by decide) ?_
  refine cs (mc' := 1) (ms' := 6) (k' := k_X_can) (As := [.int (nI (0))]) (stk := []) d_X_worth_12 ml_X_84 kk_X_can rfl rfl (Nat.le_of_ble_eq_true rfl) (ct_can (d := d) (false)) (gdF (rfl) ?_)
  exact ⟨rfl, rfl, rfl⟩
theorem ct_X_top_no1 {a b : Int} (hX : XM G n μ c lx ik tb tl ts .null) : Ct G k_X_top (d + 7) 3 18 [.ref (G.1 + 0), .int (iI a), .int (iI b)] n μ (XT 5 n μ) := by
  obtain ⟨hn, x0, x1, x2, x3, x4, x5, x11, x12, x18, x19, xi, xj⟩ := id hX
  refine Ct.ofp (r := 4) (ls := [some (.ref (G.1 + 0)), some (.int (iI (a))), some (.int (iI (b))), none, none, none, none]) rfl (Nat.le_of_ble_eq_true rfl) ?_
  refine ev_aload_n d_X_top_0 rfl rfl ?_
  refine ev_getf (kf := 13) (T := F_X) (C := R_X) (N := 14) (v := .null) d_X_top_1 fl_X_63 rfl i_X (by decide) (by omega) x0 rfl ?_
  refine ev_ifnullN d_X_top_4 ?_
  refine ev_iconst (v := (nI (0))) d_X_top_11 (by decide) ?_
  refine cs (mc' := 1) (ms' := 6) (k' := k_X_can) (As := [.int (nI (0))]) (stk := []) d_X_top_12 ml_X_84 kk_X_can rfl rfl (Nat.le_of_ble_eq_true rfl) (ct_can (d := d) (false)) (gdF (rfl) ?_)
  exact ⟨rfl, rfl, rfl⟩
theorem lp_X_at {k : Nat} (hk : k < c.mn) (hX : XM G n μ c lx ik tb tl ts (.ref (G.1 + t))) (hc : CfOK c) (hP : PM G n μ t l S w ct) (hK : PcOK c l) : ∀ (m : Nat) (i : Nat), i ≤ l.length → l.length < i + m → Ev G k_X_at (d + 8) 0 0 26 [some (.ref (G.1 + 0)), some (.int (nI (k))), some (.ref (G.1 + ik k)), some (.int (iI (atF l k i))), some (.int (nI (i)))] [] n μ ((Rd (some (.int (iI (atF l k l.length)))) n μ)) := by
  obtain ⟨hn, x0, x1, x2, x3, x4, x5, x11, x12, x18, x19, xi, xj⟩ := id hX
  obtain ⟨⟨hst1, hst2⟩, hfr, hpn, hpp, hmn, hwd, hnd, hpu, hnr, hbr, hle, hdef⟩ := id hc
  obtain ⟨g1, g2, g3, g4, fc, fb, p0, p1, p2, p3⟩ := id hP
  obtain ⟨hk1, hk2⟩ := id hK
  generalize hQ : (Rd (some (.int (iI (atF l k l.length)))) n μ) = Q
  intro m
  induction m with
  | zero =>
    intro i h1 h2
    exact absurd h2 (by omega)
  | succ m ih =>
    intro i hi him 
    refine ev_iload d_X_at_26 rfl ?_
    refine ev_aload_n d_X_at_28 rfl rfl ?_
    refine ev_getf (kf := 13) (T := F_X) (C := R_X) (N := 14) (v := .ref (G.1 + t)) d_X_at_29 fl_X_63 rfl i_X (by decide) (by omega) x0 rfl ?_
    refine ev_getN (kf := 2) (T := F_P) (C := R_P) (N := 6) (v := .int (nI (l.length))) d_X_at_32 fl_X_208 rfl i_P (by decide) (by omega) p0 rfl ?_
    refine ev_icmp_ge d_X_at_35 (fun c_35 => ?_) (fun c_35 => ?_)
    ·
      simp (disch := omega) only [nI_ltI, nI_leI, nI_eq, Nat.not_lt, Nat.not_le] at c_35
      refine ev_iload_n d_X_at_73 rfl rfl ?_
      refine ev_ireturn d_X_at_74 rfl rfl ?_
      subst hQ
      have hi2 : i = l.length := by omega
      subst hi2
      exact ⟨rfl, rfl, rfl⟩
    ·
      simp (disch := omega) only [nI_ltI, nI_leI, nI_eq, Nat.not_lt, Nat.not_le] at c_35
      have hki := hk2 i c_35
      have hJ_66 : ∀ z : Int, z = atF l k (i + 1) → Ev G k_X_at (d + 8) 0 0 66 [some (.ref (G.1 + 0)), some (.int (nI (k))), some (.ref (G.1 + ik k)), some (.int (iI (atF l k i))), some (.int (nI (i)))] [.int (iI (z))] n μ Q := by
        intro z hJ
        refine ev_istore_n (ls' := [_, _, _, _, _]) d_X_at_66 rfl (by decide) rfl rfl ?_
        refine ev_iinc (v := (nI (i + 1))) (ls' := [_, _, _, _, _]) d_X_at_67 rfl (nI_1 _) (by decide) rfl rfl ?_
        refine ev_goto d_X_at_70 ?_
        subst hJ
        exact ih (i + 1) (by omega) (by omega)
      refine ev_aload_n d_X_at_38 rfl rfl ?_
      refine ev_getf (kf := 13) (T := F_X) (C := R_X) (N := 14) (v := .ref (G.1 + t)) d_X_at_39 fl_X_63 rfl i_X (by decide) (by omega) x0 rfl ?_
      refine ev_getN (kf := 0) (T := F_P) (C := R_P) (N := 6) (v := .ref (G.1 + (t + 1))) d_X_at_42 fl_X_218 rfl i_P (by decide) (by omega) p0 rfl ?_
      refine ev_iload d_X_at_45 rfl ?_
      refine ev_iald (j := i) d_X_at_47 (by omega) p1 (by omega) (by decide) ?_
      refine ev_topi (w := nI (gN l i).1) (p3 i _ (gN_some (show i < l.length by omega))).1 ?_
      refine ev_iload_n d_X_at_48 rfl rfl ?_
      refine ev_icmp_ne d_X_at_49 (fun c_49 => ?_) (fun c_49 => ?_)
      ·
        simp (disch := omega) only [nI_ltI, nI_leI, nI_eq, Nat.not_lt, Nat.not_le] at c_49
        refine ev_iload_n d_X_at_65 rfl rfl ?_
        exact hJ_66 _ (by simp only [atF]; rw [if_neg c_49])
      ·
        simp (disch := omega) only [nI_ltI, nI_leI, nI_eq, Nat.not_lt, Nat.not_le] at c_49
        refine ev_aload_n d_X_at_52 rfl rfl ?_
        refine ev_getf (kf := 13) (T := F_X) (C := R_X) (N := 14) (v := .ref (G.1 + t)) d_X_at_53 fl_X_63 rfl i_X (by decide) (by omega) x0 rfl ?_
        refine ev_getN (kf := 1) (T := F_P) (C := R_P) (N := 6) (v := .ref (G.1 + (t + 2))) d_X_at_56 fl_X_221 rfl i_P (by decide) (by omega) p0 rfl ?_
        refine ev_iload d_X_at_59 rfl ?_
        refine ev_iald (j := i) d_X_at_61 (by omega) p2 (by omega) (by decide) ?_
        refine ev_topi (w := nI (gN l i).2) (p3 i _ (gN_some (show i < l.length by omega))).2 ?_
        refine ev_goto d_X_at_62 ?_
        rw [nI_iI]
        exact hJ_66 _ (by simp only [atF]; rw [if_pos c_49])
theorem ct_X_at_ok {k : Nat} (hk : k < c.mn) (hX : XM G n μ c lx ik tb tl ts (.ref (G.1 + t))) (hc : CfOK c) (hP : PM G n μ t l S w ct) (hK : PcOK c l) : Ct G k_X_at (d + 8) 2 12 [.ref (G.1 + 0), .int (nI k)] n μ (Rd (some (.int (iI (atF l k l.length)))) n μ) := by
  obtain ⟨hn, x0, x1, x2, x3, x4, x5, x11, x12, x18, x19, xi, xj⟩ := id hX
  obtain ⟨⟨hst1, hst2⟩, hfr, hpn, hpp, hmn, hwd, hnd, hpu, hnr, hbr, hle, hdef⟩ := id hc
  obtain ⟨g1, g2, g3, g4, fc, fb, p0, p1, p2, p3⟩ := id hP
  obtain ⟨hk1, hk2⟩ := id hK
  refine Ct.ofp (r := 3) (ls := [some (.ref (G.1 + 0)), some (.int (nI (k))), none, none, none]) rfl (Nat.le_of_ble_eq_true rfl) ?_
  refine ev_aload_n d_X_at_0 rfl rfl ?_
  refine ev_getf (kf := 13) (T := F_X) (C := R_X) (N := 14) (v := .ref (G.1 + t)) d_X_at_1 fl_X_63 rfl i_X (by decide) (by omega) x0 rfl ?_
  refine ev_ifnull d_X_at_4 ?_
  refine ev_iconst (v := (nI (1))) d_X_at_7 (by decide) ?_
  refine ev_goto d_X_at_8 ?_
  refine cs (mc' := 1) (ms' := 6) (k' := k_X_can) (As := [.int (nI (1))]) (stk := []) d_X_at_12 ml_X_84 kk_X_can rfl rfl (Nat.le_of_ble_eq_true rfl) (ct_can (d := d + 1) (true)) (gdT (rfl) ?_)
  refine ev_aload_n d_X_at_15 rfl rfl ?_
  refine ev_iload_n d_X_at_16 rfl rfl ?_
  refine cv (mc' := 1) (ms' := 6) (k' := k_X_itemAt) (As := [.int (nI (k))]) (stk := []) d_X_at_17 ml_X_97 kk_X_itemAt rfl rfl (Nat.le_of_ble_eq_true rfl) (by omega) x0 rfl rfl (ct_X_itemAt_ok (d := d) hk hX hc) (rd ?_)
  refine ev_astore_n (ls' := [_, _, _, none, none]) d_X_at_20 rfl (by decide) rfl rfl ?_
  refine ev_iconst (v := (iI ((-1)))) d_X_at_21 (by decide) ?_
  refine ev_istore_n (ls' := [_, _, _, _, none]) d_X_at_22 rfl (by decide) rfl rfl ?_
  refine ev_iconst (v := (nI (0))) d_X_at_23 (by decide) ?_
  refine ev_istore (ls' := [_, _, _, _, _]) d_X_at_24 (by decide) rfl rfl ?_
  exact lp_X_at hk hX hc hP hK (l.length + 1) 0 (by omega) (by omega)
theorem ct_X_at_no2 {a : Int} (ha1 : -2147483648 ≤ a) (ha2 : a < 2147483648) (hno : ¬ (0 ≤ a ∧ a < c.mn)) (hX : XM G n μ c lx ik tb tl ts (.ref (G.1 + t))) (hc : CfOK c) (hP : PM G n μ t l S w ct) (hK : PcOK c l) : Ct G k_X_at (d + 8) 2 12 [.ref (G.1 + 0), .int (iI a)] n μ (XT 6 n μ) := by
  obtain ⟨hn, x0, x1, x2, x3, x4, x5, x11, x12, x18, x19, xi, xj⟩ := id hX
  obtain ⟨⟨hst1, hst2⟩, hfr, hpn, hpp, hmn, hwd, hnd, hpu, hnr, hbr, hle, hdef⟩ := id hc
  obtain ⟨g1, g2, g3, g4, fc, fb, p0, p1, p2, p3⟩ := id hP
  obtain ⟨hk1, hk2⟩ := id hK
  refine Ct.ofp (r := 3) (ls := [some (.ref (G.1 + 0)), some (.int (iI (a))), none, none, none]) rfl (Nat.le_of_ble_eq_true rfl) ?_
  refine ev_aload_n d_X_at_0 rfl rfl ?_
  refine ev_getf (kf := 13) (T := F_X) (C := R_X) (N := 14) (v := .ref (G.1 + t)) d_X_at_1 fl_X_63 rfl i_X (by decide) (by omega) x0 rfl ?_
  refine ev_ifnull d_X_at_4 ?_
  refine ev_iconst (v := (nI (1))) d_X_at_7 (by decide) ?_
  refine ev_goto d_X_at_8 ?_
  refine cs (mc' := 1) (ms' := 6) (k' := k_X_can) (As := [.int (nI (1))]) (stk := []) d_X_at_12 ml_X_84 kk_X_can rfl rfl (Nat.le_of_ble_eq_true rfl) (ct_can (d := d + 1) (true)) (gdT (rfl) ?_)
  refine ev_aload_n d_X_at_15 rfl rfl ?_
  refine ev_iload_n d_X_at_16 rfl rfl ?_
  refine cv (mc' := 1) (ms' := 6) (k' := k_X_itemAt) (As := [.int (iI (a))]) (stk := []) d_X_at_17 ml_X_97 kk_X_itemAt rfl rfl (Nat.le_of_ble_eq_true rfl) (by omega) x0 rfl rfl (ct_X_itemAt_no (d := d) ha1 ha2 hno hX hc) (thr ?_)
  exact ⟨rfl, rfl, rfl⟩
theorem ct_X_wide {k : Nat} (hk : k < l.length) (hX : XM G n μ c lx ik tb tl ts (.ref (G.1 + t))) (hc : CfOK c) (hP : PM G n μ t l S w ct) (hK : PcOK c l) : Ct G k_X_wide d 0 0 [.ref (G.1 + 0), .int (nI k)] n μ (Rd (some (.int (nI (wdt c (gN l k))))) n μ) := by
  obtain ⟨hn, x0, x1, x2, x3, x4, x5, x11, x12, x18, x19, xi, xj⟩ := id hX
  obtain ⟨⟨hst1, hst2⟩, hfr, hpn, hpp, hmn, hwd, hnd, hpu, hnr, hbr, hle, hdef⟩ := id hc
  obtain ⟨g1, g2, g3, g4, fc, fb, p0, p1, p2, p3⟩ := id hP
  obtain ⟨hk1, hk2⟩ := id hK
  have hkk := hk2 k hk
  refine Ct.ofp (r := 1) (ls := [some (.ref (G.1 + 0)), some (.int (nI (k))), none]) rfl (Nat.le_of_ble_eq_true rfl) ?_
  refine ev_aload_n d_X_wide_0 rfl rfl ?_
  refine ev_getf (kf := 13) (T := F_X) (C := R_X) (N := 14) (v := .ref (G.1 + t)) d_X_wide_1 fl_X_63 rfl i_X (by decide) (by omega) x0 rfl ?_
  refine ev_getN (kf := 0) (T := F_P) (C := R_P) (N := 6) (v := .ref (G.1 + (t + 1))) d_X_wide_4 fl_X_218 rfl i_P (by decide) (by omega) p0 rfl ?_
  refine ev_iload_n d_X_wide_7 rfl rfl ?_
  refine ev_iald (j := k) d_X_wide_8 (by omega) p1 (by omega) (by decide) ?_
  refine ev_topi (w := nI (gN l k).1) (p3 k _ (gN_some (show k < l.length by omega))).1 ?_
  refine ev_istore_n (ls' := [_, _, _]) d_X_wide_9 rfl (by decide) rfl rfl ?_
  refine ev_iload_n d_X_wide_10 rfl rfl ?_
  refine ev_bipush (v := (nI (100))) d_X_wide_11 (by decide) ?_
  refine ev_icmp_lt d_X_wide_13 (fun c_13 => ?_) (fun c_13 => ?_)
  ·
    simp (disch := omega) only [nI_ltI, nI_leI, nI_eq, Nat.not_lt, Nat.not_le] at c_13
    have hcm : (gN l k).1 < c.mn := by omega
    refine ev_aload_n d_X_wide_23 rfl rfl ?_
    refine ev_getf (kf := 4) (T := F_X) (C := R_X) (N := 14) (v := .ref (G.1 + 3)) d_X_wide_24 fl_X_19 rfl i_X (by decide) (by omega) x0 rfl ?_
    refine ev_iload_n d_X_wide_27 rfl rfl ?_
    refine ev_aald (j := (gN l k).1) d_X_wide_28 (by omega) x3 (by decide) (by omega) (by decide) ?_
    refine ev_top (w := .ref (G.1 + ik ((gN l k).1))) (by rw [if_pos hcm]; rfl) ?_
    refine ev_getN (kf := 0) (T := F_I) (C := R_I) (N := 6) (v := .int (nI (c.wd ((gN l k).1)))) d_X_wide_29 fl_X_122 rfl i_I (by decide) (xi ((gN l k).1) hcm).2.1 (xi ((gN l k).1) hcm).2.2 rfl ?_
    refine ev_ireturn d_X_wide_32 rfl rfl ?_
    rw [show wdt c (gN l k) = c.wd (gN l k).1 from if_neg (by omega)]; exact ⟨rfl, rfl, rfl⟩
  ·
    simp (disch := omega) only [nI_ltI, nI_leI, nI_eq, Nat.not_lt, Nat.not_le] at c_13
    refine ev_iload_n d_X_wide_16 rfl rfl ?_
    refine ev_bipush (v := (nI (100))) d_X_wide_17 (by decide) ?_
    refine ev_isub d_X_wide_19 ?_
    refine ev_topi (w := (iI (((gN l k).1 : Int) - (100 : Int)))) (by (try simp only [nI_iI, iI_add, iI_sub, iI_mul]); (try rfl)) ?_
    refine ev_goto d_X_wide_20 ?_
    refine ev_ireturn d_X_wide_32 rfl rfl ?_
    rw [show wdt c (gN l k) = (gN l k).1 - 100 from if_pos c_13, nI_iI]
    refine ⟨?_, rfl, rfl⟩
    congr 4
    omega
theorem ct_X_plan_ok {k wh : Nat} (hk : k < l.length) (hw : wh ≤ 2) (hX : XM G n μ c lx ik tb tl ts (.ref (G.1 + t))) (hc : CfOK c) (hP : PM G n μ t l S w ct) (hK : PcOK c l) : Ct G k_X_plan (d + 7) 3 18 [.ref (G.1 + 0), .int (nI k), .int (nI wh)] n μ (Rd (some (.int (iI (plF c (gN l k) wh)))) n μ) := by
  obtain ⟨hn, x0, x1, x2, x3, x4, x5, x11, x12, x18, x19, xi, xj⟩ := id hX
  obtain ⟨⟨hst1, hst2⟩, hfr, hpn, hpp, hmn, hwd, hnd, hpu, hnr, hbr, hle, hdef⟩ := id hc
  obtain ⟨g1, g2, g3, g4, fc, fb, p0, p1, p2, p3⟩ := id hP
  obtain ⟨hk1, hk2⟩ := id hK
  have hkk := hk2 k hk
  refine Ct.ofp (r := 1) (ls := [some (.ref (G.1 + 0)), some (.int (nI (k))), some (.int (nI (wh))), none]) rfl (Nat.le_of_ble_eq_true rfl) ?_
  refine ev_aload_n d_X_plan_0 rfl rfl ?_
  refine ev_getf (kf := 13) (T := F_X) (C := R_X) (N := 14) (v := .ref (G.1 + t)) d_X_plan_1 fl_X_63 rfl i_X (by decide) (by omega) x0 rfl ?_
  refine ev_ifnull d_X_plan_4 ?_
  refine ev_iconst (v := (nI (1))) d_X_plan_7 (by decide) ?_
  refine ev_goto d_X_plan_8 ?_
  refine cs (mc' := 1) (ms' := 6) (k' := k_X_can) (As := [.int (nI (1))]) (stk := []) d_X_plan_12 ml_X_84 kk_X_can rfl rfl (Nat.le_of_ble_eq_true rfl) (ct_can (d := d) (true)) (gdT (rfl) ?_)
  refine ev_iload_n d_X_plan_15 rfl rfl ?_
  refine ev_i2l d_X_plan_16 ?_
  refine ev_topl (w := (lN (k))) (nI_l (by omega)) ?_
  refine ev_lconst (v := lN 0) d_X_plan_17 (by decide) ?_
  refine ev_aload_n d_X_plan_18 rfl rfl ?_
  refine ev_getf (kf := 13) (T := F_X) (C := R_X) (N := 14) (v := .ref (G.1 + t)) d_X_plan_19 fl_X_63 rfl i_X (by decide) (by omega) x0 rfl ?_
  refine ev_getN (kf := 2) (T := F_P) (C := R_P) (N := 6) (v := .int (nI (l.length))) d_X_plan_22 fl_X_208 rfl i_P (by decide) (by omega) p0 rfl ?_
  refine ev_i2l d_X_plan_25 ?_
  refine ev_topl (w := (lN (l.length))) (nI_l (by omega)) ?_
  refine ev_lconst (v := lN 1) d_X_plan_26 (by decide) ?_
  refine ev_lsub d_X_plan_27 ?_
  refine cs (mc' := 0) (ms' := 0) (k' := k_X_isIn) (As := [.long (lN (k)), .long (lN (0)), .long ((lN (l.length)) - (lN (1)))]) (stk := []) d_X_plan_28 ml_X_67 kk_X_isIn rfl rfl (Nat.le_of_ble_eq_true rfl) (ct_X_isInV (d := d + 6) (LZ_n (by omega)) (LZ_n (by omega)) (LZ_sub (LZ_n (by omega)) (LZ_n (by omega)) (by omega) (by omega))) (rd ?_)
  refine cs (mc' := 1) (ms' := 6) (k' := k_X_there) (As := [.int (b2 (decide (((0 : Nat) : Int) ≤ ((k : Nat) : Int) ∧ ((k : Nat) : Int) ≤ (((l.length : Nat) : Int) - ((1 : Nat) : Int)))))]) (stk := []) d_X_plan_31 ml_X_94 kk_X_there rfl rfl (Nat.le_of_ble_eq_true rfl) (ct_there (d := d) (decide (((0 : Nat) : Int) ≤ ((k : Nat) : Int) ∧ ((k : Nat) : Int) ≤ (((l.length : Nat) : Int) - ((1 : Nat) : Int))))) (gdT (decide_eq_true (by omega)) ?_)
  refine ev_iload_n d_X_plan_34 rfl rfl ?_
  refine ev_i2l d_X_plan_35 ?_
  refine ev_topl (w := (lN (wh))) (nI_l (by omega)) ?_
  refine ev_lconst (v := lN 0) d_X_plan_36 (by decide) ?_
  refine ev_ldc2 (v := (2)) d_X_plan_37 ck_X_224 ?_
  refine ev_topl (w := lN 2) (by decide) ?_
  refine cs (mc' := 0) (ms' := 0) (k' := k_X_isIn) (As := [.long (lN (wh)), .long (lN (0)), .long (lN (2))]) (stk := []) d_X_plan_40 ml_X_67 kk_X_isIn rfl rfl (Nat.le_of_ble_eq_true rfl) (ct_X_isInV (d := d + 6) (LZ_n (by omega)) (LZ_n (by omega)) (LZ_n (by omega))) (rd ?_)
  refine cs (mc' := 1) (ms' := 6) (k' := k_X_proper) (As := [.int (b2 (decide (((0 : Nat) : Int) ≤ ((wh : Nat) : Int) ∧ ((wh : Nat) : Int) ≤ ((2 : Nat) : Int))))]) (stk := []) d_X_plan_43 ml_X_71 kk_X_proper rfl rfl (Nat.le_of_ble_eq_true rfl) (ct_proper (d := d) (decide (((0 : Nat) : Int) ≤ ((wh : Nat) : Int) ∧ ((wh : Nat) : Int) ≤ ((2 : Nat) : Int)))) (gdT (decide_eq_true (by omega)) ?_)
  refine ev_aload_n d_X_plan_46 rfl rfl ?_
  refine ev_getf (kf := 13) (T := F_X) (C := R_X) (N := 14) (v := .ref (G.1 + t)) d_X_plan_47 fl_X_63 rfl i_X (by decide) (by omega) x0 rfl ?_
  refine ev_getN (kf := 0) (T := F_P) (C := R_P) (N := 6) (v := .ref (G.1 + (t + 1))) d_X_plan_50 fl_X_218 rfl i_P (by decide) (by omega) p0 rfl ?_
  refine ev_iload_n d_X_plan_53 rfl rfl ?_
  refine ev_iald (j := k) d_X_plan_54 (by omega) p1 (by omega) (by decide) ?_
  refine ev_topi (w := nI (gN l k).1) (p3 k _ (gN_some (show k < l.length by omega))).1 ?_
  refine ev_istore_n (ls' := [_, _, _, _]) d_X_plan_55 rfl (by decide) rfl rfl ?_
  refine ev_iload_n d_X_plan_56 rfl rfl ?_
  refine ev_if_ne d_X_plan_57 (fun c_57 => ?_) (fun c_57 => ?_)
  ·
    have c_57 : ¬ wh = 0 := fun q => c_57 (by rw [q]; rfl)
    refine ev_iload_n d_X_plan_74 rfl rfl ?_
    refine ev_iconst (v := (nI (1))) d_X_plan_75 (by decide) ?_
    refine ev_icmp_ne d_X_plan_76 (fun c_76 => ?_) (fun c_76 => ?_)
    ·
      simp (disch := omega) only [nI_ltI, nI_leI, nI_eq, Nat.not_lt, Nat.not_le] at c_76
      refine ev_aload_n d_X_plan_91 rfl rfl ?_
      refine ev_iload_n d_X_plan_92 rfl rfl ?_
      refine cv (mc' := 0) (ms' := 0) (k' := k_X_wide) (As := [.int (nI (k))]) (stk := []) d_X_plan_93 ml_X_226 kk_X_wide rfl rfl (Nat.le_of_ble_eq_true rfl) (by omega) x0 rfl rfl (ct_X_wide (d := d + 6) hk hX hc hP hK) (rd ?_)
      refine ev_ireturn d_X_plan_96 rfl rfl ?_
      rw [show plF c (gN l k) wh = (wdt c (gN l k) : Int) from by unfold plF; rw [if_neg c_57, if_neg c_76], ← nI_iI]; exact ⟨rfl, rfl, rfl⟩
    ·
      simp (disch := omega) only [nI_ltI, nI_leI, nI_eq, Nat.not_lt, Nat.not_le] at c_76
      refine ev_aload_n d_X_plan_79 rfl rfl ?_
      refine ev_getf (kf := 13) (T := F_X) (C := R_X) (N := 14) (v := .ref (G.1 + t)) d_X_plan_80 fl_X_63 rfl i_X (by decide) (by omega) x0 rfl ?_
      refine ev_getN (kf := 1) (T := F_P) (C := R_P) (N := 6) (v := .ref (G.1 + (t + 2))) d_X_plan_83 fl_X_221 rfl i_P (by decide) (by omega) p0 rfl ?_
      refine ev_iload_n d_X_plan_86 rfl rfl ?_
      refine ev_iald (j := k) d_X_plan_87 (by omega) p2 (by omega) (by decide) ?_
      refine ev_topi (w := nI (gN l k).2) (p3 k _ (gN_some (show k < l.length by omega))).2 ?_
      refine ev_goto d_X_plan_88 ?_
      refine ev_ireturn d_X_plan_96 rfl rfl ?_
      rw [show plF c (gN l k) wh = ((gN l k).2 : Int) from by unfold plF; rw [if_neg c_57, if_pos c_76], ← nI_iI]; exact ⟨rfl, rfl, rfl⟩
  ·
    have c_57 : wh = 0 := (nI_eq (b := 0) (by omega) (by omega)).mp c_57
    refine ev_iload_n d_X_plan_60 rfl rfl ?_
    refine ev_bipush (v := (nI (100))) d_X_plan_61 (by decide) ?_
    refine ev_icmp_lt d_X_plan_63 (fun c_63 => ?_) (fun c_63 => ?_)
    ·
      simp (disch := omega) only [nI_ltI, nI_leI, nI_eq, Nat.not_lt, Nat.not_le] at c_63
      refine ev_iload_n d_X_plan_70 rfl rfl ?_
      refine ev_goto d_X_plan_71 ?_
      refine ev_ireturn d_X_plan_96 rfl rfl ?_
      rw [show plF c (gN l k) wh = ((gN l k).1 : Int) from by unfold plF; rw [if_pos c_57, if_neg (by omega)], ← nI_iI]; exact ⟨rfl, rfl, rfl⟩
    ·
      simp (disch := omega) only [nI_ltI, nI_leI, nI_eq, Nat.not_lt, Nat.not_le] at c_63
      refine ev_iconst (v := (iI ((-1)))) d_X_plan_66 (by decide) ?_
      refine ev_goto d_X_plan_67 ?_
      refine ev_ireturn d_X_plan_96 rfl rfl ?_
      rw [show plF c (gN l k) wh = -1 from by unfold plF; rw [if_pos c_57, if_pos c_63]]; exact ⟨rfl, rfl, rfl⟩
theorem ct_X_plan_no2 {a b : Int} (ha1 : -2147483648 ≤ a) (ha2 : a < 2147483648) (hno : ¬ (0 ≤ a ∧ a < l.length)) (hX : XM G n μ c lx ik tb tl ts (.ref (G.1 + t))) (hc : CfOK c) (hP : PM G n μ t l S w ct) (hK : PcOK c l) : Ct G k_X_plan (d + 7) 3 18 [.ref (G.1 + 0), .int (iI a), .int (iI b)] n μ (XT 6 n μ) := by
  obtain ⟨hn, x0, x1, x2, x3, x4, x5, x11, x12, x18, x19, xi, xj⟩ := id hX
  obtain ⟨⟨hst1, hst2⟩, hfr, hpn, hpp, hmn, hwd, hnd, hpu, hnr, hbr, hle, hdef⟩ := id hc
  obtain ⟨g1, g2, g3, g4, fc, fb, p0, p1, p2, p3⟩ := id hP
  obtain ⟨hk1, hk2⟩ := id hK
  refine Ct.ofp (r := 1) (ls := [some (.ref (G.1 + 0)), some (.int (iI (a))), some (.int (iI (b))), none]) rfl (Nat.le_of_ble_eq_true rfl) ?_
  refine ev_aload_n d_X_plan_0 rfl rfl ?_
  refine ev_getf (kf := 13) (T := F_X) (C := R_X) (N := 14) (v := .ref (G.1 + t)) d_X_plan_1 fl_X_63 rfl i_X (by decide) (by omega) x0 rfl ?_
  refine ev_ifnull d_X_plan_4 ?_
  refine ev_iconst (v := (nI (1))) d_X_plan_7 (by decide) ?_
  refine ev_goto d_X_plan_8 ?_
  refine cs (mc' := 1) (ms' := 6) (k' := k_X_can) (As := [.int (nI (1))]) (stk := []) d_X_plan_12 ml_X_84 kk_X_can rfl rfl (Nat.le_of_ble_eq_true rfl) (ct_can (d := d) (true)) (gdT (rfl) ?_)
  refine ev_iload_n d_X_plan_15 rfl rfl ?_
  refine ev_i2l d_X_plan_16 ?_
  refine ev_lconst (v := lN 0) d_X_plan_17 (by decide) ?_
  refine ev_aload_n d_X_plan_18 rfl rfl ?_
  refine ev_getf (kf := 13) (T := F_X) (C := R_X) (N := 14) (v := .ref (G.1 + t)) d_X_plan_19 fl_X_63 rfl i_X (by decide) (by omega) x0 rfl ?_
  refine ev_getN (kf := 2) (T := F_P) (C := R_P) (N := 6) (v := .int (nI (l.length))) d_X_plan_22 fl_X_208 rfl i_P (by decide) (by omega) p0 rfl ?_
  refine ev_i2l d_X_plan_25 ?_
  refine ev_topl (w := (lN (l.length))) (nI_l (by omega)) ?_
  refine ev_lconst (v := lN 1) d_X_plan_26 (by decide) ?_
  refine ev_lsub d_X_plan_27 ?_
  refine cs (mc' := 0) (ms' := 0) (k' := k_X_isIn) (As := [.long (((iI (a))).toInt64), .long (lN (0)), .long ((lN (l.length)) - (lN (1)))]) (stk := []) d_X_plan_28 ml_X_67 kk_X_isIn rfl rfl (Nat.le_of_ble_eq_true rfl) (ct_X_isInV (d := d + 6) (LZ_z (by omega) (by omega)) (LZ_n (by omega)) (LZ_sub (LZ_n (by omega)) (LZ_n (by omega)) (by omega) (by omega))) (rd ?_)
  refine cs (mc' := 1) (ms' := 6) (k' := k_X_there) (As := [.int (b2 (decide (((0 : Nat) : Int) ≤ a ∧ a ≤ (((l.length : Nat) : Int) - ((1 : Nat) : Int)))))]) (stk := []) d_X_plan_31 ml_X_94 kk_X_there rfl rfl (Nat.le_of_ble_eq_true rfl) (ct_there (d := d) (decide (((0 : Nat) : Int) ≤ a ∧ a ≤ (((l.length : Nat) : Int) - ((1 : Nat) : Int))))) (gdF (decide_eq_false (by omega)) ?_)
  exact ⟨rfl, rfl, rfl⟩
theorem ct_X_plan_no3 {k : Nat} {b : Int} (hb1 : -2147483648 ≤ b) (hb2 : b < 2147483648) (hk : k < l.length) (hno : ¬ (0 ≤ b ∧ b ≤ 2)) (hX : XM G n μ c lx ik tb tl ts (.ref (G.1 + t))) (hc : CfOK c) (hP : PM G n μ t l S w ct) (hK : PcOK c l) : Ct G k_X_plan (d + 7) 3 18 [.ref (G.1 + 0), .int (nI k), .int (iI b)] n μ (XT 4 n μ) := by
  obtain ⟨hn, x0, x1, x2, x3, x4, x5, x11, x12, x18, x19, xi, xj⟩ := id hX
  obtain ⟨⟨hst1, hst2⟩, hfr, hpn, hpp, hmn, hwd, hnd, hpu, hnr, hbr, hle, hdef⟩ := id hc
  obtain ⟨g1, g2, g3, g4, fc, fb, p0, p1, p2, p3⟩ := id hP
  obtain ⟨hk1, hk2⟩ := id hK
  refine Ct.ofp (r := 1) (ls := [some (.ref (G.1 + 0)), some (.int (nI (k))), some (.int (iI (b))), none]) rfl (Nat.le_of_ble_eq_true rfl) ?_
  refine ev_aload_n d_X_plan_0 rfl rfl ?_
  refine ev_getf (kf := 13) (T := F_X) (C := R_X) (N := 14) (v := .ref (G.1 + t)) d_X_plan_1 fl_X_63 rfl i_X (by decide) (by omega) x0 rfl ?_
  refine ev_ifnull d_X_plan_4 ?_
  refine ev_iconst (v := (nI (1))) d_X_plan_7 (by decide) ?_
  refine ev_goto d_X_plan_8 ?_
  refine cs (mc' := 1) (ms' := 6) (k' := k_X_can) (As := [.int (nI (1))]) (stk := []) d_X_plan_12 ml_X_84 kk_X_can rfl rfl (Nat.le_of_ble_eq_true rfl) (ct_can (d := d) (true)) (gdT (rfl) ?_)
  refine ev_iload_n d_X_plan_15 rfl rfl ?_
  refine ev_i2l d_X_plan_16 ?_
  refine ev_topl (w := (lN (k))) (nI_l (by omega)) ?_
  refine ev_lconst (v := lN 0) d_X_plan_17 (by decide) ?_
  refine ev_aload_n d_X_plan_18 rfl rfl ?_
  refine ev_getf (kf := 13) (T := F_X) (C := R_X) (N := 14) (v := .ref (G.1 + t)) d_X_plan_19 fl_X_63 rfl i_X (by decide) (by omega) x0 rfl ?_
  refine ev_getN (kf := 2) (T := F_P) (C := R_P) (N := 6) (v := .int (nI (l.length))) d_X_plan_22 fl_X_208 rfl i_P (by decide) (by omega) p0 rfl ?_
  refine ev_i2l d_X_plan_25 ?_
  refine ev_topl (w := (lN (l.length))) (nI_l (by omega)) ?_
  refine ev_lconst (v := lN 1) d_X_plan_26 (by decide) ?_
  refine ev_lsub d_X_plan_27 ?_
  refine cs (mc' := 0) (ms' := 0) (k' := k_X_isIn) (As := [.long (lN (k)), .long (lN (0)), .long ((lN (l.length)) - (lN (1)))]) (stk := []) d_X_plan_28 ml_X_67 kk_X_isIn rfl rfl (Nat.le_of_ble_eq_true rfl) (ct_X_isInV (d := d + 6) (LZ_n (by omega)) (LZ_n (by omega)) (LZ_sub (LZ_n (by omega)) (LZ_n (by omega)) (by omega) (by omega))) (rd ?_)
  refine cs (mc' := 1) (ms' := 6) (k' := k_X_there) (As := [.int (b2 (decide (((0 : Nat) : Int) ≤ ((k : Nat) : Int) ∧ ((k : Nat) : Int) ≤ (((l.length : Nat) : Int) - ((1 : Nat) : Int)))))]) (stk := []) d_X_plan_31 ml_X_94 kk_X_there rfl rfl (Nat.le_of_ble_eq_true rfl) (ct_there (d := d) (decide (((0 : Nat) : Int) ≤ ((k : Nat) : Int) ∧ ((k : Nat) : Int) ≤ (((l.length : Nat) : Int) - ((1 : Nat) : Int))))) (gdT (decide_eq_true (by omega)) ?_)
  refine ev_iload_n d_X_plan_34 rfl rfl ?_
  refine ev_i2l d_X_plan_35 ?_
  refine ev_lconst (v := lN 0) d_X_plan_36 (by decide) ?_
  refine ev_ldc2 (v := (2)) d_X_plan_37 ck_X_224 ?_
  refine ev_topl (w := lN 2) (by decide) ?_
  refine cs (mc' := 0) (ms' := 0) (k' := k_X_isIn) (As := [.long (((iI (b))).toInt64), .long (lN (0)), .long (lN (2))]) (stk := []) d_X_plan_40 ml_X_67 kk_X_isIn rfl rfl (Nat.le_of_ble_eq_true rfl) (ct_X_isInV (d := d + 6) (LZ_z (by omega) (by omega)) (LZ_n (by omega)) (LZ_n (by omega))) (rd ?_)
  refine cs (mc' := 1) (ms' := 6) (k' := k_X_proper) (As := [.int (b2 (decide (((0 : Nat) : Int) ≤ b ∧ b ≤ ((2 : Nat) : Int))))]) (stk := []) d_X_plan_43 ml_X_71 kk_X_proper rfl rfl (Nat.le_of_ble_eq_true rfl) (ct_proper (d := d) (decide (((0 : Nat) : Int) ≤ b ∧ b ≤ ((2 : Nat) : Int)))) (gdF (decide_eq_false (by omega)) ?_)
  exact ⟨rfl, rfl, rfl⟩
theorem ct_X_worth_ok {wh : Nat} (hw : wh ≤ 1) (hX : XM G n μ c lx ik tb tl ts (.ref (G.1 + t))) (hc : CfOK c) (hP : PM G n μ t l S w ct) (hK : PcOK c l) : Ct G k_X_worth (d + 7) 2 12 [.ref (G.1 + 0), .int (nI wh)] n μ (Rd (some (.long (lN (if wh = 0 then w else ct)))) n μ) := by
  obtain ⟨hn, x0, x1, x2, x3, x4, x5, x11, x12, x18, x19, xi, xj⟩ := id hX
  obtain ⟨⟨hst1, hst2⟩, hfr, hpn, hpp, hmn, hwd, hnd, hpu, hnr, hbr, hle, hdef⟩ := id hc
  obtain ⟨g1, g2, g3, g4, fc, fb, p0, p1, p2, p3⟩ := id hP
  obtain ⟨hk1, hk2⟩ := id hK
  refine Ct.ofp (r := 0) (ls := [some (.ref (G.1 + 0)), some (.int (nI (wh)))]) rfl (Nat.le_of_ble_eq_true rfl) ?_
  refine ev_aload_n d_X_worth_0 rfl rfl ?_
  refine ev_getf (kf := 13) (T := F_X) (C := R_X) (N := 14) (v := .ref (G.1 + t)) d_X_worth_1 fl_X_63 rfl i_X (by decide) (by omega) x0 rfl ?_
  refine ev_ifnull d_X_worth_4 ?_
  refine ev_iconst (v := (nI (1))) d_X_worth_7 (by decide) ?_
  refine ev_goto d_X_worth_8 ?_
  refine cs (mc' := 1) (ms' := 6) (k' := k_X_can) (As := [.int (nI (1))]) (stk := []) d_X_worth_12 ml_X_84 kk_X_can rfl rfl (Nat.le_of_ble_eq_true rfl) (ct_can (d := d) (true)) (gdT (rfl) ?_)
  refine ev_iload_n d_X_worth_15 rfl rfl ?_
  refine ev_i2l d_X_worth_16 ?_
  refine ev_topl (w := (lN (wh))) (nI_l (by omega)) ?_
  refine ev_lconst (v := lN 0) d_X_worth_17 (by decide) ?_
  refine ev_lconst (v := lN 1) d_X_worth_18 (by decide) ?_
  refine cs (mc' := 0) (ms' := 0) (k' := k_X_isIn) (As := [.long (lN (wh)), .long (lN (0)), .long (lN (1))]) (stk := []) d_X_worth_19 ml_X_67 kk_X_isIn rfl rfl (Nat.le_of_ble_eq_true rfl) (ct_X_isInV (d := d + 6) (LZ_n (by omega)) (LZ_n (by omega)) (LZ_n (by omega))) (rd ?_)
  refine cs (mc' := 1) (ms' := 6) (k' := k_X_there) (As := [.int (b2 (decide (((0 : Nat) : Int) ≤ ((wh : Nat) : Int) ∧ ((wh : Nat) : Int) ≤ ((1 : Nat) : Int))))]) (stk := []) d_X_worth_22 ml_X_94 kk_X_there rfl rfl (Nat.le_of_ble_eq_true rfl) (ct_there (d := d) (decide (((0 : Nat) : Int) ≤ ((wh : Nat) : Int) ∧ ((wh : Nat) : Int) ≤ ((1 : Nat) : Int)))) (gdT (decide_eq_true (by omega)) ?_)
  refine ev_iload_n d_X_worth_25 rfl rfl ?_
  refine ev_if_ne d_X_worth_26 (fun c_26 => ?_) (fun c_26 => ?_)
  ·
    have c_26 : ¬ wh = 0 := fun q => c_26 (by rw [q]; rfl)
    refine ev_aload_n d_X_worth_39 rfl rfl ?_
    refine ev_getf (kf := 13) (T := F_X) (C := R_X) (N := 14) (v := .ref (G.1 + t)) d_X_worth_40 fl_X_63 rfl i_X (by decide) (by omega) x0 rfl ?_
    refine ev_getN (kf := 5) (T := F_P) (C := R_P) (N := 6) (v := .long (lN (ct))) d_X_worth_43 fl_X_170 rfl i_P (by decide) (by omega) p0 rfl ?_
    refine ev_lreturn d_X_worth_46 rfl ?_
    rw [if_neg c_26]; exact ⟨rfl, rfl, rfl⟩
  ·
    have c_26 : wh = 0 := (nI_eq (b := 0) (by omega) (by omega)).mp c_26
    refine ev_aload_n d_X_worth_29 rfl rfl ?_
    refine ev_getf (kf := 13) (T := F_X) (C := R_X) (N := 14) (v := .ref (G.1 + t)) d_X_worth_30 fl_X_63 rfl i_X (by decide) (by omega) x0 rfl ?_
    refine ev_getN (kf := 4) (T := F_P) (C := R_P) (N := 6) (v := .long (lN (w))) d_X_worth_33 fl_X_169 rfl i_P (by decide) (by omega) p0 rfl ?_
    refine ev_goto d_X_worth_36 ?_
    refine ev_lreturn d_X_worth_46 rfl ?_
    rw [if_pos c_26]; exact ⟨rfl, rfl, rfl⟩
theorem ct_X_worth_no2 {a : Int} (ha1 : -2147483648 ≤ a) (ha2 : a < 2147483648) (hno : ¬ (0 ≤ a ∧ a ≤ 1)) (hX : XM G n μ c lx ik tb tl ts (.ref (G.1 + t))) (hc : CfOK c) (hP : PM G n μ t l S w ct) (hK : PcOK c l) : Ct G k_X_worth (d + 7) 2 12 [.ref (G.1 + 0), .int (iI a)] n μ (XT 6 n μ) := by
  obtain ⟨hn, x0, x1, x2, x3, x4, x5, x11, x12, x18, x19, xi, xj⟩ := id hX
  obtain ⟨⟨hst1, hst2⟩, hfr, hpn, hpp, hmn, hwd, hnd, hpu, hnr, hbr, hle, hdef⟩ := id hc
  obtain ⟨g1, g2, g3, g4, fc, fb, p0, p1, p2, p3⟩ := id hP
  obtain ⟨hk1, hk2⟩ := id hK
  refine Ct.ofp (r := 0) (ls := [some (.ref (G.1 + 0)), some (.int (iI (a)))]) rfl (Nat.le_of_ble_eq_true rfl) ?_
  refine ev_aload_n d_X_worth_0 rfl rfl ?_
  refine ev_getf (kf := 13) (T := F_X) (C := R_X) (N := 14) (v := .ref (G.1 + t)) d_X_worth_1 fl_X_63 rfl i_X (by decide) (by omega) x0 rfl ?_
  refine ev_ifnull d_X_worth_4 ?_
  refine ev_iconst (v := (nI (1))) d_X_worth_7 (by decide) ?_
  refine ev_goto d_X_worth_8 ?_
  refine cs (mc' := 1) (ms' := 6) (k' := k_X_can) (As := [.int (nI (1))]) (stk := []) d_X_worth_12 ml_X_84 kk_X_can rfl rfl (Nat.le_of_ble_eq_true rfl) (ct_can (d := d) (true)) (gdT (rfl) ?_)
  refine ev_iload_n d_X_worth_15 rfl rfl ?_
  refine ev_i2l d_X_worth_16 ?_
  refine ev_lconst (v := lN 0) d_X_worth_17 (by decide) ?_
  refine ev_lconst (v := lN 1) d_X_worth_18 (by decide) ?_
  refine cs (mc' := 0) (ms' := 0) (k' := k_X_isIn) (As := [.long (((iI (a))).toInt64), .long (lN (0)), .long (lN (1))]) (stk := []) d_X_worth_19 ml_X_67 kk_X_isIn rfl rfl (Nat.le_of_ble_eq_true rfl) (ct_X_isInV (d := d + 6) (LZ_z (by omega) (by omega)) (LZ_n (by omega)) (LZ_n (by omega))) (rd ?_)
  refine cs (mc' := 1) (ms' := 6) (k' := k_X_there) (As := [.int (b2 (decide (((0 : Nat) : Int) ≤ a ∧ a ≤ ((1 : Nat) : Int))))]) (stk := []) d_X_worth_22 ml_X_94 kk_X_there rfl rfl (Nat.le_of_ble_eq_true rfl) (ct_there (d := d) (decide (((0 : Nat) : Int) ≤ a ∧ a ≤ ((1 : Nat) : Int)))) (gdF (decide_eq_false (by omega)) ?_)
  exact ⟨rfl, rfl, rfl⟩
theorem ct_X_begins {p : Nat} (hp : p < l.length) (hX : XM G n μ c lx ik tb tl ts (.ref (G.1 + t))) (hc : CfOK c) (hP : PM G n μ t l S w ct) (hK : PcOK c l) : Ct G k_X_begins (d + 1) 0 0 [.ref (G.1 + 0), .int (nI p)] n μ (Rd (some (.int (b2 (bgB c l p)))) n μ) := by
  obtain ⟨hn, x0, x1, x2, x3, x4, x5, x11, x12, x18, x19, xi, xj⟩ := id hX
  obtain ⟨⟨hst1, hst2⟩, hfr, hpn, hpp, hmn, hwd, hnd, hpu, hnr, hbr, hle, hdef⟩ := id hc
  obtain ⟨g1, g2, g3, g4, fc, fb, p0, p1, p2, p3⟩ := id hP
  obtain ⟨hk1, hk2⟩ := id hK
  have hkk := hk2 p hp
  refine Ct.ofp (r := 0) (ls := [some (.ref (G.1 + 0)), some (.int (nI (p)))]) rfl (Nat.le_of_ble_eq_true rfl) ?_
  refine ev_iload_n d_X_begins_0 rfl rfl ?_
  refine ev_if_eq d_X_begins_1 (fun c_1 => ?_) (fun c_1 => ?_)
  ·
    have c_1 : p = 0 := (nI_eq (b := 0) (by omega) (by omega)).mp c_1
    refine ev_iconst (v := (nI (1))) d_X_begins_35 (by decide) ?_
    refine ev_goto d_X_begins_36 ?_
    refine ev_ireturn d_X_begins_40 rfl rfl ?_
    exact ret1 (by unfold bgB; simp; omega)
  ·
    have c_1 : ¬ p = 0 := fun q => c_1 (by rw [q]; rfl)
    have hkq := hk2 (p - 1) (by omega)
    have hwq := wdt_le hc hK (show p - 1 < l.length by omega)
    refine ev_aload_n d_X_begins_4 rfl rfl ?_
    refine ev_getf (kf := 13) (T := F_X) (C := R_X) (N := 14) (v := .ref (G.1 + t)) d_X_begins_5 fl_X_63 rfl i_X (by decide) (by omega) x0 rfl ?_
    refine ev_getN (kf := 1) (T := F_P) (C := R_P) (N := 6) (v := .ref (G.1 + (t + 2))) d_X_begins_8 fl_X_221 rfl i_P (by decide) (by omega) p0 rfl ?_
    refine ev_iload_n d_X_begins_11 rfl rfl ?_
    refine ev_iconst (v := (nI (1))) d_X_begins_12 (by decide) ?_
    refine ev_isub d_X_begins_13 ?_
    refine ev_topi (w := (nI (p - 1))) (by rw [nI_iI, nI_iI, iI_sub, nI_iI]; congr 1; omega) ?_
    refine ev_iald (j := p - 1) d_X_begins_14 (by omega) p2 (by omega) (by decide) ?_
    refine ev_topi (w := nI (gN l (p - 1)).2) (p3 (p - 1) _ (gN_some (show p - 1 < l.length by omega))).2 ?_
    refine ev_aload_n d_X_begins_15 rfl rfl ?_
    refine ev_iload_n d_X_begins_16 rfl rfl ?_
    refine ev_iconst (v := (nI (1))) d_X_begins_17 (by decide) ?_
    refine ev_isub d_X_begins_18 ?_
    refine ev_topi (w := (nI (p - 1))) (by rw [nI_iI, nI_iI, iI_sub, nI_iI]; congr 1; omega) ?_
    refine cv (mc' := 0) (ms' := 0) (k' := k_X_wide) (As := [.int (nI (p - 1))]) (stk := [.int (nI ((gN l (p - 1)).2))]) d_X_begins_19 ml_X_226 kk_X_wide rfl rfl (Nat.le_of_ble_eq_true rfl) (by omega) x0 rfl rfl (ct_X_wide (d := d) (show p - 1 < l.length by omega) hX hc hP hK) (rd ?_)
    refine ev_iadd d_X_begins_22 ?_
    refine ev_topi (w := (nI (((gN l (p - 1)).2) + (wdt c (gN l (p - 1)))))) (nI_add _ _) ?_
    refine ev_aload_n d_X_begins_23 rfl rfl ?_
    refine ev_getf (kf := 13) (T := F_X) (C := R_X) (N := 14) (v := .ref (G.1 + t)) d_X_begins_24 fl_X_63 rfl i_X (by decide) (by omega) x0 rfl ?_
    refine ev_getN (kf := 1) (T := F_P) (C := R_P) (N := 6) (v := .ref (G.1 + (t + 2))) d_X_begins_27 fl_X_221 rfl i_P (by decide) (by omega) p0 rfl ?_
    refine ev_iload_n d_X_begins_30 rfl rfl ?_
    refine ev_iald (j := p) d_X_begins_31 (by omega) p2 (by omega) (by decide) ?_
    refine ev_topi (w := nI (gN l p).2) (p3 p _ (gN_some (show p < l.length by omega))).2 ?_
    refine ev_icmp_eq d_X_begins_32 (fun c_32 => ?_) (fun c_32 => ?_)
    ·
      simp (disch := omega) only [nI_ltI, nI_leI, nI_eq, Nat.not_lt, Nat.not_le] at c_32
      refine ev_iconst (v := (nI (0))) d_X_begins_39 (by decide) ?_
      refine ev_ireturn d_X_begins_40 rfl rfl ?_
      exact ret0 (by unfold bgB; simp; omega)
    ·
      simp (disch := omega) only [nI_ltI, nI_leI, nI_eq, Nat.not_lt, Nat.not_le] at c_32
      refine ev_iconst (v := (nI (1))) d_X_begins_35 (by decide) ?_
      refine ev_goto d_X_begins_36 ?_
      refine ev_ireturn d_X_begins_40 rfl rfl ?_
      exact ret1 (by unfold bgB; simp; omega)
theorem lp_X_top {Q : Oc → Nat → Mem → Prop} {rc rs : Nat} {z wh : Int} (hz1 : -2147483648 ≤ z) (hz2 : z < 2147483648) (hX : XM G n μ c lx ik tb tl ts (.ref (G.1 + t))) (hc : CfOK c) (hP : PM G n μ t l S w ct) (hK : PcOK c l) (hK2 : Ev G k_X_top (d + 7) rc rs 102 [some (.ref (G.1 + 0)), some (.int (iI (z))), some (.int (iI (wh))), some (.int (nI (tpN c l l.length))), some (.int (iI (frZ c l z l.length))), some (.int (nI (szN c l z l.length))), some (.int (nI (l.length)))] [] n μ Q) : ∀ (m p : Nat), p ≤ l.length → l.length < p + m → Ev G k_X_top (d + 7) rc rs 26 [some (.ref (G.1 + 0)), some (.int (iI (z))), some (.int (iI (wh))), some (.int (nI (tpN c l p))), some (.int (iI (frZ c l z p))), some (.int (nI (szN c l z p))), some (.int (nI (p)))] [] n μ Q := by
  obtain ⟨hn, x0, x1, x2, x3, x4, x5, x11, x12, x18, x19, xi, xj⟩ := id hX
  obtain ⟨⟨hst1, hst2⟩, hfr, hpn, hpp, hmn, hwd, hnd, hpu, hnr, hbr, hle, hdef⟩ := id hc
  obtain ⟨g1, g2, g3, g4, fc, fb, p0, p1, p2, p3⟩ := id hP
  obtain ⟨hk1, hk2⟩ := id hK
  intro m
  induction m with
  | zero =>
    intro p h1 h2
    exact absurd h2 (by omega)
  | succ m ih =>
    intro p hp hpm
    have htp := tpN_le c l p
    have hfz := frZ_bd hK z p hp
    have hsz := szN_bd hc hK z p hp
    refine ev_iload d_X_top_26 rfl ?_
    refine ev_aload_n d_X_top_28 rfl rfl ?_
    refine ev_getf (kf := 13) (T := F_X) (C := R_X) (N := 14) (v := .ref (G.1 + t)) d_X_top_29 fl_X_63 rfl i_X (by decide) (by omega) x0 rfl ?_
    refine ev_getN (kf := 2) (T := F_P) (C := R_P) (N := 6) (v := .int (nI (l.length))) d_X_top_32 fl_X_208 rfl i_P (by decide) (by omega) p0 rfl ?_
    refine ev_icmp_ge d_X_top_35 (fun c_35 => ?_) (fun c_35 => ?_)
    ·
      simp (disch := omega) only [nI_ltI, nI_leI, nI_eq, Nat.not_lt, Nat.not_le] at c_35
      have hp2 : p = l.length := by omega
      subst hp2
      exact hK2
    ·
      simp (disch := omega) only [nI_ltI, nI_leI, nI_eq, Nat.not_lt, Nat.not_le] at c_35
      have hkp := hk2 p c_35
      have hwp := wdt_le hc hK c_35
      refine ev_iload_n d_X_top_38 rfl rfl ?_
      have hJ_53 : ∀ b : Nat, (b = if bgB c l p then 1 else 0) → Ev G k_X_top (d + 7) rc rs 53 [some (.ref (G.1 + 0)), some (.int (iI (z))), some (.int (iI (wh))), some (.int (nI (tpN c l p))), some (.int (iI (frZ c l z p))), some (.int (nI (szN c l z p))), some (.int (nI (p)))] [.int (nI (b)), .int (nI (tpN c l p))] n μ Q := by
        intro b hJ
        refine ev_iadd d_X_top_53 ?_
        refine ev_topi (w := (nI ((tpN c l p) + b))) (nI_add _ _) ?_
        refine ev_istore_n (ls' := [_, _, _, _, _, _, _]) d_X_top_54 rfl (by decide) rfl rfl ?_
        have htp1 : (b : Nat) = tpN c l (p + 1) - tpN c l p := by rw [hJ]; simp only [tpN]; omega
        have htp2 : tpN c l p + b = tpN c l (p + 1) := by rw [hJ]; rfl
        rw [htp2]
        have htp3 := tpN_le c l (p + 1)
        refine ev_iload_n d_X_top_55 rfl rfl ?_
        refine ev_iconst (v := (nI (1))) d_X_top_56 (by decide) ?_
        refine ev_isub d_X_top_57 ?_
        refine ev_topi (w := (iI ((tpN c l (p + 1) : Int) - (1 : Int)))) (by (try simp only [nI_iI, iI_add, iI_sub, iI_mul]); (try rfl)) ?_
        refine ev_iload_n d_X_top_58 rfl rfl ?_
        refine ev_icmp_ne d_X_top_59 (fun c_59 => ?_) (fun c_59 => ?_)
        ·
          simp (disch := omega) only [nI_iI, iI_ltI, iI_leI, iI_eq, Int.not_lt, Int.not_le] at c_59
          refine ev_iinc (v := (nI (p + 1))) (ls' := [_, _, _, _, _, _, _]) d_X_top_96 rfl (nI_1 _) (by decide) rfl rfl ?_
          refine ev_goto d_X_top_99 ?_
          have e1 : frZ c l z p = frZ c l z (p + 1) := by simp only [frZ]; rw [if_neg c_59]
          have e2 : szN c l z p = szN c l z (p + 1) := by simp only [szN]; rw [if_neg c_59]
          rw [e1, e2]
          exact ih (p + 1) (by omega) (by omega)
        ·
          simp (disch := omega) only [nI_iI, iI_ltI, iI_leI, iI_eq, Int.not_lt, Int.not_le] at c_59
          have hJ_83 : ∀ y : Int, (y = if frZ c l z p = -1 then ((gN l p).2 : Int) else frZ c l z p) → Ev G k_X_top (d + 7) rc rs 83 [some (.ref (G.1 + 0)), some (.int (iI (z))), some (.int (iI (wh))), some (.int (nI (tpN c l (p + 1)))), some (.int (iI (frZ c l z p))), some (.int (nI (szN c l z p))), some (.int (nI (p)))] [.int (iI (y))] n μ Q := by
            intro y hJ
            refine ev_istore (ls' := [_, _, _, _, _, _, _]) d_X_top_83 (by decide) rfl rfl ?_
            refine ev_iload d_X_top_85 rfl ?_
            refine ev_aload_n d_X_top_87 rfl rfl ?_
            refine ev_iload d_X_top_88 rfl ?_
            refine cv (mc' := 0) (ms' := 0) (k' := k_X_wide) (As := [.int (nI (p))]) (stk := [.int (nI (szN c l z p))]) d_X_top_90 ml_X_226 kk_X_wide rfl rfl (Nat.le_of_ble_eq_true rfl) (by omega) x0 rfl rfl (ct_X_wide (d := d + 6) c_35 hX hc hP hK) (rd ?_)
            refine ev_iadd d_X_top_93 ?_
            refine ev_topi (w := (nI ((szN c l z p) + (wdt c (gN l p))))) (nI_add _ _) ?_
            refine ev_istore (ls' := [_, _, _, _, _, _, _]) d_X_top_94 (by decide) rfl rfl ?_
            refine ev_iinc (v := (nI (p + 1))) (ls' := [_, _, _, _, _, _, _]) d_X_top_96 rfl (nI_1 _) (by decide) rfl rfl ?_
            refine ev_goto d_X_top_99 ?_
            have e1 : y = frZ c l z (p + 1) := by rw [hJ]; simp only [frZ]; rw [if_pos c_59]
            have e2 : szN c l z p + wdt c (gN l p) = szN c l z (p + 1) := by simp only [szN]; rw [if_pos c_59]
            rw [e1, e2]
            exact ih (p + 1) (by omega) (by omega)
          refine ev_iload d_X_top_62 rfl ?_
          refine ev_iconst (v := (iI ((-1)))) d_X_top_64 (by decide) ?_
          refine ev_icmp_ne d_X_top_65 (fun c_65 => ?_) (fun c_65 => ?_)
          ·
            simp (disch := omega) only [nI_iI, iI_ltI, iI_leI, iI_eq, Int.not_lt, Int.not_le] at c_65
            refine ev_iload d_X_top_81 rfl ?_
            exact hJ_83 _ (by rw [if_neg c_65])
          ·
            simp (disch := omega) only [nI_iI, iI_ltI, iI_leI, iI_eq, Int.not_lt, Int.not_le] at c_65
            refine ev_aload_n d_X_top_68 rfl rfl ?_
            refine ev_getf (kf := 13) (T := F_X) (C := R_X) (N := 14) (v := .ref (G.1 + t)) d_X_top_69 fl_X_63 rfl i_X (by decide) (by omega) x0 rfl ?_
            refine ev_getN (kf := 1) (T := F_P) (C := R_P) (N := 6) (v := .ref (G.1 + (t + 2))) d_X_top_72 fl_X_221 rfl i_P (by decide) (by omega) p0 rfl ?_
            refine ev_iload d_X_top_75 rfl ?_
            refine ev_iald (j := p) d_X_top_77 (by omega) p2 (by omega) (by decide) ?_
            refine ev_topi (w := nI (gN l p).2) (p3 p _ (gN_some (show p < l.length by omega))).2 ?_
            refine ev_goto d_X_top_78 ?_
            rw [nI_iI]
            exact hJ_83 _ (by rw [if_pos c_65])
      refine ev_aload_n d_X_top_39 rfl rfl ?_
      refine ev_iload d_X_top_40 rfl ?_
      refine cv (mc' := 0) (ms' := 0) (k' := k_X_begins) (As := [.int (nI (p))]) (stk := [.int (nI (tpN c l p))]) d_X_top_42 ml_X_229 kk_X_begins rfl rfl (Nat.le_of_ble_eq_true rfl) (by omega) x0 rfl rfl (ct_X_begins (d := d + 5) c_35 hX hc hP hK) (rd ?_)
      refine ev_if_eq d_X_top_45 (fun c_45 => ?_) (fun c_45 => ?_)
      ·
        have c_45 := b2_f c_45
        refine ev_iconst (v := (nI (0))) d_X_top_52 (by decide) ?_
        exact hJ_53 0 (by rw [c_45]; rfl)
      ·
        have c_45 := b2_t c_45
        refine ev_iconst (v := (nI (1))) d_X_top_48 (by decide) ?_
        refine ev_goto d_X_top_49 ?_
        exact hJ_53 1 (by rw [c_45]; rfl)
theorem ct_X_top_ok {z wh : Int} (hz1 : -2147483648 ≤ z) (hz2 : z < 2147483648) (hwh1 : -2147483648 ≤ wh) (hwh2 : wh < 2147483648) (hok : z = -1 ∨ frZ c l z l.length ≠ -1) (hw0 : 0 ≤ wh) (hw1 : wh ≤ 1) (hX : XM G n μ c lx ik tb tl ts (.ref (G.1 + t))) (hc : CfOK c) (hP : PM G n μ t l S w ct) (hK : PcOK c l) : Ct G k_X_top (d + 7) 3 18 [.ref (G.1 + 0), .int (iI z), .int (iI wh)] n μ (Rd (some (.int (iI (if z = -1 then (tpN c l l.length : Int) else if wh = 0 then frZ c l z l.length else (szN c l z l.length : Int))))) n μ) := by
  obtain ⟨hn, x0, x1, x2, x3, x4, x5, x11, x12, x18, x19, xi, xj⟩ := id hX
  obtain ⟨⟨hst1, hst2⟩, hfr, hpn, hpp, hmn, hwd, hnd, hpu, hnr, hbr, hle, hdef⟩ := id hc
  obtain ⟨g1, g2, g3, g4, fc, fb, p0, p1, p2, p3⟩ := id hP
  obtain ⟨hk1, hk2⟩ := id hK
  have htp := tpN_le c l l.length
  have hfz := frZ_bd hK z l.length (Nat.le_refl _)
  have hsz := szN_bd hc hK z l.length (Nat.le_refl _)
  refine Ct.ofp (r := 4) (ls := [some (.ref (G.1 + 0)), some (.int (iI (z))), some (.int (iI (wh))), none, none, none, none]) rfl (Nat.le_of_ble_eq_true rfl) ?_
  refine ev_aload_n d_X_top_0 rfl rfl ?_
  refine ev_getf (kf := 13) (T := F_X) (C := R_X) (N := 14) (v := .ref (G.1 + t)) d_X_top_1 fl_X_63 rfl i_X (by decide) (by omega) x0 rfl ?_
  refine ev_ifnull d_X_top_4 ?_
  refine ev_iconst (v := (nI (1))) d_X_top_7 (by decide) ?_
  refine ev_goto d_X_top_8 ?_
  refine cs (mc' := 1) (ms' := 6) (k' := k_X_can) (As := [.int (nI (1))]) (stk := []) d_X_top_12 ml_X_84 kk_X_can rfl rfl (Nat.le_of_ble_eq_true rfl) (ct_can (d := d) (true)) (gdT (rfl) ?_)
  refine ev_iconst (v := (nI (0))) d_X_top_15 (by decide) ?_
  refine ev_istore_n (ls' := [_, _, _, _, none, none, none]) d_X_top_16 rfl (by decide) rfl rfl ?_
  refine ev_iconst (v := (iI ((-1)))) d_X_top_17 (by decide) ?_
  refine ev_istore (ls' := [_, _, _, _, _, none, none]) d_X_top_18 (by decide) rfl rfl ?_
  refine ev_iconst (v := (nI (0))) d_X_top_20 (by decide) ?_
  refine ev_istore (ls' := [_, _, _, _, _, _, none]) d_X_top_21 (by decide) rfl rfl ?_
  refine ev_iconst (v := (nI (0))) d_X_top_23 (by decide) ?_
  refine ev_istore (ls' := [_, _, _, _, _, _, _]) d_X_top_24 (by decide) rfl rfl ?_
  refine lp_X_top hz1 hz2 hX hc hP hK ?_ (l.length + 1) 0 (by omega) (by omega)
  refine ev_iload_n d_X_top_102 rfl rfl ?_
  refine ev_iconst (v := (iI ((-1)))) d_X_top_103 (by decide) ?_
  refine ev_icmp_eq d_X_top_104 (fun c_104 => ?_) (fun c_104 => ?_)
  ·
    simp (disch := omega) only [nI_iI, iI_ltI, iI_leI, iI_eq, Int.not_lt, Int.not_le] at c_104
    refine ev_iconst (v := (nI (1))) d_X_top_113 (by decide) ?_
    refine ev_goto d_X_top_114 ?_
    refine cs (mc' := 1) (ms' := 6) (k' := k_X_there) (As := [.int (nI (1))]) (stk := []) d_X_top_118 ml_X_94 kk_X_there rfl rfl (Nat.le_of_ble_eq_true rfl) (ct_there (d := d) (true)) (gdT (rfl) ?_)
    refine ev_iload_n d_X_top_121 rfl rfl ?_
    refine ev_i2l d_X_top_122 ?_
    refine ev_lconst (v := lN 0) d_X_top_123 (by decide) ?_
    refine ev_lconst (v := lN 1) d_X_top_124 (by decide) ?_
    refine cs (mc' := 0) (ms' := 0) (k' := k_X_isIn) (As := [.long (((iI (wh))).toInt64), .long (lN (0)), .long (lN (1))]) (stk := []) d_X_top_125 ml_X_67 kk_X_isIn rfl rfl (Nat.le_of_ble_eq_true rfl) (ct_X_isInV (d := d + 6) (LZ_z (by omega) (by omega)) (LZ_n (by omega)) (LZ_n (by omega))) (rd ?_)
    refine cs (mc' := 1) (ms' := 6) (k' := k_X_proper) (As := [.int (b2 (decide (((0 : Nat) : Int) ≤ wh ∧ wh ≤ ((1 : Nat) : Int))))]) (stk := []) d_X_top_128 ml_X_71 kk_X_proper rfl rfl (Nat.le_of_ble_eq_true rfl) (ct_proper (d := d) (decide (((0 : Nat) : Int) ≤ wh ∧ wh ≤ ((1 : Nat) : Int)))) (gdT (decide_eq_true (by omega)) ?_)
    refine ev_iload_n d_X_top_131 rfl rfl ?_
    refine ev_iconst (v := (iI ((-1)))) d_X_top_132 (by decide) ?_
    refine ev_icmp_ne d_X_top_133 (fun c_133 => ?_) (fun c_133 => ?_)
    ·
      simp (disch := omega) only [nI_iI, iI_ltI, iI_leI, iI_eq, Int.not_lt, Int.not_le] at c_133
      refine ev_iload_n d_X_top_140 rfl rfl ?_
      refine ev_if_ne d_X_top_141 (fun c_141 => ?_) (fun c_141 => ?_)
      ·
        have c_141 : ¬ wh = 0 := fun q => c_141 (by rw [q]; rfl)
        refine ev_iload d_X_top_149 rfl ?_
        refine ev_ireturn d_X_top_151 rfl rfl ?_
        rw [if_neg c_133, if_neg c_141, ← nI_iI]; exact ⟨rfl, rfl, rfl⟩
      ·
        have c_141 : wh = 0 := (iI_eq (b := 0) (by omega) (by omega) (by omega) (by omega)).mp c_141
        refine ev_iload d_X_top_144 rfl ?_
        refine ev_goto d_X_top_146 ?_
        refine ev_ireturn d_X_top_151 rfl rfl ?_
        rw [if_neg c_133, if_pos c_141]; exact ⟨rfl, rfl, rfl⟩
    ·
      simp (disch := omega) only [nI_iI, iI_ltI, iI_leI, iI_eq, Int.not_lt, Int.not_le] at c_133
      refine ev_iload_n d_X_top_136 rfl rfl ?_
      refine ev_goto d_X_top_137 ?_
      refine ev_ireturn d_X_top_151 rfl rfl ?_
      rw [if_pos c_133, ← nI_iI]; exact ⟨rfl, rfl, rfl⟩
  ·
    simp (disch := omega) only [nI_iI, iI_ltI, iI_leI, iI_eq, Int.not_lt, Int.not_le] at c_104
    refine ev_iload d_X_top_107 rfl ?_
    refine ev_iconst (v := (iI ((-1)))) d_X_top_109 (by decide) ?_
    refine ev_icmp_eq d_X_top_110 (fun c_110 => ?_) (fun c_110 => ?_)
    ·
      simp (disch := omega) only [nI_iI, iI_ltI, iI_leI, iI_eq, Int.not_lt, Int.not_le] at c_110
      omega
    ·
      simp (disch := omega) only [nI_iI, iI_ltI, iI_leI, iI_eq, Int.not_lt, Int.not_le] at c_110
      refine ev_iconst (v := (nI (1))) d_X_top_113 (by decide) ?_
      refine ev_goto d_X_top_114 ?_
      refine cs (mc' := 1) (ms' := 6) (k' := k_X_there) (As := [.int (nI (1))]) (stk := []) d_X_top_118 ml_X_94 kk_X_there rfl rfl (Nat.le_of_ble_eq_true rfl) (ct_there (d := d) (true)) (gdT (rfl) ?_)
      refine ev_iload_n d_X_top_121 rfl rfl ?_
      refine ev_i2l d_X_top_122 ?_
      refine ev_lconst (v := lN 0) d_X_top_123 (by decide) ?_
      refine ev_lconst (v := lN 1) d_X_top_124 (by decide) ?_
      refine cs (mc' := 0) (ms' := 0) (k' := k_X_isIn) (As := [.long (((iI (wh))).toInt64), .long (lN (0)), .long (lN (1))]) (stk := []) d_X_top_125 ml_X_67 kk_X_isIn rfl rfl (Nat.le_of_ble_eq_true rfl) (ct_X_isInV (d := d + 6) (LZ_z (by omega) (by omega)) (LZ_n (by omega)) (LZ_n (by omega))) (rd ?_)
      refine cs (mc' := 1) (ms' := 6) (k' := k_X_proper) (As := [.int (b2 (decide (((0 : Nat) : Int) ≤ wh ∧ wh ≤ ((1 : Nat) : Int))))]) (stk := []) d_X_top_128 ml_X_71 kk_X_proper rfl rfl (Nat.le_of_ble_eq_true rfl) (ct_proper (d := d) (decide (((0 : Nat) : Int) ≤ wh ∧ wh ≤ ((1 : Nat) : Int)))) (gdT (decide_eq_true (by omega)) ?_)
      refine ev_iload_n d_X_top_131 rfl rfl ?_
      refine ev_iconst (v := (iI ((-1)))) d_X_top_132 (by decide) ?_
      refine ev_icmp_ne d_X_top_133 (fun c_133 => ?_) (fun c_133 => ?_)
      ·
        simp (disch := omega) only [nI_iI, iI_ltI, iI_leI, iI_eq, Int.not_lt, Int.not_le] at c_133
        refine ev_iload_n d_X_top_140 rfl rfl ?_
        refine ev_if_ne d_X_top_141 (fun c_141 => ?_) (fun c_141 => ?_)
        ·
          have c_141 : ¬ wh = 0 := fun q => c_141 (by rw [q]; rfl)
          refine ev_iload d_X_top_149 rfl ?_
          refine ev_ireturn d_X_top_151 rfl rfl ?_
          rw [if_neg c_133, if_neg c_141, ← nI_iI]; exact ⟨rfl, rfl, rfl⟩
        ·
          have c_141 : wh = 0 := (iI_eq (b := 0) (by omega) (by omega) (by omega) (by omega)).mp c_141
          refine ev_iload d_X_top_144 rfl ?_
          refine ev_goto d_X_top_146 ?_
          refine ev_ireturn d_X_top_151 rfl rfl ?_
          rw [if_neg c_133, if_pos c_141]; exact ⟨rfl, rfl, rfl⟩
      ·
        simp (disch := omega) only [nI_iI, iI_ltI, iI_leI, iI_eq, Int.not_lt, Int.not_le] at c_133
        refine ev_iload_n d_X_top_136 rfl rfl ?_
        refine ev_goto d_X_top_137 ?_
        refine ev_ireturn d_X_top_151 rfl rfl ?_
        rw [if_pos c_133, ← nI_iI]; exact ⟨rfl, rfl, rfl⟩
theorem ct_X_top_no2 {z wh : Int} (hz1 : -2147483648 ≤ z) (hz2 : z < 2147483648) (hwh1 : -2147483648 ≤ wh) (hwh2 : wh < 2147483648) (hno : ¬ (z = -1 ∨ frZ c l z l.length ≠ -1)) (hX : XM G n μ c lx ik tb tl ts (.ref (G.1 + t))) (hc : CfOK c) (hP : PM G n μ t l S w ct) (hK : PcOK c l) : Ct G k_X_top (d + 7) 3 18 [.ref (G.1 + 0), .int (iI z), .int (iI wh)] n μ (XT 6 n μ) := by
  obtain ⟨hn, x0, x1, x2, x3, x4, x5, x11, x12, x18, x19, xi, xj⟩ := id hX
  obtain ⟨⟨hst1, hst2⟩, hfr, hpn, hpp, hmn, hwd, hnd, hpu, hnr, hbr, hle, hdef⟩ := id hc
  obtain ⟨g1, g2, g3, g4, fc, fb, p0, p1, p2, p3⟩ := id hP
  obtain ⟨hk1, hk2⟩ := id hK
  have htp := tpN_le c l l.length
  have hfz := frZ_bd hK z l.length (Nat.le_refl _)
  have hsz := szN_bd hc hK z l.length (Nat.le_refl _)
  refine Ct.ofp (r := 4) (ls := [some (.ref (G.1 + 0)), some (.int (iI (z))), some (.int (iI (wh))), none, none, none, none]) rfl (Nat.le_of_ble_eq_true rfl) ?_
  refine ev_aload_n d_X_top_0 rfl rfl ?_
  refine ev_getf (kf := 13) (T := F_X) (C := R_X) (N := 14) (v := .ref (G.1 + t)) d_X_top_1 fl_X_63 rfl i_X (by decide) (by omega) x0 rfl ?_
  refine ev_ifnull d_X_top_4 ?_
  refine ev_iconst (v := (nI (1))) d_X_top_7 (by decide) ?_
  refine ev_goto d_X_top_8 ?_
  refine cs (mc' := 1) (ms' := 6) (k' := k_X_can) (As := [.int (nI (1))]) (stk := []) d_X_top_12 ml_X_84 kk_X_can rfl rfl (Nat.le_of_ble_eq_true rfl) (ct_can (d := d) (true)) (gdT (rfl) ?_)
  refine ev_iconst (v := (nI (0))) d_X_top_15 (by decide) ?_
  refine ev_istore_n (ls' := [_, _, _, _, none, none, none]) d_X_top_16 rfl (by decide) rfl rfl ?_
  refine ev_iconst (v := (iI ((-1)))) d_X_top_17 (by decide) ?_
  refine ev_istore (ls' := [_, _, _, _, _, none, none]) d_X_top_18 (by decide) rfl rfl ?_
  refine ev_iconst (v := (nI (0))) d_X_top_20 (by decide) ?_
  refine ev_istore (ls' := [_, _, _, _, _, _, none]) d_X_top_21 (by decide) rfl rfl ?_
  refine ev_iconst (v := (nI (0))) d_X_top_23 (by decide) ?_
  refine ev_istore (ls' := [_, _, _, _, _, _, _]) d_X_top_24 (by decide) rfl rfl ?_
  refine lp_X_top hz1 hz2 hX hc hP hK ?_ (l.length + 1) 0 (by omega) (by omega)
  refine ev_iload_n d_X_top_102 rfl rfl ?_
  refine ev_iconst (v := (iI ((-1)))) d_X_top_103 (by decide) ?_
  refine ev_icmp_eq d_X_top_104 (fun c_104 => ?_) (fun c_104 => ?_)
  ·
    simp (disch := omega) only [nI_iI, iI_ltI, iI_leI, iI_eq, Int.not_lt, Int.not_le] at c_104
    omega
  ·
    simp (disch := omega) only [nI_iI, iI_ltI, iI_leI, iI_eq, Int.not_lt, Int.not_le] at c_104
    refine ev_iload d_X_top_107 rfl ?_
    refine ev_iconst (v := (iI ((-1)))) d_X_top_109 (by decide) ?_
    refine ev_icmp_eq d_X_top_110 (fun c_110 => ?_) (fun c_110 => ?_)
    ·
      simp (disch := omega) only [nI_iI, iI_ltI, iI_leI, iI_eq, Int.not_lt, Int.not_le] at c_110
      refine ev_iconst (v := (nI (0))) d_X_top_117 (by decide) ?_
      refine cs (mc' := 1) (ms' := 6) (k' := k_X_there) (As := [.int (nI (0))]) (stk := []) d_X_top_118 ml_X_94 kk_X_there rfl rfl (Nat.le_of_ble_eq_true rfl) (ct_there (d := d) (false)) (gdF (rfl) ?_)
      exact ⟨rfl, rfl, rfl⟩
    ·
      simp (disch := omega) only [nI_iI, iI_ltI, iI_leI, iI_eq, Int.not_lt, Int.not_le] at c_110
      omega
theorem ct_X_top_no3 {z wh : Int} (hz1 : -2147483648 ≤ z) (hz2 : z < 2147483648) (hwh1 : -2147483648 ≤ wh) (hwh2 : wh < 2147483648) (hok : z = -1 ∨ frZ c l z l.length ≠ -1) (hno : ¬ (0 ≤ wh ∧ wh ≤ 1)) (hX : XM G n μ c lx ik tb tl ts (.ref (G.1 + t))) (hc : CfOK c) (hP : PM G n μ t l S w ct) (hK : PcOK c l) : Ct G k_X_top (d + 7) 3 18 [.ref (G.1 + 0), .int (iI z), .int (iI wh)] n μ (XT 4 n μ) := by
  obtain ⟨hn, x0, x1, x2, x3, x4, x5, x11, x12, x18, x19, xi, xj⟩ := id hX
  obtain ⟨⟨hst1, hst2⟩, hfr, hpn, hpp, hmn, hwd, hnd, hpu, hnr, hbr, hle, hdef⟩ := id hc
  obtain ⟨g1, g2, g3, g4, fc, fb, p0, p1, p2, p3⟩ := id hP
  obtain ⟨hk1, hk2⟩ := id hK
  have htp := tpN_le c l l.length
  have hfz := frZ_bd hK z l.length (Nat.le_refl _)
  have hsz := szN_bd hc hK z l.length (Nat.le_refl _)
  refine Ct.ofp (r := 4) (ls := [some (.ref (G.1 + 0)), some (.int (iI (z))), some (.int (iI (wh))), none, none, none, none]) rfl (Nat.le_of_ble_eq_true rfl) ?_
  refine ev_aload_n d_X_top_0 rfl rfl ?_
  refine ev_getf (kf := 13) (T := F_X) (C := R_X) (N := 14) (v := .ref (G.1 + t)) d_X_top_1 fl_X_63 rfl i_X (by decide) (by omega) x0 rfl ?_
  refine ev_ifnull d_X_top_4 ?_
  refine ev_iconst (v := (nI (1))) d_X_top_7 (by decide) ?_
  refine ev_goto d_X_top_8 ?_
  refine cs (mc' := 1) (ms' := 6) (k' := k_X_can) (As := [.int (nI (1))]) (stk := []) d_X_top_12 ml_X_84 kk_X_can rfl rfl (Nat.le_of_ble_eq_true rfl) (ct_can (d := d) (true)) (gdT (rfl) ?_)
  refine ev_iconst (v := (nI (0))) d_X_top_15 (by decide) ?_
  refine ev_istore_n (ls' := [_, _, _, _, none, none, none]) d_X_top_16 rfl (by decide) rfl rfl ?_
  refine ev_iconst (v := (iI ((-1)))) d_X_top_17 (by decide) ?_
  refine ev_istore (ls' := [_, _, _, _, _, none, none]) d_X_top_18 (by decide) rfl rfl ?_
  refine ev_iconst (v := (nI (0))) d_X_top_20 (by decide) ?_
  refine ev_istore (ls' := [_, _, _, _, _, _, none]) d_X_top_21 (by decide) rfl rfl ?_
  refine ev_iconst (v := (nI (0))) d_X_top_23 (by decide) ?_
  refine ev_istore (ls' := [_, _, _, _, _, _, _]) d_X_top_24 (by decide) rfl rfl ?_
  refine lp_X_top hz1 hz2 hX hc hP hK ?_ (l.length + 1) 0 (by omega) (by omega)
  refine ev_iload_n d_X_top_102 rfl rfl ?_
  refine ev_iconst (v := (iI ((-1)))) d_X_top_103 (by decide) ?_
  refine ev_icmp_eq d_X_top_104 (fun c_104 => ?_) (fun c_104 => ?_)
  ·
    simp (disch := omega) only [nI_iI, iI_ltI, iI_leI, iI_eq, Int.not_lt, Int.not_le] at c_104
    refine ev_iconst (v := (nI (1))) d_X_top_113 (by decide) ?_
    refine ev_goto d_X_top_114 ?_
    refine cs (mc' := 1) (ms' := 6) (k' := k_X_there) (As := [.int (nI (1))]) (stk := []) d_X_top_118 ml_X_94 kk_X_there rfl rfl (Nat.le_of_ble_eq_true rfl) (ct_there (d := d) (true)) (gdT (rfl) ?_)
    refine ev_iload_n d_X_top_121 rfl rfl ?_
    refine ev_i2l d_X_top_122 ?_
    refine ev_lconst (v := lN 0) d_X_top_123 (by decide) ?_
    refine ev_lconst (v := lN 1) d_X_top_124 (by decide) ?_
    refine cs (mc' := 0) (ms' := 0) (k' := k_X_isIn) (As := [.long (((iI (wh))).toInt64), .long (lN (0)), .long (lN (1))]) (stk := []) d_X_top_125 ml_X_67 kk_X_isIn rfl rfl (Nat.le_of_ble_eq_true rfl) (ct_X_isInV (d := d + 6) (LZ_z (by omega) (by omega)) (LZ_n (by omega)) (LZ_n (by omega))) (rd ?_)
    refine cs (mc' := 1) (ms' := 6) (k' := k_X_proper) (As := [.int (b2 (decide (((0 : Nat) : Int) ≤ wh ∧ wh ≤ ((1 : Nat) : Int))))]) (stk := []) d_X_top_128 ml_X_71 kk_X_proper rfl rfl (Nat.le_of_ble_eq_true rfl) (ct_proper (d := d) (decide (((0 : Nat) : Int) ≤ wh ∧ wh ≤ ((1 : Nat) : Int)))) (gdF (decide_eq_false (by omega)) ?_)
    exact ⟨rfl, rfl, rfl⟩
  ·
    simp (disch := omega) only [nI_iI, iI_ltI, iI_leI, iI_eq, Int.not_lt, Int.not_le] at c_104
    refine ev_iload d_X_top_107 rfl ?_
    refine ev_iconst (v := (iI ((-1)))) d_X_top_109 (by decide) ?_
    refine ev_icmp_eq d_X_top_110 (fun c_110 => ?_) (fun c_110 => ?_)
    ·
      simp (disch := omega) only [nI_iI, iI_ltI, iI_leI, iI_eq, Int.not_lt, Int.not_le] at c_110
      omega
    ·
      simp (disch := omega) only [nI_iI, iI_ltI, iI_leI, iI_eq, Int.not_lt, Int.not_le] at c_110
      refine ev_iconst (v := (nI (1))) d_X_top_113 (by decide) ?_
      refine ev_goto d_X_top_114 ?_
      refine cs (mc' := 1) (ms' := 6) (k' := k_X_there) (As := [.int (nI (1))]) (stk := []) d_X_top_118 ml_X_94 kk_X_there rfl rfl (Nat.le_of_ble_eq_true rfl) (ct_there (d := d) (true)) (gdT (rfl) ?_)
      refine ev_iload_n d_X_top_121 rfl rfl ?_
      refine ev_i2l d_X_top_122 ?_
      refine ev_lconst (v := lN 0) d_X_top_123 (by decide) ?_
      refine ev_lconst (v := lN 1) d_X_top_124 (by decide) ?_
      refine cs (mc' := 0) (ms' := 0) (k' := k_X_isIn) (As := [.long (((iI (wh))).toInt64), .long (lN (0)), .long (lN (1))]) (stk := []) d_X_top_125 ml_X_67 kk_X_isIn rfl rfl (Nat.le_of_ble_eq_true rfl) (ct_X_isInV (d := d + 6) (LZ_z (by omega) (by omega)) (LZ_n (by omega)) (LZ_n (by omega))) (rd ?_)
      refine cs (mc' := 1) (ms' := 6) (k' := k_X_proper) (As := [.int (b2 (decide (((0 : Nat) : Int) ≤ wh ∧ wh ≤ ((1 : Nat) : Int))))]) (stk := []) d_X_top_128 ml_X_71 kk_X_proper rfl rfl (Nat.le_of_ble_eq_true rfl) (ct_proper (d := d) (decide (((0 : Nat) : Int) ≤ wh ∧ wh ≤ ((1 : Nat) : Int)))) (gdF (decide_eq_false (by omega)) ?_)
      exact ⟨rfl, rfl, rfl⟩
end LKP
