/-! ===== what is told to the class ===== -/
/-- an answer with another world -/
def XU (G : Gm) (n : Nat) (μ : Mem) (v : Value) (c' : Cf) (lx' : Nat) (ik : Nat → Nat) (tb : Nat → Int64) (tl : Nat) (ts : Nat → Int32) (lat' : Value) : Oc → Nat → Mem → Prop := fun o n' μ' => o = .inl (some v) ∧ n' = n ∧ XM G n μ' c' lx' ik tb tl ts lat' ∧ ∀ t, 20 ≤ t → (t < 41 ∨ ∀ fs, μ t ≠ ob 1 fs) → μ' t = μ t
def doorC (c : Cf) (f t : Nat) : Cf := c.set_fr (fun j => c.fr j || (decide (f ≤ j) && decide (j < t)))
def doorB (c : Cf) (f i : Nat) : Bool := (List.range i).any (fun j => !c.fr (f + j))
def pipeB (c : Cf) (p : Nat) : Bool := decide (c.pn < 8) && (List.range c.pn).all (fun k => decide (c.pp k ≠ p))
def pipeC (c : Cf) (p : Nat) : Cf := if pipeB c p then (c.set_pp (fun j => if j = c.pn then p else c.pp j)).set_pn (c.pn + 1) else c
def itemC (c : Cf) (w wo ce : Nat) : Cf := (((c.set_wd (fun j => if j = c.mn then w else c.wd j)).set_wo (fun j => if j = c.mn then wo else c.wo j)).set_ce (fun j => if j = c.mn then ce else c.ce j)).set_mn (c.mn + 1)
def needC (c : Cf) (k : Nat) (z : Int) : Cf := ((c.set_nd (fun j => if j = k then z else c.nd j)).set_ms c.ms).set_pu c.pu
def mustC (c : Cf) (k : Nat) (b : Bool) : Cf := ((c.set_nd c.nd).set_ms (fun j => if j = k then b else c.ms j)).set_pu c.pu
def placeC (c : Cf) (k : Nat) (z : Int) : Cf := ((c.set_nd c.nd).set_ms c.ms).set_pu (fun j => if j = k then z else c.pu j)
def nearC (c : Cf) (a b w : Nat) : Cf := c.set_nr (fun x y => if (x = a ∧ y = b) ∨ (x = b ∧ y = a) then w else c.nr x y)
def barC (c : Cf) (a b : Nat) : Cf := c.set_br (fun x y => decide ((x = a ∧ y = b) ∨ (x = b ∧ y = a)) || c.br x y)
def fillC (c : Cf) (l m : Nat) : Cf := (c.set_le l).set_mo m
theorem upd_b2 (g : Nat → Bool) (k : Nat) (b : Bool) : upd (fun j => b2 (g j)) k (b2 b) = fun j => b2 (if j = k then b else g j) := by
  funext j; unfold upd; split <;> rfl
theorem upd_nI (g : Nat → Nat) (k x : Nat) : upd (fun j => nI (g j)) k (nI x) = fun j => nI (if j = k then x else g j) := by
  funext j; unfold upd; split <;> rfl
theorem updL_lN (g : Nat → Nat) (k x : Nat) : vp_updL (fun j => lN (g j)) k (lN x) = fun j => lN (if j = k then x else g j) := by
  funext j; unfold vp_updL; split <;> rfl
section TL
variable {G : Gm} {d n : Nat} {μ : Mem} {c : Cf} {lx : Nat} {ik : Nat → Nat} {tb : Nat → Int64} {tl : Nat} {ts : Nat → Int32} {lat : Value}
theorem ct_X_told {is : Bool} (hX : XM G n μ c lx ik tb tl ts lat) (hl : lat = .null ∨ ∃ t : Nat, lat = .ref (G.1 + t)) : Ct G k_X_told d 0 0 [.ref (G.1 + 0), .int (b2 is)] n μ (fun (o : Oc) (n' : Nat) (μ' : Mem) => o = .inl (some (.int (b2 is))) ∧ n' = n ∧ XM G n μ' c lx ik tb tl ts (if is then .null else lat) ∧ ∀ t, t ≠ 0 → μ' t = μ t) := by
  obtain ⟨hn, x0, x1, x2, x3, x4, x5, x11, x12, x18, x19, xi, xj⟩ := id hX
  refine Ct.ofp (r := 0) (ls := [some (.ref (G.1 + 0)), some (.int (b2 is))]) rfl (Nat.le_of_ble_eq_true rfl) ?_
  cases is with
  | true =>
    refine ev_aload_n d_X_told_0 rfl rfl ?_
    refine ev_iload_n d_X_told_1 rfl rfl ?_
    refine ev_if_eq d_X_told_2 (fun c_2 => ?_) (fun c_2 => ?_)
    ·
      have c_2 := b2_f c_2
      cases c_2
    ·
      have c_2 := b2_t c_2
      refine ev_null d_X_told_5 ?_
      refine ev_goto d_X_told_6 ?_
      refine ev_putf (kf := 13) (T := F_X) (C := R_X) (N := 14) (ty0 := t_X) d_X_told_13 fl_X_63 rfl i_X t_X_ok n_X (by decide) rfl rfl rfl rfl (by omega) x0 (Nat.le_of_ble_eq_true rfl) ?_
      refine ev_iload_n d_X_told_16 rfl rfl ?_
      refine ev_ireturn d_X_told_17 rfl (b2_nar _) ?_
      exact ⟨rfl, rfl, XM.m0 hX c lx tl _ ⟨rfl, rfl, rfl, rfl, rfl, rfl, rfl, rfl, rfl, rfl, rfl⟩, fun t ht => mset_ne _ _ ht⟩
  | false =>
    rcases hl with rfl | ⟨t, rfl⟩
    ·
      refine ev_aload_n d_X_told_0 rfl rfl ?_
      refine ev_iload_n d_X_told_1 rfl rfl ?_
      refine ev_if_eq d_X_told_2 (fun c_2 => ?_) (fun c_2 => ?_)
      ·
        have c_2 := b2_f c_2
        refine ev_aload_n d_X_told_9 rfl rfl ?_
        refine ev_getf (kf := 13) (T := F_X) (C := R_X) (N := 14) (v := .null) d_X_told_10 fl_X_63 rfl i_X (by decide) (by omega) x0 rfl ?_
        refine ev_putf (kf := 13) (T := F_X) (C := R_X) (N := 14) (ty0 := t_X) d_X_told_13 fl_X_63 rfl i_X t_X_ok n_X (by decide) rfl rfl rfl rfl (by omega) x0 (Nat.le_of_ble_eq_true rfl) ?_
        refine ev_iload_n d_X_told_16 rfl rfl ?_
        refine ev_ireturn d_X_told_17 rfl (b2_nar _) ?_
        exact ⟨rfl, rfl, XM.m0 hX c lx tl _ ⟨rfl, rfl, rfl, rfl, rfl, rfl, rfl, rfl, rfl, rfl, rfl⟩, fun t ht => mset_ne _ _ ht⟩
      ·
        have c_2 := b2_t c_2
        cases c_2
    ·
      refine ev_aload_n d_X_told_0 rfl rfl ?_
      refine ev_iload_n d_X_told_1 rfl rfl ?_
      refine ev_if_eq d_X_told_2 (fun c_2 => ?_) (fun c_2 => ?_)
      ·
        have c_2 := b2_f c_2
        refine ev_aload_n d_X_told_9 rfl rfl ?_
        refine ev_getf (kf := 13) (T := F_X) (C := R_X) (N := 14) (v := .ref (G.1 + t)) d_X_told_10 fl_X_63 rfl i_X (by decide) (by omega) x0 rfl ?_
        refine ev_putf (kf := 13) (T := F_X) (C := R_X) (N := 14) (ty0 := t_X) d_X_told_13 fl_X_63 rfl i_X t_X_ok n_X (by decide) rfl rfl rfl rfl (by omega) x0 (Nat.le_of_ble_eq_true rfl) ?_
        refine ev_iload_n d_X_told_16 rfl rfl ?_
        refine ev_ireturn d_X_told_17 rfl (b2_nar _) ?_
        exact ⟨rfl, rfl, XM.m0 hX c lx tl _ ⟨rfl, rfl, rfl, rfl, rfl, rfl, rfl, rfl, rfl, rfl, rfl⟩, fun t ht => mset_ne _ _ ht⟩
      ·
        have c_2 := b2_t c_2
        cases c_2
theorem lp_X_door {f w : Nat} (hfw : f + w ≤ c.st) (hX : XM G n μ c lx ik tb tl ts lat) (hc : CfOK c) (hl : lat = .null ∨ ∃ t : Nat, lat = .ref (G.1 + t)) : ∀ (m i : Nat) (ν : Mem), i ≤ w → w < i + m → XM G n ν (c.set_fr (fun j => c.fr j || (decide (f ≤ j) && decide (j < f + i)))) lx ik tb tl ts lat → (∀ t, 20 ≤ t → ν t = μ t) → Ev G k_X_door (d + 7) 0 0 46 [some (.ref (G.1 + 0)), some (.int (nI (f))), some (.int (nI (f + w))), some (.int (b2 (doorB c f i))), some (.int (nI (f + i)))] [] n ν (XU G n μ (.int (b2 (doorB c f w))) (doorC c f (f + w)) lx ik tb tl ts (if (doorB c f w) then .null else lat)) := by
  generalize hQ : (XU G n μ (.int (b2 (doorB c f w))) (doorC c f (f + w)) lx ik tb tl ts (if (doorB c f w) then .null else lat)) = Q
  intro m
  induction m with
  | zero =>
    intro i ν h1 h2
    exact absurd h2 (by omega)
  | succ m ih =>
    intro i ν hi him hXv hff
    obtain ⟨hn, x0, x1, x2, x3, x4, x5, x11, x12, x18, x19, xi, xj⟩ := id hXv
    obtain ⟨⟨hst1, hst2⟩, hfr, hpn, hpp, hmn, hwd, hnd, hpu, hnr, hbr, hle, hdef⟩ := id hc
    refine ev_iload d_X_door_46 rfl ?_
    refine ev_iload_n d_X_door_48 rfl rfl ?_
    refine ev_icmp_ge d_X_door_49 (fun c_49 => ?_) (fun c_49 => ?_)
    ·
      simp (disch := omega) only [nI_ltI, nI_leI, nI_eq, Nat.not_lt, Nat.not_le] at c_49
      refine ev_aload_n d_X_door_84 rfl rfl ?_
      refine ev_iload_n d_X_door_85 rfl rfl ?_
      refine cv (mc' := 0) (ms' := 0) (k' := k_X_told) (As := [.int (b2 (doorB c f i))]) (stk := []) d_X_door_86 ml_X_75 kk_X_told rfl rfl (Nat.le_of_ble_eq_true rfl) (by omega) x0 rfl rfl (ct_X_told (d := d + 6) (is := doorB c f i) hXv hl) (af fun n1 ν1 hq => ?_)
      obtain ⟨hn1, hXn, hfn⟩ := hq
      subst n1
      refine ev_ireturn d_X_door_89 rfl (b2_nar _) ?_
      subst hQ
      have hiw : i = w := by omega
      subst hiw
      exact ⟨rfl, rfl, hXn, fun t ht _ => (hfn t (by omega)).trans (hff t ht)⟩
    ·
      simp (disch := omega) only [nI_ltI, nI_leI, nI_eq, Nat.not_lt, Nat.not_le] at c_49
      refine ev_iload_n d_X_door_52 rfl rfl ?_
      have hJ_68 : ∀ b : Bool, b = !c.fr (f + i) → Ev G k_X_door (d + 7) 0 0 68 [some (.ref (G.1 + 0)), some (.int (nI (f))), some (.int (nI (f + w))), some (.int (b2 (doorB c f i))), some (.int (nI (f + i)))] [.int (b2 (b)), .int (b2 (doorB c f i))] n ν Q := by
        intro b hJ
        refine ev_ior d_X_door_68 ?_
        refine ev_topi (w := (b2 (doorB c f i || b))) (b2_or _ _) ?_
        refine ev_istore_n (ls' := [_, _, _, _, _]) d_X_door_69 rfl (by decide) rfl rfl ?_
        refine ev_aload_n d_X_door_70 rfl rfl ?_
        refine ev_getf (kf := 1) (T := F_X) (C := R_X) (N := 14) (v := .ref (G.1 + 1)) d_X_door_71 fl_X_7 rfl i_X (by decide) (by omega) x0 rfl ?_
        refine ev_iload d_X_door_74 rfl ?_
        refine ev_iconst (v := (nI (1))) d_X_door_76 (by decide) ?_
        refine ev_zast (j := f + i) d_X_door_77 (by omega) x1 rfl (by omega) (by decide) ?_
        refine ev_iinc (v := (nI (f + (i + 1)))) (ls' := [_, _, _, _, _]) d_X_door_78 rfl (by rw [show nI (f + i) + Int32.ofInt 1 = nI (f + i + 1) from nI_1 _, Nat.add_assoc]) (by decide) rfl rfl ?_
        refine ev_goto d_X_door_81 ?_
        have e : upd (fun j => b2 ((c.set_fr (fun j => c.fr j || (decide (f ≤ j) && decide (j < f + i)))).fr j)) (f + i) (nI 1) = fun j => b2 (c.fr j || (decide (f ≤ j) && decide (j < f + (i + 1)))) := by
          rw [show nI 1 = b2 true from rfl, upd_b2]
          funext j
          show b2 (if j = f + i then true else (c.fr j || (decide (f ≤ j) && decide (j < f + i)))) = _
          congr 1
          by_cases ej : j = f + i
          · rw [if_pos ej]; subst ej; simp
          · rw [if_neg ej]; congr 2; simp; omega
        have h := ih (i + 1) _ (by omega) (by omega) (hXv.m1 (fun j => c.fr j || (decide (f ≤ j) && decide (j < f + (i + 1))))) (fun t ht => (mset_ne _ _ (by omega)).trans (hff t ht))
        rw [← e] at h
        rw [hJ, show (doorB c f i || !c.fr (f + i)) = doorB c f (i + 1) from (any_succ (fun j => !c.fr (f + j)) i).symm]
        exact h
      refine ev_aload_n d_X_door_53 rfl rfl ?_
      refine ev_getf (kf := 1) (T := F_X) (C := R_X) (N := 14) (v := .ref (G.1 + 1)) d_X_door_54 fl_X_7 rfl i_X (by decide) (by omega) x0 rfl ?_
      refine ev_iload d_X_door_57 rfl ?_
      refine ev_zald (j := f + i) d_X_door_59 (by omega) x1 (by omega) (by decide) ?_
      refine ev_topi (w := b2 (c.fr (f + i))) (by show b2 (c.fr (f + i) || (decide (f ≤ f + i) && decide (f + i < f + i))) = _; simp) ?_
      refine ev_if_ne d_X_door_60 (fun c_60 => ?_) (fun c_60 => ?_)
      ·
        have c_60 := b2_t c_60
        refine ev_iconst (v := (nI (0))) d_X_door_67 (by decide) ?_
        exact hJ_68 false (by rw [c_60]; rfl)
      ·
        have c_60 := b2_f c_60
        refine ev_iconst (v := (nI (1))) d_X_door_63 (by decide) ?_
        refine ev_goto d_X_door_64 ?_
        exact hJ_68 true (by rw [c_60]; rfl)
theorem ct_X_door_ok {f w : Nat} (hw : 0 < w) (hfw : f + w ≤ c.st) (hX : XM G n μ c lx ik tb tl ts lat) (hc : CfOK c) (hl : lat = .null ∨ ∃ t : Nat, lat = .ref (G.1 + t)) : Ct G k_X_door (d + 7) 1 6 [.ref (G.1 + 0), .int (nI f), .int (nI (f + w))] n μ (XU G n μ (.int (b2 (doorB c f w))) (doorC c f (f + w)) lx ik tb tl ts (if (doorB c f w) then .null else lat)) := by
  obtain ⟨hn, x0, x1, x2, x3, x4, x5, x11, x12, x18, x19, xi, xj⟩ := id hX
  obtain ⟨⟨hst1, hst2⟩, hfr, hpn, hpp, hmn, hwd, hnd, hpu, hnr, hbr, hle, hdef⟩ := id hc
  refine Ct.ofp (r := 2) (ls := [some (.ref (G.1 + 0)), some (.int (nI (f))), some (.int (nI (f + w))), none, none]) rfl (Nat.le_of_ble_eq_true rfl) ?_
  refine ev_iload_n d_X_door_0 rfl rfl ?_
  refine ev_i2l d_X_door_1 ?_
  refine ev_topl (w := (lN (f))) (nI_l (by omega)) ?_
  refine ev_lconst (v := lN 0) d_X_door_2 (by decide) ?_
  refine ev_aload_n d_X_door_3 rfl rfl ?_
  refine ev_getf (kf := 0) (T := F_X) (C := R_X) (N := 14) (v := .int (nI (c.st))) d_X_door_4 fl_X_50 rfl i_X (by decide) (by omega) x0 rfl ?_
  refine ev_i2l d_X_door_7 ?_
  refine ev_topl (w := (lN (c.st))) (nI_l (by omega)) ?_
  refine ev_lconst (v := lN 1) d_X_door_8 (by decide) ?_
  refine ev_lsub d_X_door_9 ?_
  refine cs (mc' := 0) (ms' := 0) (k' := k_X_isIn) (As := [.long (lN (f)), .long (lN (0)), .long ((lN (c.st)) - (lN (1)))]) (stk := []) d_X_door_10 ml_X_67 kk_X_isIn rfl rfl (Nat.le_of_ble_eq_true rfl) (ct_X_isInV (d := d + 6) (LZ_n (by omega)) (LZ_n (by omega)) (LZ_sub (LZ_n (by omega)) (LZ_n (by omega)) (by omega) (by omega))) (rd ?_)
  refine ev_if_eq d_X_door_13 (fun c_13 => ?_) (fun c_13 => ?_)
  ·
    have c_13 := b2_f c_13
    exfalso; rw [decide_eq_false_iff_not] at c_13; omega
  ·
    have c_13 := b2_t c_13
    refine ev_iload_n d_X_door_16 rfl rfl ?_
    refine ev_i2l d_X_door_17 ?_
    refine ev_topl (w := (lN (f + w))) (nI_l (by omega)) ?_
    refine ev_iload_n d_X_door_18 rfl rfl ?_
    refine ev_i2l d_X_door_19 ?_
    refine ev_topl (w := (lN (f))) (nI_l (by omega)) ?_
    refine ev_lconst (v := lN 1) d_X_door_20 (by decide) ?_
    refine ev_ladd d_X_door_21 ?_
    refine ev_topl (w := (lN (f + 1))) (lN_add _ _) ?_
    refine ev_aload_n d_X_door_22 rfl rfl ?_
    refine ev_getf (kf := 0) (T := F_X) (C := R_X) (N := 14) (v := .int (nI (c.st))) d_X_door_23 fl_X_50 rfl i_X (by decide) (by omega) x0 rfl ?_
    refine ev_i2l d_X_door_26 ?_
    refine ev_topl (w := (lN (c.st))) (nI_l (by omega)) ?_
    refine cs (mc' := 0) (ms' := 0) (k' := k_X_isIn) (As := [.long (lN (f + w)), .long (lN (f + 1)), .long (lN (c.st))]) (stk := []) d_X_door_27 ml_X_67 kk_X_isIn rfl rfl (Nat.le_of_ble_eq_true rfl) (ct_X_isInV (d := d + 6) (LZ_n (by omega)) (LZ_n (by omega)) (LZ_n (by omega))) (rd ?_)
    refine ev_if_eq d_X_door_30 (fun c_30 => ?_) (fun c_30 => ?_)
    ·
      have c_30 := b2_f c_30
      exfalso; rw [decide_eq_false_iff_not] at c_30; omega
    ·
      have c_30 := b2_t c_30
      refine ev_iconst (v := (nI (1))) d_X_door_33 (by decide) ?_
      refine ev_goto d_X_door_34 ?_
      refine cs (mc' := 1) (ms' := 6) (k' := k_X_proper) (As := [.int (nI (1))]) (stk := []) d_X_door_38 ml_X_71 kk_X_proper rfl rfl (Nat.le_of_ble_eq_true rfl) (ct_proper (d := d) (true)) (gdT (rfl) ?_)
      refine ev_iconst (v := (nI (0))) d_X_door_41 (by decide) ?_
      refine ev_istore_n (ls' := [_, _, _, _, none]) d_X_door_42 rfl (by decide) rfl rfl ?_
      refine ev_iload_n d_X_door_43 rfl rfl ?_
      refine ev_istore (ls' := [_, _, _, _, _]) d_X_door_44 (by decide) rfl rfl ?_
      have h := lp_X_door (d := d) hfw hX hc hl (w + 1) 0 μ (by omega) (by omega) (by
        have := hX.m1 c.fr
        rw [mset_self x1] at this
        have e : (fun j => c.fr j || (decide (f ≤ j) && decide (j < f + 0))) = c.fr := by
          funext j
          have : (decide (f ≤ j) && decide (j < f + 0)) = false := by
            rw [Bool.and_eq_false_iff, decide_eq_false_iff_not, decide_eq_false_iff_not]; omega
          rw [this, Bool.or_false]
        rw [e]; exact this) (fun t _ => rfl)
      exact h
theorem ct_X_door_no {a b : Int} (ha1 : -2147483648 ≤ a) (ha2 : a < 2147483648) (hb1 : -2147483648 ≤ b) (hb2 : b < 2147483648) (hno : ¬ (0 ≤ a ∧ a + 1 ≤ b ∧ b ≤ c.st)) (hX : XM G n μ c lx ik tb tl ts lat) (hc : CfOK c) : Ct G k_X_door (d + 7) 1 6 [.ref (G.1 + 0), .int (iI a), .int (iI b)] n μ (XT 4 n μ) := by
  obtain ⟨hn, x0, x1, x2, x3, x4, x5, x11, x12, x18, x19, xi, xj⟩ := id hX
  obtain ⟨⟨hst1, hst2⟩, hfr, hpn, hpp, hmn, hwd, hnd, hpu, hnr, hbr, hle, hdef⟩ := id hc
  refine Ct.ofp (r := 2) (ls := [some (.ref (G.1 + 0)), some (.int (iI (a))), some (.int (iI (b))), none, none]) rfl (Nat.le_of_ble_eq_true rfl) ?_
  refine ev_iload_n d_X_door_0 rfl rfl ?_
  refine ev_i2l d_X_door_1 ?_
  refine ev_lconst (v := lN 0) d_X_door_2 (by decide) ?_
  refine ev_aload_n d_X_door_3 rfl rfl ?_
  refine ev_getf (kf := 0) (T := F_X) (C := R_X) (N := 14) (v := .int (nI (c.st))) d_X_door_4 fl_X_50 rfl i_X (by decide) (by omega) x0 rfl ?_
  refine ev_i2l d_X_door_7 ?_
  refine ev_topl (w := (lN (c.st))) (nI_l (by omega)) ?_
  refine ev_lconst (v := lN 1) d_X_door_8 (by decide) ?_
  refine ev_lsub d_X_door_9 ?_
  refine cs (mc' := 0) (ms' := 0) (k' := k_X_isIn) (As := [.long (((iI (a))).toInt64), .long (lN (0)), .long ((lN (c.st)) - (lN (1)))]) (stk := []) d_X_door_10 ml_X_67 kk_X_isIn rfl rfl (Nat.le_of_ble_eq_true rfl) (ct_X_isInV (d := d + 6) (LZ_z (by omega) (by omega)) (LZ_n (by omega)) (LZ_sub (LZ_n (by omega)) (LZ_n (by omega)) (by omega) (by omega))) (rd ?_)
  refine ev_if_eq d_X_door_13 (fun c_13 => ?_) (fun c_13 => ?_)
  ·
    have c_13 := b2_f c_13
    refine ev_iconst (v := (nI (0))) d_X_door_37 (by decide) ?_
    refine cs (mc' := 1) (ms' := 6) (k' := k_X_proper) (As := [.int (nI (0))]) (stk := []) d_X_door_38 ml_X_71 kk_X_proper rfl rfl (Nat.le_of_ble_eq_true rfl) (ct_proper (d := d) (false)) (gdF (rfl) ?_)
    exact ⟨rfl, rfl, rfl⟩
  ·
    have c_13 := b2_t c_13
    refine ev_iload_n d_X_door_16 rfl rfl ?_
    refine ev_i2l d_X_door_17 ?_
    refine ev_iload_n d_X_door_18 rfl rfl ?_
    refine ev_i2l d_X_door_19 ?_
    refine ev_lconst (v := lN 1) d_X_door_20 (by decide) ?_
    refine ev_ladd d_X_door_21 ?_
    refine ev_aload_n d_X_door_22 rfl rfl ?_
    refine ev_getf (kf := 0) (T := F_X) (C := R_X) (N := 14) (v := .int (nI (c.st))) d_X_door_23 fl_X_50 rfl i_X (by decide) (by omega) x0 rfl ?_
    refine ev_i2l d_X_door_26 ?_
    refine ev_topl (w := (lN (c.st))) (nI_l (by omega)) ?_
    refine cs (mc' := 0) (ms' := 0) (k' := k_X_isIn) (As := [.long (((iI (b))).toInt64), .long ((((iI (a))).toInt64) + (lN (1))), .long (lN (c.st))]) (stk := []) d_X_door_27 ml_X_67 kk_X_isIn rfl rfl (Nat.le_of_ble_eq_true rfl) (ct_X_isInV (d := d + 6) (LZ_z (by omega) (by omega)) (LZ_add (LZ_z (by omega) (by omega)) (LZ_n (by omega)) (by omega) (by omega)) (LZ_n (by omega))) (rd ?_)
    refine ev_if_eq d_X_door_30 (fun c_30 => ?_) (fun c_30 => ?_)
    ·
      have c_30 := b2_f c_30
      refine ev_iconst (v := (nI (0))) d_X_door_37 (by decide) ?_
      refine cs (mc' := 1) (ms' := 6) (k' := k_X_proper) (As := [.int (nI (0))]) (stk := []) d_X_door_38 ml_X_71 kk_X_proper rfl rfl (Nat.le_of_ble_eq_true rfl) (ct_proper (d := d) (false)) (gdF (rfl) ?_)
      exact ⟨rfl, rfl, rfl⟩
    ·
      have c_30 := b2_t c_30
      exfalso; have := of_decide_eq_true c_13; have := of_decide_eq_true c_30; omega
theorem lp_X_pipe {p : Nat} (hp : p < c.st) (hX : XM G n μ c lx ik tb tl ts lat) (hc : CfOK c) (hl : lat = .null ∨ ∃ t : Nat, lat = .ref (G.1 + t)) : ∀ (m : Nat) (i : Nat) (op : Bool), i ≤ c.pn → c.pn < i + m → op = (decide (c.pn < 8) && (List.range i).all (fun k => decide (c.pp k ≠ p))) → Ev G k_X_pipe (d + 7) 0 0 33 [some (.ref (G.1 + 0)), some (.int (nI (p))), some (.int (b2 (op))), some (.int (nI (i)))] [] n μ ((XU G n μ (.int (b2 (pipeB c p))) (pipeC c p) lx ik tb tl ts (if (pipeB c p) then .null else lat))) := by
  obtain ⟨hn, x0, x1, x2, x3, x4, x5, x11, x12, x18, x19, xi, xj⟩ := id hX
  obtain ⟨⟨hst1, hst2⟩, hfr, hpn, hpp, hmn, hwd, hnd, hpu, hnr, hbr, hle, hdef⟩ := id hc
  generalize hQ : (XU G n μ (.int (b2 (pipeB c p))) (pipeC c p) lx ik tb tl ts (if (pipeB c p) then .null else lat)) = Q
  intro m
  induction m with
  | zero =>
    intro i op h1 h2
    exact absurd h2 (by omega)
  | succ m ih =>
    intro i op hi him hop
    refine ev_iload_n d_X_pipe_33 rfl rfl ?_
    refine ev_aload_n d_X_pipe_34 rfl rfl ?_
    refine ev_getf (kf := 3) (T := F_X) (C := R_X) (N := 14) (v := .int (nI (c.pn))) d_X_pipe_35 fl_X_78 rfl i_X (by decide) (by omega) x0 rfl ?_
    refine ev_icmp_ge d_X_pipe_38 (fun c_38 => ?_) (fun c_38 => ?_)
    ·
      simp (disch := omega) only [nI_ltI, nI_leI, nI_eq, Nat.not_lt, Nat.not_le] at c_38
      have hi2 : i = c.pn := by omega
      subst hi2
      have hop2 : op = pipeB c p := hop
      subst hop2
      refine ev_iload_n d_X_pipe_65 rfl rfl ?_
      refine ev_if_eq d_X_pipe_66 (fun c_66 => ?_) (fun c_66 => ?_)
      ·
        have c_66 := b2_f c_66
        have hXq : XM G n μ (pipeC c p) lx ik tb tl ts lat := by
          unfold pipeC; rw [if_neg (by rw [c_66]; decide)]; exact hX
        refine ev_aload_n d_X_pipe_86 rfl rfl ?_
        refine ev_iload_n d_X_pipe_87 rfl rfl ?_
        refine cv (mc' := 0) (ms' := 0) (k' := k_X_told) (As := [.int (b2 (pipeB c p))]) (stk := []) d_X_pipe_88 ml_X_75 kk_X_told rfl rfl (Nat.le_of_ble_eq_true rfl) (by omega) hXq.2.1 rfl rfl (ct_X_told (d := d + 6) (is := pipeB c p) hXq hl) (af fun n1 ν1 hq => ?_)
        obtain ⟨hn1, hXn, hfn⟩ := hq
        subst n1
        refine ev_ireturn d_X_pipe_91 rfl (b2_nar _) ?_
        subst hQ
        exact ⟨rfl, rfl, hXn, fun t ht _ => (hfn t (by omega)).trans rfl⟩
      ·
        have c_66 := b2_t c_66
        have hpn8 : c.pn < 8 := by
          simp only [pipeB, Bool.and_eq_true, decide_eq_true_eq] at c_66; exact c_66.1
        refine ev_aload_n d_X_pipe_69 rfl rfl ?_
        refine ev_getf (kf := 2) (T := F_X) (C := R_X) (N := 14) (v := .ref (G.1 + 2)) d_X_pipe_70 fl_X_13 rfl i_X (by decide) (by omega) x0 rfl ?_
        refine ev_aload_n d_X_pipe_73 rfl rfl ?_
        refine ev_dup d_X_pipe_74 rfl ?_
        refine ev_getf (kf := 3) (T := F_X) (C := R_X) (N := 14) (v := .int (nI (c.pn))) d_X_pipe_75 fl_X_78 rfl i_X (by decide) (by omega) x0 rfl ?_
        refine ev_dup_x1 d_X_pipe_78 rfl rfl ?_
        refine ev_iconst (v := (nI (1))) d_X_pipe_79 (by decide) ?_
        refine ev_iadd d_X_pipe_80 ?_
        refine ev_topi (w := (nI (c.pn + 1))) (nI_add _ _) ?_
        refine ev_putf (kf := 3) (T := F_X) (C := R_X) (N := 14) (ty0 := t_X) d_X_pipe_81 fl_X_78 rfl i_X t_X_ok n_X (by decide) rfl rfl rfl rfl (by omega) x0 (Nat.le_of_ble_eq_true rfl) ?_
        refine ev_iload_n d_X_pipe_84 rfl rfl ?_
        skip
        refine ev_iast (j := c.pn) d_X_pipe_85 (by omega) ((mset_ne _ _ (by omega)).trans x2) (by omega) (by decide) ?_
        rw [upd_nI]
        have hXq : XM G n (mset (mset μ 0 (ob 0 [.int (nI c.st), .ref (G.1 + 1), .ref (G.1 + 2), .int (nI (c.pn + 1)), .ref (G.1 + 3), .int (nI c.mn), .ref (G.1 + 4), .ref (G.1 + 11), .int (nI lx), .int (nI c.mo), .ref (G.1 + 18), .ref (G.1 + 19), .int (nI tl), lat])) 2 (aI 8 (fun j => nI (if j = c.pn then p else c.pp j)))) (pipeC c p) lx ik tb tl ts lat := by
          unfold pipeC; rw [if_pos c_66]
          exact (XM.m0 hX (c.set_pn (c.pn + 1)) lx tl lat ⟨rfl, rfl, rfl, rfl, rfl, rfl, rfl, rfl, rfl, rfl, rfl⟩).m2 (fun j => if j = c.pn then p else c.pp j)
        refine ev_aload_n d_X_pipe_86 rfl rfl ?_
        refine ev_iload_n d_X_pipe_87 rfl rfl ?_
        refine cv (mc' := 0) (ms' := 0) (k' := k_X_told) (As := [.int (b2 (pipeB c p))]) (stk := []) d_X_pipe_88 ml_X_75 kk_X_told rfl rfl (Nat.le_of_ble_eq_true rfl) (by omega) hXq.2.1 rfl rfl (ct_X_told (d := d + 6) (is := pipeB c p) hXq hl) (af fun n1 ν1 hq => ?_)
        obtain ⟨hn1, hXn, hfn⟩ := hq
        subst n1
        refine ev_ireturn d_X_pipe_91 rfl (b2_nar _) ?_
        subst hQ
        exact ⟨rfl, rfl, hXn, fun t ht _ => (hfn t (by omega)).trans ((mset_ne _ _ (by omega)).trans (mset_ne _ _ (by omega)))⟩
    ·
      simp (disch := omega) only [nI_ltI, nI_leI, nI_eq, Nat.not_lt, Nat.not_le] at c_38
      have hpi := hpp i c_38
      refine ev_iload_n d_X_pipe_41 rfl rfl ?_
      have hJ_57 : ∀ b : Bool, b = decide (c.pp i ≠ p) → Ev G k_X_pipe (d + 7) 0 0 57 [some (.ref (G.1 + 0)), some (.int (nI (p))), some (.int (b2 (op))), some (.int (nI (i)))] [.int (b2 (b)), .int (b2 (op))] n μ Q := by
        intro b hJ
        refine ev_iand d_X_pipe_57 ?_
        refine ev_topi (w := (b2 (op && b))) (b2_and _ _) ?_
        refine ev_istore_n (ls' := [_, _, _, _]) d_X_pipe_58 rfl (by decide) rfl rfl ?_
        refine ev_iinc (v := (nI (i + 1))) (ls' := [_, _, _, _]) d_X_pipe_59 rfl (nI_1 _) (by decide) rfl rfl ?_
        refine ev_goto d_X_pipe_62 ?_
        exact ih (i + 1) (op && b) (by omega) (by omega) (by rw [hop, hJ, all_succ, Bool.and_assoc])
      refine ev_aload_n d_X_pipe_42 rfl rfl ?_
      refine ev_getf (kf := 2) (T := F_X) (C := R_X) (N := 14) (v := .ref (G.1 + 2)) d_X_pipe_43 fl_X_13 rfl i_X (by decide) (by omega) x0 rfl ?_
      refine ev_iload_n d_X_pipe_46 rfl rfl ?_
      refine ev_iald (j := i) d_X_pipe_47 (by omega) x2 (by omega) (by decide) ?_
      refine ev_iload_n d_X_pipe_48 rfl rfl ?_
      refine ev_icmp_eq d_X_pipe_49 (fun c_49 => ?_) (fun c_49 => ?_)
      ·
        simp (disch := omega) only [nI_ltI, nI_leI, nI_eq, Nat.not_lt, Nat.not_le] at c_49
        refine ev_iconst (v := (nI (0))) d_X_pipe_56 (by decide) ?_
        exact hJ_57 false (by simp; omega)
      ·
        simp (disch := omega) only [nI_ltI, nI_leI, nI_eq, Nat.not_lt, Nat.not_le] at c_49
        refine ev_iconst (v := (nI (1))) d_X_pipe_52 (by decide) ?_
        refine ev_goto d_X_pipe_53 ?_
        exact hJ_57 true (by simp; omega)
theorem ct_X_pipe_ok {p : Nat} (hp : p < c.st) (hX : XM G n μ c lx ik tb tl ts lat) (hc : CfOK c) (hl : lat = .null ∨ ∃ t : Nat, lat = .ref (G.1 + t)) : Ct G k_X_pipe (d + 7) 1 6 [.ref (G.1 + 0), .int (nI p)] n μ (XU G n μ (.int (b2 (pipeB c p))) (pipeC c p) lx ik tb tl ts (if (pipeB c p) then .null else lat)) := by
  obtain ⟨hn, x0, x1, x2, x3, x4, x5, x11, x12, x18, x19, xi, xj⟩ := id hX
  obtain ⟨⟨hst1, hst2⟩, hfr, hpn, hpp, hmn, hwd, hnd, hpu, hnr, hbr, hle, hdef⟩ := id hc
  generalize hQ : (XU G n μ (.int (b2 (pipeB c p))) (pipeC c p) lx ik tb tl ts (if (pipeB c p) then .null else lat)) = Q
  refine Ct.ofp (r := 2) (ls := [some (.ref (G.1 + 0)), some (.int (nI (p))), none, none]) rfl (Nat.le_of_ble_eq_true rfl) ?_
  refine ev_iload_n d_X_pipe_0 rfl rfl ?_
  refine ev_i2l d_X_pipe_1 ?_
  refine ev_topl (w := (lN (p))) (nI_l (by omega)) ?_
  refine ev_lconst (v := lN 0) d_X_pipe_2 (by decide) ?_
  refine ev_aload_n d_X_pipe_3 rfl rfl ?_
  refine ev_getf (kf := 0) (T := F_X) (C := R_X) (N := 14) (v := .int (nI (c.st))) d_X_pipe_4 fl_X_50 rfl i_X (by decide) (by omega) x0 rfl ?_
  refine ev_i2l d_X_pipe_7 ?_
  refine ev_topl (w := (lN (c.st))) (nI_l (by omega)) ?_
  refine ev_lconst (v := lN 1) d_X_pipe_8 (by decide) ?_
  refine ev_lsub d_X_pipe_9 ?_
  refine cs (mc' := 0) (ms' := 0) (k' := k_X_isIn) (As := [.long (lN (p)), .long (lN (0)), .long ((lN (c.st)) - (lN (1)))]) (stk := []) d_X_pipe_10 ml_X_67 kk_X_isIn rfl rfl (Nat.le_of_ble_eq_true rfl) (ct_X_isInV (d := d + 6) (LZ_n (by omega)) (LZ_n (by omega)) (LZ_sub (LZ_n (by omega)) (LZ_n (by omega)) (by omega) (by omega))) (rd ?_)
  refine cs (mc' := 1) (ms' := 6) (k' := k_X_proper) (As := [.int (b2 (decide (((0 : Nat) : Int) ≤ ((p : Nat) : Int) ∧ ((p : Nat) : Int) ≤ (((c.st : Nat) : Int) - ((1 : Nat) : Int)))))]) (stk := []) d_X_pipe_13 ml_X_71 kk_X_proper rfl rfl (Nat.le_of_ble_eq_true rfl) (ct_proper (d := d) (decide (((0 : Nat) : Int) ≤ ((p : Nat) : Int) ∧ ((p : Nat) : Int) ≤ (((c.st : Nat) : Int) - ((1 : Nat) : Int))))) (gdT (decide_eq_true (by omega)) ?_)
  refine ev_aload_n d_X_pipe_16 rfl rfl ?_
  have hJ_30 : ∀ b : Bool, b = decide (c.pn < 8) → Ev G k_X_pipe (d + 7) 0 0 30 [some (.ref (G.1 + 0)), some (.int (nI (p))), none, none] [.int (b2 (b))] n μ Q := by
    intro b hJ
    refine ev_istore_n (ls' := [_, _, _, none]) d_X_pipe_30 rfl (by decide) rfl rfl ?_
    refine ev_iconst (v := (nI (0))) d_X_pipe_31 (by decide) ?_
    refine ev_istore_n (ls' := [_, _, _, _]) d_X_pipe_32 rfl (by decide) rfl rfl ?_
    subst hQ
    exact lp_X_pipe hp hX hc hl (c.pn + 1) 0 b (by omega) (by omega) (by rw [hJ]; simp)
  refine ev_getf (kf := 3) (T := F_X) (C := R_X) (N := 14) (v := .int (nI (c.pn))) d_X_pipe_17 fl_X_78 rfl i_X (by decide) (by omega) x0 rfl ?_
  refine ev_bipush (v := (nI (8))) d_X_pipe_20 (by decide) ?_
  refine ev_icmp_ge d_X_pipe_22 (fun c_22 => ?_) (fun c_22 => ?_)
  ·
    simp (disch := omega) only [nI_ltI, nI_leI, nI_eq, Nat.not_lt, Nat.not_le] at c_22
    refine ev_iconst (v := (nI (0))) d_X_pipe_29 (by decide) ?_
    exact hJ_30 false (by simp; omega)
  ·
    simp (disch := omega) only [nI_ltI, nI_leI, nI_eq, Nat.not_lt, Nat.not_le] at c_22
    refine ev_iconst (v := (nI (1))) d_X_pipe_25 (by decide) ?_
    refine ev_goto d_X_pipe_26 ?_
    exact hJ_30 true (by simp; omega)
theorem ct_X_pipe_no {a : Int} (ha1 : -2147483648 ≤ a) (ha2 : a < 2147483648) (hno : ¬ (0 ≤ a ∧ a < c.st)) (hX : XM G n μ c lx ik tb tl ts lat) (hc : CfOK c) : Ct G k_X_pipe (d + 7) 1 6 [.ref (G.1 + 0), .int (iI a)] n μ (XT 4 n μ) := by
  obtain ⟨hn, x0, x1, x2, x3, x4, x5, x11, x12, x18, x19, xi, xj⟩ := id hX
  obtain ⟨⟨hst1, hst2⟩, hfr, hpn, hpp, hmn, hwd, hnd, hpu, hnr, hbr, hle, hdef⟩ := id hc
  refine Ct.ofp (r := 2) (ls := [some (.ref (G.1 + 0)), some (.int (iI (a))), none, none]) rfl (Nat.le_of_ble_eq_true rfl) ?_
  refine ev_iload_n d_X_pipe_0 rfl rfl ?_
  refine ev_i2l d_X_pipe_1 ?_
  refine ev_lconst (v := lN 0) d_X_pipe_2 (by decide) ?_
  refine ev_aload_n d_X_pipe_3 rfl rfl ?_
  refine ev_getf (kf := 0) (T := F_X) (C := R_X) (N := 14) (v := .int (nI (c.st))) d_X_pipe_4 fl_X_50 rfl i_X (by decide) (by omega) x0 rfl ?_
  refine ev_i2l d_X_pipe_7 ?_
  refine ev_topl (w := (lN (c.st))) (nI_l (by omega)) ?_
  refine ev_lconst (v := lN 1) d_X_pipe_8 (by decide) ?_
  refine ev_lsub d_X_pipe_9 ?_
  refine cs (mc' := 0) (ms' := 0) (k' := k_X_isIn) (As := [.long (((iI (a))).toInt64), .long (lN (0)), .long ((lN (c.st)) - (lN (1)))]) (stk := []) d_X_pipe_10 ml_X_67 kk_X_isIn rfl rfl (Nat.le_of_ble_eq_true rfl) (ct_X_isInV (d := d + 6) (LZ_z (by omega) (by omega)) (LZ_n (by omega)) (LZ_sub (LZ_n (by omega)) (LZ_n (by omega)) (by omega) (by omega))) (rd ?_)
  refine cs (mc' := 1) (ms' := 6) (k' := k_X_proper) (As := [.int (b2 (decide (((0 : Nat) : Int) ≤ a ∧ a ≤ (((c.st : Nat) : Int) - ((1 : Nat) : Int)))))]) (stk := []) d_X_pipe_13 ml_X_71 kk_X_proper rfl rfl (Nat.le_of_ble_eq_true rfl) (ct_proper (d := d) (decide (((0 : Nat) : Int) ≤ a ∧ a ≤ (((c.st : Nat) : Int) - ((1 : Nat) : Int))))) (gdF (decide_eq_false (by omega)) ?_)
  exact ⟨rfl, rfl, rfl⟩
theorem ct_X_itemAt_ok {k : Nat} (hk : k < c.mn) (hX : XM G n μ c lx ik tb tl ts lat) (hc : CfOK c) : Ct G k_X_itemAt (d + 7) 1 6 [.ref (G.1 + 0), .int (nI k)] n μ (Rd (some (.ref (G.1 + ik k))) n μ) := by
  obtain ⟨hn, x0, x1, x2, x3, x4, x5, x11, x12, x18, x19, xi, xj⟩ := id hX
  obtain ⟨⟨hst1, hst2⟩, hfr, hpn, hpp, hmn, hwd, hnd, hpu, hnr, hbr, hle, hdef⟩ := id hc
  refine Ct.ofp (r := 0) (ls := [some (.ref (G.1 + 0)), some (.int (nI (k)))]) rfl (Nat.le_of_ble_eq_true rfl) ?_
  refine ev_iload_n d_X_itemAt_0 rfl rfl ?_
  refine ev_i2l d_X_itemAt_1 ?_
  refine ev_topl (w := (lN (k))) (nI_l (by omega)) ?_
  refine ev_lconst (v := lN 0) d_X_itemAt_2 (by decide) ?_
  refine ev_aload_n d_X_itemAt_3 rfl rfl ?_
  refine ev_getf (kf := 5) (T := F_X) (C := R_X) (N := 14) (v := .int (nI (c.mn))) d_X_itemAt_4 fl_X_81 rfl i_X (by decide) (by omega) x0 rfl ?_
  refine ev_i2l d_X_itemAt_7 ?_
  refine ev_topl (w := (lN (c.mn))) (nI_l (by omega)) ?_
  refine ev_lconst (v := lN 1) d_X_itemAt_8 (by decide) ?_
  refine ev_lsub d_X_itemAt_9 ?_
  refine cs (mc' := 0) (ms' := 0) (k' := k_X_isIn) (As := [.long (lN (k)), .long (lN (0)), .long ((lN (c.mn)) - (lN (1)))]) (stk := []) d_X_itemAt_10 ml_X_67 kk_X_isIn rfl rfl (Nat.le_of_ble_eq_true rfl) (ct_X_isInV (d := d + 6) (LZ_n (by omega)) (LZ_n (by omega)) (LZ_sub (LZ_n (by omega)) (LZ_n (by omega)) (by omega) (by omega))) (rd ?_)
  refine cs (mc' := 1) (ms' := 6) (k' := k_X_there) (As := [.int (b2 (decide (((0 : Nat) : Int) ≤ ((k : Nat) : Int) ∧ ((k : Nat) : Int) ≤ (((c.mn : Nat) : Int) - ((1 : Nat) : Int)))))]) (stk := []) d_X_itemAt_13 ml_X_94 kk_X_there rfl rfl (Nat.le_of_ble_eq_true rfl) (ct_there (d := d) (decide (((0 : Nat) : Int) ≤ ((k : Nat) : Int) ∧ ((k : Nat) : Int) ≤ (((c.mn : Nat) : Int) - ((1 : Nat) : Int))))) (gdT (decide_eq_true (by omega)) ?_)
  refine ev_aload_n d_X_itemAt_16 rfl rfl ?_
  refine ev_getf (kf := 4) (T := F_X) (C := R_X) (N := 14) (v := .ref (G.1 + 3)) d_X_itemAt_17 fl_X_19 rfl i_X (by decide) (by omega) x0 rfl ?_
  refine ev_iload_n d_X_itemAt_20 rfl rfl ?_
  refine ev_aald (j := k) d_X_itemAt_21 (by omega) x3 (by decide) (by omega) (by decide) ?_
  refine ev_top (w := .ref (G.1 + ik k)) (by rw [if_pos hk]; rfl) ?_
  refine ev_areturn d_X_itemAt_22 rfl (Or.inr ⟨_, rfl⟩) ?_
  exact ⟨rfl, rfl, rfl⟩
theorem ct_X_itemAt_no {a : Int} (ha1 : -2147483648 ≤ a) (ha2 : a < 2147483648) (hno : ¬ (0 ≤ a ∧ a < c.mn)) (hX : XM G n μ c lx ik tb tl ts lat) (hc : CfOK c) : Ct G k_X_itemAt (d + 7) 1 6 [.ref (G.1 + 0), .int (iI a)] n μ (XT 6 n μ) := by
  obtain ⟨hn, x0, x1, x2, x3, x4, x5, x11, x12, x18, x19, xi, xj⟩ := id hX
  obtain ⟨⟨hst1, hst2⟩, hfr, hpn, hpp, hmn, hwd, hnd, hpu, hnr, hbr, hle, hdef⟩ := id hc
  refine Ct.ofp (r := 0) (ls := [some (.ref (G.1 + 0)), some (.int (iI (a)))]) rfl (Nat.le_of_ble_eq_true rfl) ?_
  refine ev_iload_n d_X_itemAt_0 rfl rfl ?_
  refine ev_i2l d_X_itemAt_1 ?_
  refine ev_lconst (v := lN 0) d_X_itemAt_2 (by decide) ?_
  refine ev_aload_n d_X_itemAt_3 rfl rfl ?_
  refine ev_getf (kf := 5) (T := F_X) (C := R_X) (N := 14) (v := .int (nI (c.mn))) d_X_itemAt_4 fl_X_81 rfl i_X (by decide) (by omega) x0 rfl ?_
  refine ev_i2l d_X_itemAt_7 ?_
  refine ev_topl (w := (lN (c.mn))) (nI_l (by omega)) ?_
  refine ev_lconst (v := lN 1) d_X_itemAt_8 (by decide) ?_
  refine ev_lsub d_X_itemAt_9 ?_
  refine cs (mc' := 0) (ms' := 0) (k' := k_X_isIn) (As := [.long (((iI (a))).toInt64), .long (lN (0)), .long ((lN (c.mn)) - (lN (1)))]) (stk := []) d_X_itemAt_10 ml_X_67 kk_X_isIn rfl rfl (Nat.le_of_ble_eq_true rfl) (ct_X_isInV (d := d + 6) (LZ_z (by omega) (by omega)) (LZ_n (by omega)) (LZ_sub (LZ_n (by omega)) (LZ_n (by omega)) (by omega) (by omega))) (rd ?_)
  refine cs (mc' := 1) (ms' := 6) (k' := k_X_there) (As := [.int (b2 (decide (((0 : Nat) : Int) ≤ a ∧ a ≤ (((c.mn : Nat) : Int) - ((1 : Nat) : Int)))))]) (stk := []) d_X_itemAt_13 ml_X_94 kk_X_there rfl rfl (Nat.le_of_ble_eq_true rfl) (ct_there (d := d) (decide (((0 : Nat) : Int) ≤ a ∧ a ≤ (((c.mn : Nat) : Int) - ((1 : Nat) : Int))))) (gdF (decide_eq_false (by omega)) ?_)
  exact ⟨rfl, rfl, rfl⟩
theorem ct_X_pairThere_ok {k i : Nat} (hk : k < c.mn) (hi : i < c.mn) (hX : XM G n μ c lx ik tb tl ts lat) (hc : CfOK c) : Ct G k_X_pairThere (d + 7) 1 6 [.ref (G.1 + 0), .int (nI k), .int (nI i)] n μ (Rd none n μ) := by
  obtain ⟨hn, x0, x1, x2, x3, x4, x5, x11, x12, x18, x19, xi, xj⟩ := id hX
  obtain ⟨⟨hst1, hst2⟩, hfr, hpn, hpp, hmn, hwd, hnd, hpu, hnr, hbr, hle, hdef⟩ := id hc
  refine Ct.ofp (r := 0) (ls := [some (.ref (G.1 + 0)), some (.int (nI (k))), some (.int (nI (i)))]) rfl (Nat.le_of_ble_eq_true rfl) ?_
  refine ev_iload_n d_X_pairThere_0 rfl rfl ?_
  refine ev_i2l d_X_pairThere_1 ?_
  refine ev_topl (w := (lN (k))) (nI_l (by omega)) ?_
  refine ev_lconst (v := lN 0) d_X_pairThere_2 (by decide) ?_
  refine ev_aload_n d_X_pairThere_3 rfl rfl ?_
  refine ev_getf (kf := 5) (T := F_X) (C := R_X) (N := 14) (v := .int (nI (c.mn))) d_X_pairThere_4 fl_X_81 rfl i_X (by decide) (by omega) x0 rfl ?_
  refine ev_i2l d_X_pairThere_7 ?_
  refine ev_topl (w := (lN (c.mn))) (nI_l (by omega)) ?_
  refine ev_lconst (v := lN 1) d_X_pairThere_8 (by decide) ?_
  refine ev_lsub d_X_pairThere_9 ?_
  refine cs (mc' := 0) (ms' := 0) (k' := k_X_isIn) (As := [.long (lN (k)), .long (lN (0)), .long ((lN (c.mn)) - (lN (1)))]) (stk := []) d_X_pairThere_10 ml_X_67 kk_X_isIn rfl rfl (Nat.le_of_ble_eq_true rfl) (ct_X_isInV (d := d + 6) (LZ_n (by omega)) (LZ_n (by omega)) (LZ_sub (LZ_n (by omega)) (LZ_n (by omega)) (by omega) (by omega))) (rd ?_)
  refine ev_if_eq d_X_pairThere_13 (fun c_13 => ?_) (fun c_13 => ?_)
  ·
    have c_13 := b2_f c_13
    exfalso; rw [decide_eq_false_iff_not] at c_13; omega
  ·
    have c_13 := b2_t c_13
    refine ev_iload_n d_X_pairThere_16 rfl rfl ?_
    refine ev_i2l d_X_pairThere_17 ?_
    refine ev_topl (w := (lN (i))) (nI_l (by omega)) ?_
    refine ev_lconst (v := lN 0) d_X_pairThere_18 (by decide) ?_
    refine ev_aload_n d_X_pairThere_19 rfl rfl ?_
    refine ev_getf (kf := 5) (T := F_X) (C := R_X) (N := 14) (v := .int (nI (c.mn))) d_X_pairThere_20 fl_X_81 rfl i_X (by decide) (by omega) x0 rfl ?_
    refine ev_i2l d_X_pairThere_23 ?_
    refine ev_topl (w := (lN (c.mn))) (nI_l (by omega)) ?_
    refine ev_lconst (v := lN 1) d_X_pairThere_24 (by decide) ?_
    refine ev_lsub d_X_pairThere_25 ?_
    refine cs (mc' := 0) (ms' := 0) (k' := k_X_isIn) (As := [.long (lN (i)), .long (lN (0)), .long ((lN (c.mn)) - (lN (1)))]) (stk := []) d_X_pairThere_26 ml_X_67 kk_X_isIn rfl rfl (Nat.le_of_ble_eq_true rfl) (ct_X_isInV (d := d + 6) (LZ_n (by omega)) (LZ_n (by omega)) (LZ_sub (LZ_n (by omega)) (LZ_n (by omega)) (by omega) (by omega))) (rd ?_)
    refine ev_if_eq d_X_pairThere_29 (fun c_29 => ?_) (fun c_29 => ?_)
    ·
      have c_29 := b2_f c_29
      exfalso; rw [decide_eq_false_iff_not] at c_29; omega
    ·
      have c_29 := b2_t c_29
      refine ev_iconst (v := (nI (1))) d_X_pairThere_32 (by decide) ?_
      refine ev_goto d_X_pairThere_33 ?_
      refine cs (mc' := 1) (ms' := 6) (k' := k_X_there) (As := [.int (nI (1))]) (stk := []) d_X_pairThere_37 ml_X_94 kk_X_there rfl rfl (Nat.le_of_ble_eq_true rfl) (ct_there (d := d) (true)) (gdT (rfl) ?_)
      refine ev_return d_X_pairThere_40 rfl ?_
      exact ⟨rfl, rfl, rfl⟩
theorem ct_X_pairThere_no {a b : Int} (ha1 : -2147483648 ≤ a) (ha2 : a < 2147483648) (hb1 : -2147483648 ≤ b) (hb2 : b < 2147483648) (hno : ¬ ((0 ≤ a ∧ a < c.mn) ∧ (0 ≤ b ∧ b < c.mn))) (hX : XM G n μ c lx ik tb tl ts lat) (hc : CfOK c) : Ct G k_X_pairThere (d + 7) 1 6 [.ref (G.1 + 0), .int (iI a), .int (iI b)] n μ (XT 6 n μ) := by
  obtain ⟨hn, x0, x1, x2, x3, x4, x5, x11, x12, x18, x19, xi, xj⟩ := id hX
  obtain ⟨⟨hst1, hst2⟩, hfr, hpn, hpp, hmn, hwd, hnd, hpu, hnr, hbr, hle, hdef⟩ := id hc
  refine Ct.ofp (r := 0) (ls := [some (.ref (G.1 + 0)), some (.int (iI (a))), some (.int (iI (b)))]) rfl (Nat.le_of_ble_eq_true rfl) ?_
  refine ev_iload_n d_X_pairThere_0 rfl rfl ?_
  refine ev_i2l d_X_pairThere_1 ?_
  refine ev_lconst (v := lN 0) d_X_pairThere_2 (by decide) ?_
  refine ev_aload_n d_X_pairThere_3 rfl rfl ?_
  refine ev_getf (kf := 5) (T := F_X) (C := R_X) (N := 14) (v := .int (nI (c.mn))) d_X_pairThere_4 fl_X_81 rfl i_X (by decide) (by omega) x0 rfl ?_
  refine ev_i2l d_X_pairThere_7 ?_
  refine ev_topl (w := (lN (c.mn))) (nI_l (by omega)) ?_
  refine ev_lconst (v := lN 1) d_X_pairThere_8 (by decide) ?_
  refine ev_lsub d_X_pairThere_9 ?_
  refine cs (mc' := 0) (ms' := 0) (k' := k_X_isIn) (As := [.long (((iI (a))).toInt64), .long (lN (0)), .long ((lN (c.mn)) - (lN (1)))]) (stk := []) d_X_pairThere_10 ml_X_67 kk_X_isIn rfl rfl (Nat.le_of_ble_eq_true rfl) (ct_X_isInV (d := d + 6) (LZ_z (by omega) (by omega)) (LZ_n (by omega)) (LZ_sub (LZ_n (by omega)) (LZ_n (by omega)) (by omega) (by omega))) (rd ?_)
  refine ev_if_eq d_X_pairThere_13 (fun c_13 => ?_) (fun c_13 => ?_)
  ·
    have c_13 := b2_f c_13
    refine ev_iconst (v := (nI (0))) d_X_pairThere_36 (by decide) ?_
    refine cs (mc' := 1) (ms' := 6) (k' := k_X_there) (As := [.int (nI (0))]) (stk := []) d_X_pairThere_37 ml_X_94 kk_X_there rfl rfl (Nat.le_of_ble_eq_true rfl) (ct_there (d := d) (false)) (gdF (rfl) ?_)
    exact ⟨rfl, rfl, rfl⟩
  ·
    have c_13 := b2_t c_13
    refine ev_iload_n d_X_pairThere_16 rfl rfl ?_
    refine ev_i2l d_X_pairThere_17 ?_
    refine ev_lconst (v := lN 0) d_X_pairThere_18 (by decide) ?_
    refine ev_aload_n d_X_pairThere_19 rfl rfl ?_
    refine ev_getf (kf := 5) (T := F_X) (C := R_X) (N := 14) (v := .int (nI (c.mn))) d_X_pairThere_20 fl_X_81 rfl i_X (by decide) (by omega) x0 rfl ?_
    refine ev_i2l d_X_pairThere_23 ?_
    refine ev_topl (w := (lN (c.mn))) (nI_l (by omega)) ?_
    refine ev_lconst (v := lN 1) d_X_pairThere_24 (by decide) ?_
    refine ev_lsub d_X_pairThere_25 ?_
    refine cs (mc' := 0) (ms' := 0) (k' := k_X_isIn) (As := [.long (((iI (b))).toInt64), .long (lN (0)), .long ((lN (c.mn)) - (lN (1)))]) (stk := []) d_X_pairThere_26 ml_X_67 kk_X_isIn rfl rfl (Nat.le_of_ble_eq_true rfl) (ct_X_isInV (d := d + 6) (LZ_z (by omega) (by omega)) (LZ_n (by omega)) (LZ_sub (LZ_n (by omega)) (LZ_n (by omega)) (by omega) (by omega))) (rd ?_)
    refine ev_if_eq d_X_pairThere_29 (fun c_29 => ?_) (fun c_29 => ?_)
    ·
      have c_29 := b2_f c_29
      refine ev_iconst (v := (nI (0))) d_X_pairThere_36 (by decide) ?_
      refine cs (mc' := 1) (ms' := 6) (k' := k_X_there) (As := [.int (nI (0))]) (stk := []) d_X_pairThere_37 ml_X_94 kk_X_there rfl rfl (Nat.le_of_ble_eq_true rfl) (ct_there (d := d) (false)) (gdF (rfl) ?_)
      exact ⟨rfl, rfl, rfl⟩
    ·
      have c_29 := b2_t c_29
      exfalso; have := of_decide_eq_true c_13; have := of_decide_eq_true c_29; omega
theorem ct_X_need_ok {k : Nat} {z : Int} (hk : k < c.mn) (hz1 : -1 ≤ z) (hz2 : z ≤ 40) (hX : XM G n μ c lx ik tb tl ts lat) (hc : CfOK c) (hl : lat = .null ∨ ∃ t : Nat, lat = .ref (G.1 + t)) : Ct G k_X_need (d + 8) 2 12 [.ref (G.1 + 0), .int (nI (k)), .int (iI (z))] n μ (XU G n μ (.int (b2 (decide (c.nd k ≠ z)))) (needC c k z) lx ik tb tl ts (if (decide (c.nd k ≠ z)) then .null else lat)) := by
  obtain ⟨hn, x0, x1, x2, x3, x4, x5, x11, x12, x18, x19, xi, xj⟩ := id hX
  obtain ⟨⟨hst1, hst2⟩, hfr, hpn, hpp, hmn, hwd, hnd, hpu, hnr, hbr, hle, hdef⟩ := id hc
  have hik := xi k hk
  have hndk := hnd k
  have hpuk := hpu k
  generalize hQ : (XU G n μ (.int (b2 (decide (c.nd k ≠ z)))) (needC c k z) lx ik tb tl ts (if (decide (c.nd k ≠ z)) then .null else lat)) = Q
  refine Ct.ofp (r := 2) (ls := [some (.ref (G.1 + 0)), some (.int (nI (k))), some (.int (iI (z))), none, none]) rfl (Nat.le_of_ble_eq_true rfl) ?_
  refine ev_aload_n d_X_need_0 rfl rfl ?_
  refine ev_iload_n d_X_need_1 rfl rfl ?_
  refine cv (mc' := 1) (ms' := 6) (k' := k_X_itemAt) (As := [.int (nI (k))]) (stk := []) d_X_need_2 ml_X_97 kk_X_itemAt rfl rfl (Nat.le_of_ble_eq_true rfl) (by omega) x0 rfl rfl (ct_X_itemAt_ok (d := d) hk hX hc) (rd ?_)
  refine ev_astore_n (ls' := [_, _, _, _, none]) d_X_need_5 rfl (by decide) rfl rfl ?_
  refine ev_iload_n d_X_need_6 rfl rfl ?_
  refine ev_i2l d_X_need_7 ?_
  refine ev_ldc2 (v := (-1)) d_X_need_8 ck_X_101 ?_
  refine ev_ldc2 (v := (40)) d_X_need_11 ck_X_103 ?_
  refine ev_topl (w := lN 40) (by decide) ?_
  refine cs (mc' := 0) (ms' := 0) (k' := k_X_isIn) (As := [.long (((iI (z))).toInt64), .long ((-1)), .long (lN (40))]) (stk := []) d_X_need_14 ml_X_67 kk_X_isIn rfl rfl (Nat.le_of_ble_eq_true rfl) (ct_X_isInV (d := d + 7) (LZ_z (by omega) (by omega)) (show Int64.toInt (-1) = (-1) from by decide) (LZ_n (by omega))) (rd ?_)
  refine cs (mc' := 1) (ms' := 6) (k' := k_X_proper) (As := [.int (b2 (decide ((-1) ≤ z ∧ z ≤ ((40 : Nat) : Int))))]) (stk := []) d_X_need_17 ml_X_71 kk_X_proper rfl rfl (Nat.le_of_ble_eq_true rfl) (ct_proper (d := d + 1) (decide ((-1) ≤ z ∧ z ≤ ((40 : Nat) : Int)))) (gdT (decide_eq_true (by omega)) ?_)
  have hJ_33 : ∀ b : Bool, b = (decide (c.nd k ≠ z)) → Ev G k_X_need (d + 8) 0 0 33 [some (.ref (G.1 + 0)), some (.int (nI (k))), some (.int (iI (z))), some (.ref (G.1 + ik k)), none] [.int (b2 (b))] n μ Q := by
    intro b hJ
    refine ev_istore (ls' := [_, _, _, _, _]) d_X_need_33 (by decide) rfl rfl ?_
    refine ev_aload_n d_X_need_35 rfl rfl ?_
    refine ev_iload_n d_X_need_36 rfl rfl ?_
    refine ev_putN (kf := 3) (T := F_I) (C := R_I) (N := 6) (ty0 := t_I) d_X_need_37 fl_X_105 rfl i_I t_I_ok n_I (by decide) rfl rfl rfl rfl (xi k hk).2.1 (xi k hk).2.2 (Nat.le_of_ble_eq_true rfl) ?_
    have hXq := XM.mi hX hk (fun j => if j = k then z else c.nd j) (c.ms) (c.pu) (fun j hj => ⟨by simp [hj], by simp [hj], by simp [hj]⟩)
    simp only [if_true] at hXq
    subst hJ
    refine ev_aload_n d_X_need_40 rfl rfl ?_
    refine ev_iload d_X_need_41 rfl ?_
    refine cv (mc' := 0) (ms' := 0) (k' := k_X_told) (As := [.int (b2 (decide (c.nd k ≠ z)))]) (stk := []) d_X_need_43 ml_X_75 kk_X_told rfl rfl (Nat.le_of_ble_eq_true rfl) (by omega) hXq.2.1 rfl rfl (ct_X_told (d := d + 7) (is := decide (c.nd k ≠ z)) hXq hl) (af fun n1 ν1 hq => ?_)
    obtain ⟨hn1, hXn, hfn⟩ := hq
    subst n1
    refine ev_ireturn d_X_need_46 rfl (b2_nar _) ?_
    subst hQ
    exact ⟨rfl, rfl, hXn, fun t ht ht2 => (hfn t (by omega)).trans (mset_ne _ _ (by rintro rfl; exact ht2.elim (fun q => by omega) (fun q => q _ hik.2.2)))⟩
  refine ev_aload_n d_X_need_20 rfl rfl ?_
  refine ev_getN (kf := 3) (T := F_I) (C := R_I) (N := 6) (v := .int (iI (c.nd k))) d_X_need_21 fl_X_105 rfl i_I (by decide) (xi k hk).2.1 (xi k hk).2.2 rfl ?_
  refine ev_iload_n d_X_need_24 rfl rfl ?_
  refine ev_icmp_eq d_X_need_25 (fun c_25 => ?_) (fun c_25 => ?_)
  ·
    simp (disch := omega) only [nI_iI, iI_ltI, iI_leI, iI_eq, Int.not_lt, Int.not_le] at c_25
    refine ev_iconst (v := (nI (0))) d_X_need_32 (by decide) ?_
    exact hJ_33 false (by simp; omega)
  ·
    simp (disch := omega) only [nI_iI, iI_ltI, iI_leI, iI_eq, Int.not_lt, Int.not_le] at c_25
    refine ev_iconst (v := (nI (1))) d_X_need_28 (by decide) ?_
    refine ev_goto d_X_need_29 ?_
    exact hJ_33 true (by simp; omega)
theorem ct_X_must_ok {k : Nat} {on : Bool} (hk : k < c.mn) (hX : XM G n μ c lx ik tb tl ts lat) (hc : CfOK c) (hl : lat = .null ∨ ∃ t : Nat, lat = .ref (G.1 + t)) : Ct G k_X_must (d + 8) 1 6 [.ref (G.1 + 0), .int (nI (k)), .int (b2 (on))] n μ (XU G n μ (.int (b2 (c.ms k != on))) (mustC c k on) lx ik tb tl ts (if (c.ms k != on) then .null else lat)) := by
  obtain ⟨hn, x0, x1, x2, x3, x4, x5, x11, x12, x18, x19, xi, xj⟩ := id hX
  obtain ⟨⟨hst1, hst2⟩, hfr, hpn, hpp, hmn, hwd, hnd, hpu, hnr, hbr, hle, hdef⟩ := id hc
  have hik := xi k hk
  have hndk := hnd k
  have hpuk := hpu k
  generalize hQ : (XU G n μ (.int (b2 (c.ms k != on))) (mustC c k on) lx ik tb tl ts (if (c.ms k != on) then .null else lat)) = Q
  refine Ct.ofp (r := 2) (ls := [some (.ref (G.1 + 0)), some (.int (nI (k))), some (.int (b2 (on))), none, none]) rfl (Nat.le_of_ble_eq_true rfl) ?_
  refine ev_aload_n d_X_must_0 rfl rfl ?_
  refine ev_iload_n d_X_must_1 rfl rfl ?_
  refine cv (mc' := 1) (ms' := 6) (k' := k_X_itemAt) (As := [.int (nI (k))]) (stk := []) d_X_must_2 ml_X_97 kk_X_itemAt rfl rfl (Nat.le_of_ble_eq_true rfl) (by omega) x0 rfl rfl (ct_X_itemAt_ok (d := d) hk hX hc) (rd ?_)
  refine ev_astore_n (ls' := [_, _, _, _, none]) d_X_must_5 rfl (by decide) rfl rfl ?_
  have hJ_19 : ∀ b : Bool, b = (c.ms k != on) → Ev G k_X_must (d + 8) 0 0 19 [some (.ref (G.1 + 0)), some (.int (nI (k))), some (.int (b2 (on))), some (.ref (G.1 + ik k)), none] [.int (b2 (b))] n μ Q := by
    intro b hJ
    refine ev_istore (ls' := [_, _, _, _, _]) d_X_must_19 (by decide) rfl rfl ?_
    refine ev_aload_n d_X_must_21 rfl rfl ?_
    refine ev_iload_n d_X_must_22 rfl rfl ?_
    refine ev_putN (kf := 4) (T := F_I) (C := R_I) (N := 6) (ty0 := t_I) d_X_must_23 fl_X_112 rfl i_I t_I_ok n_I (by decide) rfl rfl (b2_nar _) (b2_fit _) (xi k hk).2.1 (xi k hk).2.2 (Nat.le_of_ble_eq_true rfl) ?_
    have hXq := XM.mi hX hk (c.nd) (fun j => if j = k then on else c.ms j) (c.pu) (fun j hj => ⟨by simp [hj], by simp [hj], by simp [hj]⟩)
    simp only [if_true] at hXq
    subst hJ
    refine ev_aload_n d_X_must_26 rfl rfl ?_
    refine ev_iload d_X_must_27 rfl ?_
    refine cv (mc' := 0) (ms' := 0) (k' := k_X_told) (As := [.int (b2 (c.ms k != on))]) (stk := []) d_X_must_29 ml_X_75 kk_X_told rfl rfl (Nat.le_of_ble_eq_true rfl) (by omega) hXq.2.1 rfl rfl (ct_X_told (d := d + 7) (is := c.ms k != on) hXq hl) (af fun n1 ν1 hq => ?_)
    obtain ⟨hn1, hXn, hfn⟩ := hq
    subst n1
    refine ev_ireturn d_X_must_32 rfl (b2_nar _) ?_
    subst hQ
    exact ⟨rfl, rfl, hXn, fun t ht ht2 => (hfn t (by omega)).trans (mset_ne _ _ (by rintro rfl; exact ht2.elim (fun q => by omega) (fun q => q _ hik.2.2)))⟩
  refine ev_aload_n d_X_must_6 rfl rfl ?_
  refine ev_getN (kf := 4) (T := F_I) (C := R_I) (N := 6) (v := .int (b2 (c.ms k))) d_X_must_7 fl_X_112 rfl i_I (by decide) (xi k hk).2.1 (xi k hk).2.2 rfl ?_
  refine ev_iload_n d_X_must_10 rfl rfl ?_
  refine ev_icmp_eq d_X_must_11 (fun c_11 => ?_) (fun c_11 => ?_)
  ·
    refine ev_iconst (v := (nI (0))) d_X_must_18 (by decide) ?_
    exact hJ_19 false (by have q := c_11; cases hq1 : c.ms k <;> cases hq2 : on <;> rw [hq1, hq2] at q <;> first | rfl | exact absurd q (by decide) | exact absurd rfl q)
  ·
    refine ev_iconst (v := (nI (1))) d_X_must_14 (by decide) ?_
    refine ev_goto d_X_must_15 ?_
    exact hJ_19 true (by have q := c_11; cases hq1 : c.ms k <;> cases hq2 : on <;> rw [hq1, hq2] at q <;> first | rfl | exact absurd q (by decide) | exact absurd rfl q)
theorem ct_X_place_ok {k : Nat} {z : Int} (hk : k < c.mn) (hz1 : -101 ≤ z) (hz2 : z ≤ 100) (hX : XM G n μ c lx ik tb tl ts lat) (hc : CfOK c) : Ct G k_X_place (d + 8) 2 12 [.ref (G.1 + 0), .int (nI (k)), .int (iI (z))] n μ (XU G n μ (.int (b2 (decide (c.pu k ≠ z)))) (placeC c k z) lx ik tb tl ts lat) := by
  obtain ⟨hn, x0, x1, x2, x3, x4, x5, x11, x12, x18, x19, xi, xj⟩ := id hX
  obtain ⟨⟨hst1, hst2⟩, hfr, hpn, hpp, hmn, hwd, hnd, hpu, hnr, hbr, hle, hdef⟩ := id hc
  have hik := xi k hk
  have hndk := hnd k
  have hpuk := hpu k
  generalize hQ : (XU G n μ (.int (b2 (decide (c.pu k ≠ z)))) (placeC c k z) lx ik tb tl ts lat) = Q
  refine Ct.ofp (r := 2) (ls := [some (.ref (G.1 + 0)), some (.int (nI (k))), some (.int (iI (z))), none, none]) rfl (Nat.le_of_ble_eq_true rfl) ?_
  refine ev_aload_n d_X_place_0 rfl rfl ?_
  refine ev_iload_n d_X_place_1 rfl rfl ?_
  refine cv (mc' := 1) (ms' := 6) (k' := k_X_itemAt) (As := [.int (nI (k))]) (stk := []) d_X_place_2 ml_X_97 kk_X_itemAt rfl rfl (Nat.le_of_ble_eq_true rfl) (by omega) x0 rfl rfl (ct_X_itemAt_ok (d := d) hk hX hc) (rd ?_)
  refine ev_astore_n (ls' := [_, _, _, _, none]) d_X_place_5 rfl (by decide) rfl rfl ?_
  refine ev_iload_n d_X_place_6 rfl rfl ?_
  refine ev_i2l d_X_place_7 ?_
  refine ev_ldc2 (v := (-101)) d_X_place_8 ck_X_231 ?_
  refine ev_ldc2 (v := (100)) d_X_place_11 ck_X_233 ?_
  refine ev_topl (w := lN 100) (by decide) ?_
  refine cs (mc' := 0) (ms' := 0) (k' := k_X_isIn) (As := [.long (((iI (z))).toInt64), .long ((-101)), .long (lN (100))]) (stk := []) d_X_place_14 ml_X_67 kk_X_isIn rfl rfl (Nat.le_of_ble_eq_true rfl) (ct_X_isInV (d := d + 7) (LZ_z (by omega) (by omega)) (show Int64.toInt (-101) = (-101) from by decide) (LZ_n (by omega))) (rd ?_)
  refine cs (mc' := 1) (ms' := 6) (k' := k_X_proper) (As := [.int (b2 (decide ((-101) ≤ z ∧ z ≤ ((100 : Nat) : Int))))]) (stk := []) d_X_place_17 ml_X_71 kk_X_proper rfl rfl (Nat.le_of_ble_eq_true rfl) (ct_proper (d := d + 1) (decide ((-101) ≤ z ∧ z ≤ ((100 : Nat) : Int)))) (gdT (decide_eq_true (by omega)) ?_)
  have hJ_33 : ∀ b : Bool, b = (decide (c.pu k ≠ z)) → Ev G k_X_place (d + 8) 0 0 33 [some (.ref (G.1 + 0)), some (.int (nI (k))), some (.int (iI (z))), some (.ref (G.1 + ik k)), none] [.int (b2 (b))] n μ Q := by
    intro b hJ
    refine ev_istore (ls' := [_, _, _, _, _]) d_X_place_33 (by decide) rfl rfl ?_
    refine ev_aload_n d_X_place_35 rfl rfl ?_
    refine ev_iload_n d_X_place_36 rfl rfl ?_
    refine ev_putN (kf := 5) (T := F_I) (C := R_I) (N := 6) (ty0 := t_I) d_X_place_37 fl_X_235 rfl i_I t_I_ok n_I (by decide) rfl rfl rfl rfl (xi k hk).2.1 (xi k hk).2.2 (Nat.le_of_ble_eq_true rfl) ?_
    refine ev_iload d_X_place_40 rfl ?_
    refine ev_ireturn d_X_place_42 rfl (b2_nar _) ?_
    subst hQ
    have hXq := XM.mi hX hk (c.nd) (c.ms) (fun j => if j = k then z else c.pu j) (fun j hj => ⟨by simp [hj], by simp [hj], by simp [hj]⟩)
    simp only [if_true] at hXq
    subst hJ
    exact ⟨rfl, rfl, hXq, fun t ht ht2 => (mset_ne _ _ (by rintro rfl; exact ht2.elim (fun q => by omega) (fun q => q _ hik.2.2)))⟩
  refine ev_aload_n d_X_place_20 rfl rfl ?_
  refine ev_getN (kf := 5) (T := F_I) (C := R_I) (N := 6) (v := .int (iI (c.pu k))) d_X_place_21 fl_X_235 rfl i_I (by decide) (xi k hk).2.1 (xi k hk).2.2 rfl ?_
  refine ev_iload_n d_X_place_24 rfl rfl ?_
  refine ev_icmp_eq d_X_place_25 (fun c_25 => ?_) (fun c_25 => ?_)
  ·
    simp (disch := omega) only [nI_iI, iI_ltI, iI_leI, iI_eq, Int.not_lt, Int.not_le] at c_25
    refine ev_iconst (v := (nI (0))) d_X_place_32 (by decide) ?_
    exact hJ_33 false (by simp; omega)
  ·
    simp (disch := omega) only [nI_iI, iI_ltI, iI_leI, iI_eq, Int.not_lt, Int.not_le] at c_25
    refine ev_iconst (v := (nI (1))) d_X_place_28 (by decide) ?_
    refine ev_goto d_X_place_29 ?_
    exact hJ_33 true (by simp; omega)
theorem ct_X_need_no2 {k : Nat} {z : Int} (hk : k < c.mn) (hz1 : -2147483648 ≤ z) (hz2 : z < 2147483648) (hno : ¬ (-1 ≤ z ∧ z ≤ 40)) (hX : XM G n μ c lx ik tb tl ts lat) (hc : CfOK c) : Ct G k_X_need (d + 8) 2 12 [.ref (G.1 + 0), .int (nI k), .int (iI z)] n μ (XT 4 n μ) := by
  obtain ⟨hn, x0, x1, x2, x3, x4, x5, x11, x12, x18, x19, xi, xj⟩ := id hX
  obtain ⟨⟨hst1, hst2⟩, hfr, hpn, hpp, hmn, hwd, hnd, hpu, hnr, hbr, hle, hdef⟩ := id hc
  refine Ct.ofp (r := 2) (ls := [some (.ref (G.1 + 0)), some (.int (nI (k))), some (.int (iI (z))), none, none]) rfl (Nat.le_of_ble_eq_true rfl) ?_
  refine ev_aload_n d_X_need_0 rfl rfl ?_
  refine ev_iload_n d_X_need_1 rfl rfl ?_
  refine cv (mc' := 1) (ms' := 6) (k' := k_X_itemAt) (As := [.int (nI (k))]) (stk := []) d_X_need_2 ml_X_97 kk_X_itemAt rfl rfl (Nat.le_of_ble_eq_true rfl) (by omega) x0 rfl rfl (ct_X_itemAt_ok (d := d) hk hX hc) (rd ?_)
  refine ev_astore_n (ls' := [_, _, _, _, none]) d_X_need_5 rfl (by decide) rfl rfl ?_
  refine ev_iload_n d_X_need_6 rfl rfl ?_
  refine ev_i2l d_X_need_7 ?_
  refine ev_ldc2 (v := (-1)) d_X_need_8 ck_X_101 ?_
  refine ev_ldc2 (v := (40)) d_X_need_11 ck_X_103 ?_
  refine ev_topl (w := lN 40) (by decide) ?_
  refine cs (mc' := 0) (ms' := 0) (k' := k_X_isIn) (As := [.long (((iI (z))).toInt64), .long ((-1)), .long (lN (40))]) (stk := []) d_X_need_14 ml_X_67 kk_X_isIn rfl rfl (Nat.le_of_ble_eq_true rfl) (ct_X_isInV (d := d + 7) (LZ_z (by omega) (by omega)) (show Int64.toInt (-1) = (-1) from by decide) (LZ_n (by omega))) (rd ?_)
  refine cs (mc' := 1) (ms' := 6) (k' := k_X_proper) (As := [.int (b2 (decide ((-1) ≤ z ∧ z ≤ ((40 : Nat) : Int))))]) (stk := []) d_X_need_17 ml_X_71 kk_X_proper rfl rfl (Nat.le_of_ble_eq_true rfl) (ct_proper (d := d + 1) (decide ((-1) ≤ z ∧ z ≤ ((40 : Nat) : Int)))) (gdF (decide_eq_false (by omega)) ?_)
  exact ⟨rfl, rfl, rfl⟩
theorem ct_X_place_no2 {k : Nat} {z : Int} (hk : k < c.mn) (hz1 : -2147483648 ≤ z) (hz2 : z < 2147483648) (hno : ¬ (-101 ≤ z ∧ z ≤ 100)) (hX : XM G n μ c lx ik tb tl ts lat) (hc : CfOK c) : Ct G k_X_place (d + 8) 2 12 [.ref (G.1 + 0), .int (nI k), .int (iI z)] n μ (XT 4 n μ) := by
  obtain ⟨hn, x0, x1, x2, x3, x4, x5, x11, x12, x18, x19, xi, xj⟩ := id hX
  obtain ⟨⟨hst1, hst2⟩, hfr, hpn, hpp, hmn, hwd, hnd, hpu, hnr, hbr, hle, hdef⟩ := id hc
  refine Ct.ofp (r := 2) (ls := [some (.ref (G.1 + 0)), some (.int (nI (k))), some (.int (iI (z))), none, none]) rfl (Nat.le_of_ble_eq_true rfl) ?_
  refine ev_aload_n d_X_place_0 rfl rfl ?_
  refine ev_iload_n d_X_place_1 rfl rfl ?_
  refine cv (mc' := 1) (ms' := 6) (k' := k_X_itemAt) (As := [.int (nI (k))]) (stk := []) d_X_place_2 ml_X_97 kk_X_itemAt rfl rfl (Nat.le_of_ble_eq_true rfl) (by omega) x0 rfl rfl (ct_X_itemAt_ok (d := d) hk hX hc) (rd ?_)
  refine ev_astore_n (ls' := [_, _, _, _, none]) d_X_place_5 rfl (by decide) rfl rfl ?_
  refine ev_iload_n d_X_place_6 rfl rfl ?_
  refine ev_i2l d_X_place_7 ?_
  refine ev_ldc2 (v := (-101)) d_X_place_8 ck_X_231 ?_
  refine ev_ldc2 (v := (100)) d_X_place_11 ck_X_233 ?_
  refine ev_topl (w := lN 100) (by decide) ?_
  refine cs (mc' := 0) (ms' := 0) (k' := k_X_isIn) (As := [.long (((iI (z))).toInt64), .long ((-101)), .long (lN (100))]) (stk := []) d_X_place_14 ml_X_67 kk_X_isIn rfl rfl (Nat.le_of_ble_eq_true rfl) (ct_X_isInV (d := d + 7) (LZ_z (by omega) (by omega)) (show Int64.toInt (-101) = (-101) from by decide) (LZ_n (by omega))) (rd ?_)
  refine cs (mc' := 1) (ms' := 6) (k' := k_X_proper) (As := [.int (b2 (decide ((-101) ≤ z ∧ z ≤ ((100 : Nat) : Int))))]) (stk := []) d_X_place_17 ml_X_71 kk_X_proper rfl rfl (Nat.le_of_ble_eq_true rfl) (ct_proper (d := d + 1) (decide ((-101) ≤ z ∧ z ≤ ((100 : Nat) : Int)))) (gdF (decide_eq_false (by omega)) ?_)
  exact ⟨rfl, rfl, rfl⟩
theorem ct_X_need_no1 {a : Int} {z : Int} (ha1 : -2147483648 ≤ a) (ha2 : a < 2147483648) (hno : ¬ (0 ≤ a ∧ a < c.mn)) (hX : XM G n μ c lx ik tb tl ts lat) (hc : CfOK c) : Ct G k_X_need (d + 8) 2 12 [.ref (G.1 + 0), .int (iI a), .int (iI (z))] n μ (XT 6 n μ) := by
  obtain ⟨hn, x0, x1, x2, x3, x4, x5, x11, x12, x18, x19, xi, xj⟩ := id hX
  obtain ⟨⟨hst1, hst2⟩, hfr, hpn, hpp, hmn, hwd, hnd, hpu, hnr, hbr, hle, hdef⟩ := id hc
  refine Ct.ofp (r := 2) (ls := [some (.ref (G.1 + 0)), some (.int (iI (a))), some (.int (iI (z))), none, none]) rfl (Nat.le_of_ble_eq_true rfl) ?_
  refine ev_aload_n d_X_need_0 rfl rfl ?_
  refine ev_iload_n d_X_need_1 rfl rfl ?_
  refine cv (mc' := 1) (ms' := 6) (k' := k_X_itemAt) (As := [.int (iI (a))]) (stk := []) d_X_need_2 ml_X_97 kk_X_itemAt rfl rfl (Nat.le_of_ble_eq_true rfl) (by omega) x0 rfl rfl (ct_X_itemAt_no (d := d) ha1 ha2 hno hX hc) (thr ?_)
  exact ⟨rfl, rfl, rfl⟩
theorem ct_X_place_no1 {a : Int} {z : Int} (ha1 : -2147483648 ≤ a) (ha2 : a < 2147483648) (hno : ¬ (0 ≤ a ∧ a < c.mn)) (hX : XM G n μ c lx ik tb tl ts lat) (hc : CfOK c) : Ct G k_X_place (d + 8) 2 12 [.ref (G.1 + 0), .int (iI a), .int (iI (z))] n μ (XT 6 n μ) := by
  obtain ⟨hn, x0, x1, x2, x3, x4, x5, x11, x12, x18, x19, xi, xj⟩ := id hX
  obtain ⟨⟨hst1, hst2⟩, hfr, hpn, hpp, hmn, hwd, hnd, hpu, hnr, hbr, hle, hdef⟩ := id hc
  refine Ct.ofp (r := 2) (ls := [some (.ref (G.1 + 0)), some (.int (iI (a))), some (.int (iI (z))), none, none]) rfl (Nat.le_of_ble_eq_true rfl) ?_
  refine ev_aload_n d_X_place_0 rfl rfl ?_
  refine ev_iload_n d_X_place_1 rfl rfl ?_
  refine cv (mc' := 1) (ms' := 6) (k' := k_X_itemAt) (As := [.int (iI (a))]) (stk := []) d_X_place_2 ml_X_97 kk_X_itemAt rfl rfl (Nat.le_of_ble_eq_true rfl) (by omega) x0 rfl rfl (ct_X_itemAt_no (d := d) ha1 ha2 hno hX hc) (thr ?_)
  exact ⟨rfl, rfl, rfl⟩
theorem ct_X_must_no1 {a : Int} {z : Bool} (ha1 : -2147483648 ≤ a) (ha2 : a < 2147483648) (hno : ¬ (0 ≤ a ∧ a < c.mn)) (hX : XM G n μ c lx ik tb tl ts lat) (hc : CfOK c) : Ct G k_X_must (d + 8) 1 6 [.ref (G.1 + 0), .int (iI a), .int (b2 (z))] n μ (XT 6 n μ) := by
  obtain ⟨hn, x0, x1, x2, x3, x4, x5, x11, x12, x18, x19, xi, xj⟩ := id hX
  obtain ⟨⟨hst1, hst2⟩, hfr, hpn, hpp, hmn, hwd, hnd, hpu, hnr, hbr, hle, hdef⟩ := id hc
  refine Ct.ofp (r := 2) (ls := [some (.ref (G.1 + 0)), some (.int (iI (a))), some (.int (b2 (z))), none, none]) rfl (Nat.le_of_ble_eq_true rfl) ?_
  refine ev_aload_n d_X_must_0 rfl rfl ?_
  refine ev_iload_n d_X_must_1 rfl rfl ?_
  refine cv (mc' := 1) (ms' := 6) (k' := k_X_itemAt) (As := [.int (iI (a))]) (stk := []) d_X_must_2 ml_X_97 kk_X_itemAt rfl rfl (Nat.le_of_ble_eq_true rfl) (by omega) x0 rfl rfl (ct_X_itemAt_no (d := d) ha1 ha2 hno hX hc) (thr ?_)
  exact ⟨rfl, rfl, rfl⟩
theorem ct_X_filler_ok {l m : Nat} (hl1 : 1 ≤ l) (hlm : l ≤ m) (hm4 : m ≤ 40) (hlx : LxOK c lx) (hX : XM G n μ c lx ik tb tl ts lat) (hc : CfOK c) (hl : lat = .null ∨ ∃ t : Nat, lat = .ref (G.1 + t)) : Ct G k_X_filler (d + 7) 1 6 [.ref (G.1 + 0), .int (nI l), .int (nI m)] n μ (XU G n μ (.int (b2 (decide (c.le ≠ l ∨ c.mo ≠ m)))) (fillC c l m) l ik tb tl ts (if (decide (c.le ≠ l ∨ c.mo ≠ m)) then .null else lat)) := by
  obtain ⟨hn, x0, x1, x2, x3, x4, x5, x11, x12, x18, x19, xi, xj⟩ := id hX
  obtain ⟨⟨hst1, hst2⟩, hfr, hpn, hpp, hmn, hwd, hnd, hpu, hnr, hbr, hle, hdef⟩ := id hc
  have hlx9 : lx ≤ 40 := by rcases hlx with q | q <;> omega
  generalize hQ : (XU G n μ (.int (b2 (decide (c.le ≠ l ∨ c.mo ≠ m)))) (fillC c l m) l ik tb tl ts (if (decide (c.le ≠ l ∨ c.mo ≠ m)) then .null else lat)) = Q
  refine Ct.ofp (r := 1) (ls := [some (.ref (G.1 + 0)), some (.int (nI (l))), some (.int (nI (m))), none]) rfl (Nat.le_of_ble_eq_true rfl) ?_
  refine ev_iload_n d_X_filler_0 rfl rfl ?_
  refine ev_i2l d_X_filler_1 ?_
  refine ev_topl (w := (lN (l))) (nI_l (by omega)) ?_
  refine ev_lconst (v := lN 1) d_X_filler_2 (by decide) ?_
  refine ev_ldc2 (v := (40)) d_X_filler_3 ck_X_103 ?_
  refine ev_topl (w := lN 40) (by decide) ?_
  refine cs (mc' := 0) (ms' := 0) (k' := k_X_isIn) (As := [.long (lN (l)), .long (lN (1)), .long (lN (40))]) (stk := []) d_X_filler_6 ml_X_67 kk_X_isIn rfl rfl (Nat.le_of_ble_eq_true rfl) (ct_X_isInV (d := d + 6) (LZ_n (by omega)) (LZ_n (by omega)) (LZ_n (by omega))) (rd ?_)
  refine ev_if_eq d_X_filler_9 (fun c_9 => ?_) (fun c_9 => ?_)
  ·
    have c_9 := b2_f c_9
    exfalso; rw [decide_eq_false_iff_not] at c_9; omega
  ·
    have c_9 := b2_t c_9
    refine ev_iload_n d_X_filler_12 rfl rfl ?_
    refine ev_i2l d_X_filler_13 ?_
    refine ev_topl (w := (lN (m))) (nI_l (by omega)) ?_
    refine ev_iload_n d_X_filler_14 rfl rfl ?_
    refine ev_i2l d_X_filler_15 ?_
    refine ev_topl (w := (lN (l))) (nI_l (by omega)) ?_
    refine ev_ldc2 (v := (40)) d_X_filler_16 ck_X_103 ?_
    refine ev_topl (w := lN 40) (by decide) ?_
    refine cs (mc' := 0) (ms' := 0) (k' := k_X_isIn) (As := [.long (lN (m)), .long (lN (l)), .long (lN (40))]) (stk := []) d_X_filler_19 ml_X_67 kk_X_isIn rfl rfl (Nat.le_of_ble_eq_true rfl) (ct_X_isInV (d := d + 6) (LZ_n (by omega)) (LZ_n (by omega)) (LZ_n (by omega))) (rd ?_)
    refine ev_if_eq d_X_filler_22 (fun c_22 => ?_) (fun c_22 => ?_)
    ·
      have c_22 := b2_f c_22
      exfalso; rw [decide_eq_false_iff_not] at c_22; omega
    ·
      have c_22 := b2_t c_22
      refine ev_iconst (v := (nI (1))) d_X_filler_25 (by decide) ?_
      refine ev_goto d_X_filler_26 ?_
      refine cs (mc' := 1) (ms' := 6) (k' := k_X_proper) (As := [.int (nI (1))]) (stk := []) d_X_filler_30 ml_X_71 kk_X_proper rfl rfl (Nat.le_of_ble_eq_true rfl) (ct_proper (d := d) (true)) (gdT (rfl) ?_)
      have hJ_54 : ∀ b : Bool, b = decide (c.le ≠ l ∨ c.mo ≠ m) → Ev G k_X_filler (d + 7) 0 0 54 [some (.ref (G.1 + 0)), some (.int (nI (l))), some (.int (nI (m))), none] [.int (b2 (b))] n μ Q := by
        intro b hJ
        refine ev_istore_n (ls' := [_, _, _, _]) d_X_filler_54 rfl (by decide) rfl rfl ?_
        refine ev_aload_n d_X_filler_55 rfl rfl ?_
        refine ev_iload_n d_X_filler_56 rfl rfl ?_
        refine ev_putf (kf := 8) (T := F_X) (C := R_X) (N := 14) (ty0 := t_X) d_X_filler_57 fl_X_116 rfl i_X t_X_ok n_X (by decide) rfl rfl rfl rfl (by omega) x0 (Nat.le_of_ble_eq_true rfl) ?_
        refine ev_aload_n d_X_filler_60 rfl rfl ?_
        refine ev_iload_n d_X_filler_61 rfl rfl ?_
        skip
        refine ev_putf (kf := 9) (T := F_X) (C := R_X) (N := 14) (ty0 := t_X) d_X_filler_62 fl_X_119 rfl i_X t_X_ok n_X (by decide) rfl rfl rfl rfl (by omega) (mset_eq _ _ _) (Nat.le_of_ble_eq_true rfl) ?_
        rw [mset_mset]
        subst hJ
        have hXq := XM.m0 hX (fillC c l m) l tl lat ⟨rfl, rfl, rfl, rfl, rfl, rfl, rfl, rfl, rfl, rfl, rfl⟩
        refine ev_aload_n d_X_filler_65 rfl rfl ?_
        refine ev_iload_n d_X_filler_66 rfl rfl ?_
        refine cv (mc' := 0) (ms' := 0) (k' := k_X_told) (As := [.int (b2 (decide (c.le ≠ l ∨ c.mo ≠ m)))]) (stk := []) d_X_filler_67 ml_X_75 kk_X_told rfl rfl (Nat.le_of_ble_eq_true rfl) (by omega) hXq.2.1 rfl rfl (ct_X_told (d := d + 6) (is := decide (c.le ≠ l ∨ c.mo ≠ m)) hXq hl) (af fun n1 ν1 hq => ?_)
        obtain ⟨hn1, hXn, hfn⟩ := hq
        subst n1
        refine ev_ireturn d_X_filler_70 rfl (b2_nar _) ?_
        subst hQ
        exact ⟨rfl, rfl, hXn, fun t ht _ => (hfn t (by omega)).trans (mset_ne _ _ (by omega))⟩
      refine ev_aload_n d_X_filler_33 rfl rfl ?_
      refine ev_getf (kf := 8) (T := F_X) (C := R_X) (N := 14) (v := .int (nI (lx))) d_X_filler_34 fl_X_116 rfl i_X (by decide) (by omega) x0 rfl ?_
      refine ev_iload_n d_X_filler_37 rfl rfl ?_
      refine ev_icmp_ne d_X_filler_38 (fun c_38 => ?_) (fun c_38 => ?_)
      ·
        simp (disch := omega) only [nI_ltI, nI_leI, nI_eq, Nat.not_lt, Nat.not_le] at c_38
        refine ev_iconst (v := (nI (1))) d_X_filler_49 (by decide) ?_
        refine ev_goto d_X_filler_50 ?_
        exact hJ_54 true (by rcases hlx with q | q <;> simp <;> omega)
      ·
        simp (disch := omega) only [nI_ltI, nI_leI, nI_eq, Nat.not_lt, Nat.not_le] at c_38
        refine ev_aload_n d_X_filler_41 rfl rfl ?_
        refine ev_getf (kf := 9) (T := F_X) (C := R_X) (N := 14) (v := .int (nI (c.mo))) d_X_filler_42 fl_X_119 rfl i_X (by decide) (by omega) x0 rfl ?_
        refine ev_iload_n d_X_filler_45 rfl rfl ?_
        refine ev_icmp_eq d_X_filler_46 (fun c_46 => ?_) (fun c_46 => ?_)
        ·
          simp (disch := omega) only [nI_ltI, nI_leI, nI_eq, Nat.not_lt, Nat.not_le] at c_46
          refine ev_iconst (v := (nI (0))) d_X_filler_53 (by decide) ?_
          exact hJ_54 false (by rcases hlx with q | q <;> simp <;> omega)
        ·
          simp (disch := omega) only [nI_ltI, nI_leI, nI_eq, Nat.not_lt, Nat.not_le] at c_46
          refine ev_iconst (v := (nI (1))) d_X_filler_49 (by decide) ?_
          refine ev_goto d_X_filler_50 ?_
          exact hJ_54 true (by rcases hlx with q | q <;> simp <;> omega)
theorem ct_X_filler_no {a b : Int} (ha1 : -2147483648 ≤ a) (ha2 : a < 2147483648) (hb1 : -2147483648 ≤ b) (hb2 : b < 2147483648) (hno : ¬ (1 ≤ a ∧ a ≤ b ∧ b ≤ 40)) (hX : XM G n μ c lx ik tb tl ts lat) (hc : CfOK c) : Ct G k_X_filler (d + 7) 1 6 [.ref (G.1 + 0), .int (iI a), .int (iI b)] n μ (XT 4 n μ) := by
  obtain ⟨hn, x0, x1, x2, x3, x4, x5, x11, x12, x18, x19, xi, xj⟩ := id hX
  obtain ⟨⟨hst1, hst2⟩, hfr, hpn, hpp, hmn, hwd, hnd, hpu, hnr, hbr, hle, hdef⟩ := id hc
  refine Ct.ofp (r := 1) (ls := [some (.ref (G.1 + 0)), some (.int (iI (a))), some (.int (iI (b))), none]) rfl (Nat.le_of_ble_eq_true rfl) ?_
  refine ev_iload_n d_X_filler_0 rfl rfl ?_
  refine ev_i2l d_X_filler_1 ?_
  refine ev_lconst (v := lN 1) d_X_filler_2 (by decide) ?_
  refine ev_ldc2 (v := (40)) d_X_filler_3 ck_X_103 ?_
  refine ev_topl (w := lN 40) (by decide) ?_
  refine cs (mc' := 0) (ms' := 0) (k' := k_X_isIn) (As := [.long (((iI (a))).toInt64), .long (lN (1)), .long (lN (40))]) (stk := []) d_X_filler_6 ml_X_67 kk_X_isIn rfl rfl (Nat.le_of_ble_eq_true rfl) (ct_X_isInV (d := d + 6) (LZ_z (by omega) (by omega)) (LZ_n (by omega)) (LZ_n (by omega))) (rd ?_)
  refine ev_if_eq d_X_filler_9 (fun c_9 => ?_) (fun c_9 => ?_)
  ·
    have c_9 := b2_f c_9
    refine ev_iconst (v := (nI (0))) d_X_filler_29 (by decide) ?_
    refine cs (mc' := 1) (ms' := 6) (k' := k_X_proper) (As := [.int (nI (0))]) (stk := []) d_X_filler_30 ml_X_71 kk_X_proper rfl rfl (Nat.le_of_ble_eq_true rfl) (ct_proper (d := d) (false)) (gdF (rfl) ?_)
    exact ⟨rfl, rfl, rfl⟩
  ·
    have c_9 := b2_t c_9
    refine ev_iload_n d_X_filler_12 rfl rfl ?_
    refine ev_i2l d_X_filler_13 ?_
    refine ev_iload_n d_X_filler_14 rfl rfl ?_
    refine ev_i2l d_X_filler_15 ?_
    refine ev_ldc2 (v := (40)) d_X_filler_16 ck_X_103 ?_
    refine ev_topl (w := lN 40) (by decide) ?_
    refine cs (mc' := 0) (ms' := 0) (k' := k_X_isIn) (As := [.long (((iI (b))).toInt64), .long (((iI (a))).toInt64), .long (lN (40))]) (stk := []) d_X_filler_19 ml_X_67 kk_X_isIn rfl rfl (Nat.le_of_ble_eq_true rfl) (ct_X_isInV (d := d + 6) (LZ_z (by omega) (by omega)) (LZ_z (by omega) (by omega)) (LZ_n (by omega))) (rd ?_)
    refine ev_if_eq d_X_filler_22 (fun c_22 => ?_) (fun c_22 => ?_)
    ·
      have c_22 := b2_f c_22
      refine ev_iconst (v := (nI (0))) d_X_filler_29 (by decide) ?_
      refine cs (mc' := 1) (ms' := 6) (k' := k_X_proper) (As := [.int (nI (0))]) (stk := []) d_X_filler_30 ml_X_71 kk_X_proper rfl rfl (Nat.le_of_ble_eq_true rfl) (ct_proper (d := d) (false)) (gdF (rfl) ?_)
      exact ⟨rfl, rfl, rfl⟩
    ·
      have c_22 := b2_t c_22
      exfalso; have := of_decide_eq_true c_9; have := of_decide_eq_true c_22; omega
theorem ct_X_near_ok {a b w : Nat} (ha : a < c.mn) (hb : b < c.mn) (hab : a ≠ b) (hw : w ≤ 100000) (hX : XM G n μ c lx ik tb tl ts lat) (hc : CfOK c) (hl : lat = .null ∨ ∃ t : Nat, lat = .ref (G.1 + t)) : Ct G k_X_near (d + 8) 2 12 [.ref (G.1 + 0), .int (nI a), .int (nI b), .long (lN w)] n μ (XU G n μ (.int (b2 (decide (c.nr a b ≠ w)))) (nearC c a b w) lx ik tb tl ts (if (decide (c.nr a b ≠ w)) then .null else lat)) := by
  obtain ⟨hn, x0, x1, x2, x3, x4, x5, x11, x12, x18, x19, xi, xj⟩ := id hX
  obtain ⟨⟨hst1, hst2⟩, hfr, hpn, hpp, hmn, hwd, hnd, hpu, hnr, hbr, hle, hdef⟩ := id hc
  have hnab := hnr a b
  generalize hQ : (XU G n μ (.int (b2 (decide (c.nr a b ≠ w)))) (nearC c a b w) lx ik tb tl ts (if (decide (c.nr a b ≠ w)) then .null else lat)) = Q
  refine Ct.ofp (r := 1) (ls := [some (.ref (G.1 + 0)), some (.int (nI (a))), some (.int (nI (b))), some (.long (lN (w))), none, none]) rfl (Nat.le_of_ble_eq_true rfl) ?_
  refine ev_aload_n d_X_near_0 rfl rfl ?_
  refine ev_iload_n d_X_near_1 rfl rfl ?_
  refine ev_iload_n d_X_near_2 rfl rfl ?_
  refine cv (mc' := 1) (ms' := 6) (k' := k_X_pairThere) (As := [.int (nI (a)), .int (nI (b))]) (stk := []) d_X_near_3 ml_X_108 kk_X_pairThere rfl rfl (Nat.le_of_ble_eq_true rfl) (by omega) x0 rfl rfl (ct_X_pairThere_ok (d := d) ha hb hX hc) (rd ?_)
  refine ev_iload_n d_X_near_6 rfl rfl ?_
  refine ev_iload_n d_X_near_7 rfl rfl ?_
  refine ev_icmp_eq d_X_near_8 (fun c_8 => ?_) (fun c_8 => ?_)
  ·
    simp (disch := omega) only [nI_ltI, nI_leI, nI_eq, Nat.not_lt, Nat.not_le] at c_8
    omega
  ·
    simp (disch := omega) only [nI_ltI, nI_leI, nI_eq, Nat.not_lt, Nat.not_le] at c_8
    refine ev_lload_n d_X_near_11 rfl rfl ?_
    refine ev_lconst (v := lN 0) d_X_near_12 (by decide) ?_
    refine ev_ldc2 (v := (100000)) d_X_near_13 ck_X_89 ?_
    refine ev_topl (w := lN 100000) (by decide) ?_
    refine cs (mc' := 0) (ms' := 0) (k' := k_X_isIn) (As := [.long (lN (w)), .long (lN (0)), .long (lN (100000))]) (stk := []) d_X_near_16 ml_X_67 kk_X_isIn rfl rfl (Nat.le_of_ble_eq_true rfl) (ct_X_isInV (d := d + 7) (LZ_n (by omega)) (LZ_n (by omega)) (LZ_n (by omega))) (rd ?_)
    refine ev_if_eq d_X_near_19 (fun c_19 => ?_) (fun c_19 => ?_)
    ·
      have c_19 := b2_f c_19
      exfalso; rw [decide_eq_false_iff_not] at c_19; omega
    ·
      have c_19 := b2_t c_19
      refine ev_iconst (v := (nI (1))) d_X_near_22 (by decide) ?_
      refine ev_goto d_X_near_23 ?_
      refine cs (mc' := 1) (ms' := 6) (k' := k_X_proper) (As := [.int (nI (1))]) (stk := []) d_X_near_27 ml_X_71 kk_X_proper rfl rfl (Nat.le_of_ble_eq_true rfl) (ct_proper (d := d + 1) (true)) (gdT (rfl) ?_)
      have hJ_48 : ∀ b2_ : Bool, b2_ = (decide (c.nr a b ≠ w)) → Ev G k_X_near (d + 8) 0 0 48 [some (.ref (G.1 + 0)), some (.int (nI (a))), some (.int (nI (b))), some (.long (lN (w))), none, none] [.int (b2 (b2_))] n μ Q := by
        intro b2_ hJ
        refine ev_istore (ls' := [_, _, _, _, none, _]) d_X_near_48 (by decide) rfl rfl ?_
        refine ev_aload_n d_X_near_50 rfl rfl ?_
        refine ev_getf (kf := 6) (T := F_X) (C := R_X) (N := 14) (v := .ref (G.1 + 4)) d_X_near_51 fl_X_25 rfl i_X (by decide) (by omega) x0 rfl ?_
        refine ev_iload_n d_X_near_54 rfl rfl ?_
        refine ev_aald (j := a) d_X_near_55 (by omega) x4 (by decide) (by omega) (by decide) ?_
        refine ev_top (w := .ref (G.1 + (5 + a))) (row_ref _ 4 (by omega)) ?_
        refine ev_iload_n d_X_near_56 rfl rfl ?_
        refine ev_aload_n d_X_near_57 rfl rfl ?_
        refine ev_getf (kf := 6) (T := F_X) (C := R_X) (N := 14) (v := .ref (G.1 + 4)) d_X_near_58 fl_X_25 rfl i_X (by decide) (by omega) x0 rfl ?_
        refine ev_iload_n d_X_near_61 rfl rfl ?_
        refine ev_aald (j := b) d_X_near_62 (by omega) x4 (by decide) (by omega) (by decide) ?_
        refine ev_top (w := .ref (G.1 + (5 + b))) (row_ref _ 4 (by omega)) ?_
        refine ev_iload_n d_X_near_63 rfl rfl ?_
        refine ev_lload_n d_X_near_64 rfl rfl ?_
        refine ev_dup2_x2 d_X_near_65 rfl rfl rfl ?_
        refine ev_last (j := a) d_X_near_66 (by omega) (x5 b (by omega)) (by omega) (by decide) ?_
        refine ev_last (j := b) d_X_near_67 (by omega) ((mset_ne _ _ (by omega)).trans (x5 a (by omega))) (by omega) (by decide) ?_
        rw [updL_lN, updL_lN]
        subst hJ
        have hXq := (hX.m5 (i := b) (by omega) (fun j => if j = a then w else c.nr b j)).m5 (i := a) (by omega) (fun j => if j = b then w else c.nr a j)
        have e : (c.set_nr (fun x y => if x = b then (fun j => if j = a then w else c.nr b j) y else c.nr x y)).set_nr (fun x y => if x = a then (fun j => if j = b then w else c.nr a j) y else (if x = b then (fun j => if j = a then w else c.nr b j) y else c.nr x y)) = nearC c a b w := by
          show c.set_nr _ = c.set_nr _
          congr 1
          funext x y
          by_cases e1 : x = a
          · subst e1
            by_cases e4 : y = b <;> simp [hab, e4]
          · by_cases e2 : x = b
            · subst e2
              by_cases e3 : y = a <;> simp [e1, e3]
            · simp [e1, e2]
        rw [show (c.set_nr (fun x y => if x = b then (fun j => if j = a then w else c.nr b j) y else c.nr x y)).set_nr (fun x y => if x = a then (fun j => if j = b then w else c.nr a j) y else (c.set_nr (fun x y => if x = b then (fun j => if j = a then w else c.nr b j) y else c.nr x y)).nr x y) = nearC c a b w from e] at hXq
        refine ev_aload_n d_X_near_68 rfl rfl ?_
        refine ev_iload d_X_near_69 rfl ?_
        refine cv (mc' := 0) (ms' := 0) (k' := k_X_told) (As := [.int (b2 (decide (c.nr a b ≠ w)))]) (stk := []) d_X_near_71 ml_X_75 kk_X_told rfl rfl (Nat.le_of_ble_eq_true rfl) (by omega) hXq.2.1 rfl rfl (ct_X_told (d := d + 7) (is := decide (c.nr a b ≠ w)) hXq hl) (af fun n1 ν1 hq => ?_)
        obtain ⟨hn1, hXn, hfn⟩ := hq
        subst n1
        refine ev_ireturn d_X_near_74 rfl (b2_nar _) ?_
        subst hQ
        exact ⟨rfl, rfl, hXn, fun t ht _ => (hfn t (by omega)).trans ((mset_ne _ _ (by omega)).trans (mset_ne _ _ (by omega)))⟩
      refine ev_aload_n d_X_near_30 rfl rfl ?_
      refine ev_getf (kf := 6) (T := F_X) (C := R_X) (N := 14) (v := .ref (G.1 + 4)) d_X_near_31 fl_X_25 rfl i_X (by decide) (by omega) x0 rfl ?_
      refine ev_iload_n d_X_near_34 rfl rfl ?_
      refine ev_aald (j := a) d_X_near_35 (by omega) x4 (by decide) (by omega) (by decide) ?_
      refine ev_top (w := .ref (G.1 + (5 + a))) (row_ref _ 4 (by omega)) ?_
      refine ev_iload_n d_X_near_36 rfl rfl ?_
      refine ev_lald (j := b) d_X_near_37 (by omega) (x5 a (by omega)) (by omega) (by decide) ?_
      refine ev_lload_n d_X_near_38 rfl rfl ?_
      refine ev_lcmp d_X_near_39 ?_
      refine ev_if_eq d_X_near_40 (fun c_40 => ?_) (fun c_40 => ?_)
      ·
        simp (disch := omega) only [lc_eq, lN_eq] at c_40
        refine ev_iconst (v := (nI (0))) d_X_near_47 (by decide) ?_
        exact hJ_48 false (by simp; omega)
      ·
        simp (disch := omega) only [lc_eq, lN_eq] at c_40
        refine ev_iconst (v := (nI (1))) d_X_near_43 (by decide) ?_
        refine ev_goto d_X_near_44 ?_
        exact hJ_48 true (by simp; omega)
theorem ct_X_near_no2 {a b : Nat} {w : Int64} (ha : a < c.mn) (hb : b < c.mn) (hno : ¬ (a ≠ b ∧ 0 ≤ w.toInt ∧ w.toInt ≤ 100000)) (hX : XM G n μ c lx ik tb tl ts lat) (hc : CfOK c) : Ct G k_X_near (d + 8) 2 12 [.ref (G.1 + 0), .int (nI a), .int (nI b), .long w] n μ (XT 4 n μ) := by
  obtain ⟨hn, x0, x1, x2, x3, x4, x5, x11, x12, x18, x19, xi, xj⟩ := id hX
  obtain ⟨⟨hst1, hst2⟩, hfr, hpn, hpp, hmn, hwd, hnd, hpu, hnr, hbr, hle, hdef⟩ := id hc
  refine Ct.ofp (r := 1) (ls := [some (.ref (G.1 + 0)), some (.int (nI (a))), some (.int (nI (b))), some (.long (w)), none, none]) rfl (Nat.le_of_ble_eq_true rfl) ?_
  refine ev_aload_n d_X_near_0 rfl rfl ?_
  refine ev_iload_n d_X_near_1 rfl rfl ?_
  refine ev_iload_n d_X_near_2 rfl rfl ?_
  refine cv (mc' := 1) (ms' := 6) (k' := k_X_pairThere) (As := [.int (nI (a)), .int (nI (b))]) (stk := []) d_X_near_3 ml_X_108 kk_X_pairThere rfl rfl (Nat.le_of_ble_eq_true rfl) (by omega) x0 rfl rfl (ct_X_pairThere_ok (d := d) ha hb hX hc) (rd ?_)
  refine ev_iload_n d_X_near_6 rfl rfl ?_
  refine ev_iload_n d_X_near_7 rfl rfl ?_
  refine ev_icmp_eq d_X_near_8 (fun c_8 => ?_) (fun c_8 => ?_)
  ·
    simp (disch := omega) only [nI_ltI, nI_leI, nI_eq, Nat.not_lt, Nat.not_le] at c_8
    refine ev_iconst (v := (nI (0))) d_X_near_26 (by decide) ?_
    refine cs (mc' := 1) (ms' := 6) (k' := k_X_proper) (As := [.int (nI (0))]) (stk := []) d_X_near_27 ml_X_71 kk_X_proper rfl rfl (Nat.le_of_ble_eq_true rfl) (ct_proper (d := d + 1) (false)) (gdF (rfl) ?_)
    exact ⟨rfl, rfl, rfl⟩
  ·
    simp (disch := omega) only [nI_ltI, nI_leI, nI_eq, Nat.not_lt, Nat.not_le] at c_8
    refine ev_lload_n d_X_near_11 rfl rfl ?_
    refine ev_lconst (v := lN 0) d_X_near_12 (by decide) ?_
    refine ev_ldc2 (v := (100000)) d_X_near_13 ck_X_89 ?_
    refine ev_topl (w := lN 100000) (by decide) ?_
    refine cs (mc' := 0) (ms' := 0) (k' := k_X_isIn) (As := [.long (w), .long (lN (0)), .long (lN (100000))]) (stk := []) d_X_near_16 ml_X_67 kk_X_isIn rfl rfl (Nat.le_of_ble_eq_true rfl) (ct_X_isInV (d := d + 7) (LZ_of _) (LZ_n (by omega)) (LZ_n (by omega))) (rd ?_)
    refine ev_if_eq d_X_near_19 (fun c_19 => ?_) (fun c_19 => ?_)
    ·
      have c_19 := b2_f c_19
      refine ev_iconst (v := (nI (0))) d_X_near_26 (by decide) ?_
      refine cs (mc' := 1) (ms' := 6) (k' := k_X_proper) (As := [.int (nI (0))]) (stk := []) d_X_near_27 ml_X_71 kk_X_proper rfl rfl (Nat.le_of_ble_eq_true rfl) (ct_proper (d := d + 1) (false)) (gdF (rfl) ?_)
      exact ⟨rfl, rfl, rfl⟩
    ·
      have c_19 := b2_t c_19
      exfalso; exact hno ⟨c_8, of_decide_eq_true c_19⟩
theorem ct_X_near_no1 {a b : Int} {w : Int64} (ha1 : -2147483648 ≤ a) (ha2 : a < 2147483648) (hb1 : -2147483648 ≤ b) (hb2 : b < 2147483648) (hno : ¬ ((0 ≤ a ∧ a < c.mn) ∧ (0 ≤ b ∧ b < c.mn))) (hX : XM G n μ c lx ik tb tl ts lat) (hc : CfOK c) : Ct G k_X_near (d + 8) 2 12 [.ref (G.1 + 0), .int (iI a), .int (iI b), .long w] n μ (XT 6 n μ) := by
  obtain ⟨hn, x0, x1, x2, x3, x4, x5, x11, x12, x18, x19, xi, xj⟩ := id hX
  obtain ⟨⟨hst1, hst2⟩, hfr, hpn, hpp, hmn, hwd, hnd, hpu, hnr, hbr, hle, hdef⟩ := id hc
  refine Ct.ofp (r := 1) (ls := [some (.ref (G.1 + 0)), some (.int (iI (a))), some (.int (iI (b))), some (.long (w)), none, none]) rfl (Nat.le_of_ble_eq_true rfl) ?_
  refine ev_aload_n d_X_near_0 rfl rfl ?_
  refine ev_iload_n d_X_near_1 rfl rfl ?_
  refine ev_iload_n d_X_near_2 rfl rfl ?_
  refine cv (mc' := 1) (ms' := 6) (k' := k_X_pairThere) (As := [.int (iI (a)), .int (iI (b))]) (stk := []) d_X_near_3 ml_X_108 kk_X_pairThere rfl rfl (Nat.le_of_ble_eq_true rfl) (by omega) x0 rfl rfl (ct_X_pairThere_no (d := d) ha1 ha2 hb1 hb2 hno hX hc) (thr ?_)
  exact ⟨rfl, rfl, rfl⟩
theorem ct_X_bar_ok {a b : Nat} (ha : a < c.mn) (hb : b < c.mn) (hab : a ≠ b) (hX : XM G n μ c lx ik tb tl ts lat) (hc : CfOK c) (hl : lat = .null ∨ ∃ t : Nat, lat = .ref (G.1 + t)) : Ct G k_X_bar (d + 8) 2 12 [.ref (G.1 + 0), .int (nI a), .int (nI b)] n μ (XU G n μ (.int (b2 (!c.br a b))) (barC c a b) lx ik tb tl ts (if (!c.br a b) then .null else lat)) := by
  obtain ⟨hn, x0, x1, x2, x3, x4, x5, x11, x12, x18, x19, xi, xj⟩ := id hX
  obtain ⟨⟨hst1, hst2⟩, hfr, hpn, hpp, hmn, hwd, hnd, hpu, hnr, hbr, hle, hdef⟩ := id hc
  have hnab := hnr a b
  generalize hQ : (XU G n μ (.int (b2 (!c.br a b))) (barC c a b) lx ik tb tl ts (if (!c.br a b) then .null else lat)) = Q
  refine Ct.ofp (r := 1) (ls := [some (.ref (G.1 + 0)), some (.int (nI (a))), some (.int (nI (b))), none]) rfl (Nat.le_of_ble_eq_true rfl) ?_
  refine ev_aload_n d_X_bar_0 rfl rfl ?_
  refine ev_iload_n d_X_bar_1 rfl rfl ?_
  refine ev_iload_n d_X_bar_2 rfl rfl ?_
  refine cv (mc' := 1) (ms' := 6) (k' := k_X_pairThere) (As := [.int (nI (a)), .int (nI (b))]) (stk := []) d_X_bar_3 ml_X_108 kk_X_pairThere rfl rfl (Nat.le_of_ble_eq_true rfl) (by omega) x0 rfl rfl (ct_X_pairThere_ok (d := d) ha hb hX hc) (rd ?_)
  refine ev_iload_n d_X_bar_6 rfl rfl ?_
  refine ev_iload_n d_X_bar_7 rfl rfl ?_
  refine ev_icmp_eq d_X_bar_8 (fun c_8 => ?_) (fun c_8 => ?_)
  ·
    simp (disch := omega) only [nI_ltI, nI_leI, nI_eq, Nat.not_lt, Nat.not_le] at c_8
    omega
  ·
    simp (disch := omega) only [nI_ltI, nI_leI, nI_eq, Nat.not_lt, Nat.not_le] at c_8
    refine ev_iconst (v := (nI (1))) d_X_bar_11 (by decide) ?_
    refine ev_goto d_X_bar_12 ?_
    refine cs (mc' := 1) (ms' := 6) (k' := k_X_proper) (As := [.int (nI (1))]) (stk := []) d_X_bar_16 ml_X_71 kk_X_proper rfl rfl (Nat.le_of_ble_eq_true rfl) (ct_proper (d := d + 1) (true)) (gdT (rfl) ?_)
    have hJ_35 : ∀ b2_ : Bool, b2_ = (!c.br a b) → Ev G k_X_bar (d + 8) 0 0 35 [some (.ref (G.1 + 0)), some (.int (nI (a))), some (.int (nI (b))), none] [.int (b2 (b2_))] n μ Q := by
      intro b2_ hJ
      refine ev_istore_n (ls' := [_, _, _, _]) d_X_bar_35 rfl (by decide) rfl rfl ?_
      refine ev_aload_n d_X_bar_36 rfl rfl ?_
      refine ev_getf (kf := 7) (T := F_X) (C := R_X) (N := 14) (v := .ref (G.1 + 11)) d_X_bar_37 fl_X_30 rfl i_X (by decide) (by omega) x0 rfl ?_
      refine ev_iload_n d_X_bar_40 rfl rfl ?_
      refine ev_aald (j := a) d_X_bar_41 (by omega) x11 (by decide) (by omega) (by decide) ?_
      refine ev_top (w := .ref (G.1 + (12 + a))) (row_ref _ 11 (by omega)) ?_
      refine ev_iload_n d_X_bar_42 rfl rfl ?_
      refine ev_aload_n d_X_bar_43 rfl rfl ?_
      refine ev_getf (kf := 7) (T := F_X) (C := R_X) (N := 14) (v := .ref (G.1 + 11)) d_X_bar_44 fl_X_30 rfl i_X (by decide) (by omega) x0 rfl ?_
      refine ev_iload_n d_X_bar_47 rfl rfl ?_
      refine ev_aald (j := b) d_X_bar_48 (by omega) x11 (by decide) (by omega) (by decide) ?_
      refine ev_top (w := .ref (G.1 + (12 + b))) (row_ref _ 11 (by omega)) ?_
      refine ev_iload_n d_X_bar_49 rfl rfl ?_
      refine ev_iconst (v := (nI (1))) d_X_bar_50 (by decide) ?_
      refine ev_dup_x2 d_X_bar_51 rfl rfl rfl ?_
      refine ev_zast (j := a) d_X_bar_52 (by omega) (x12 b (by omega)) rfl (by omega) (by decide) ?_
      refine ev_zast (j := b) d_X_bar_53 (by omega) ((mset_ne _ _ (by omega)).trans (x12 a (by omega))) rfl (by omega) (by decide) ?_
      rw [show nI 1 = b2 true from rfl, upd_b2, upd_b2]
      subst hJ
      have hXq := (hX.m12 (i := b) (by omega) (fun j => if j = a then true else c.br b j)).m12 (i := a) (by omega) (fun j => if j = b then true else c.br a j)
      have e : (c.set_br (fun x y => if x = b then (fun j => if j = a then true else c.br b j) y else c.br x y)).set_br (fun x y => if x = a then (fun j => if j = b then true else c.br a j) y else (if x = b then (fun j => if j = a then true else c.br b j) y else c.br x y)) = barC c a b := by
        show c.set_br _ = c.set_br _
        congr 1
        funext x y
        by_cases e1 : x = a
        · subst e1
          by_cases e4 : y = b <;> simp [hab, e4]
        · by_cases e2 : x = b
          · subst e2
            by_cases e3 : y = a <;> simp [e1, e3]
          · simp [e1, e2]
      rw [show (c.set_br (fun x y => if x = b then (fun j => if j = a then true else c.br b j) y else c.br x y)).set_br (fun x y => if x = a then (fun j => if j = b then true else c.br a j) y else (c.set_br (fun x y => if x = b then (fun j => if j = a then true else c.br b j) y else c.br x y)).br x y) = barC c a b from e] at hXq
      refine ev_aload_n d_X_bar_54 rfl rfl ?_
      refine ev_iload_n d_X_bar_55 rfl rfl ?_
      refine cv (mc' := 0) (ms' := 0) (k' := k_X_told) (As := [.int (b2 (!c.br a b))]) (stk := []) d_X_bar_56 ml_X_75 kk_X_told rfl rfl (Nat.le_of_ble_eq_true rfl) (by omega) hXq.2.1 rfl rfl (ct_X_told (d := d + 7) (is := !c.br a b) hXq hl) (af fun n1 ν1 hq => ?_)
      obtain ⟨hn1, hXn, hfn⟩ := hq
      subst n1
      refine ev_ireturn d_X_bar_59 rfl (b2_nar _) ?_
      subst hQ
      exact ⟨rfl, rfl, hXn, fun t ht _ => (hfn t (by omega)).trans ((mset_ne _ _ (by omega)).trans (mset_ne _ _ (by omega)))⟩
    refine ev_aload_n d_X_bar_19 rfl rfl ?_
    refine ev_getf (kf := 7) (T := F_X) (C := R_X) (N := 14) (v := .ref (G.1 + 11)) d_X_bar_20 fl_X_30 rfl i_X (by decide) (by omega) x0 rfl ?_
    refine ev_iload_n d_X_bar_23 rfl rfl ?_
    refine ev_aald (j := a) d_X_bar_24 (by omega) x11 (by decide) (by omega) (by decide) ?_
    refine ev_top (w := .ref (G.1 + (12 + a))) (row_ref _ 11 (by omega)) ?_
    refine ev_iload_n d_X_bar_25 rfl rfl ?_
    refine ev_zald (j := b) d_X_bar_26 (by omega) (x12 a (by omega)) (by omega) (by decide) ?_
    refine ev_if_ne d_X_bar_27 (fun c_27 => ?_) (fun c_27 => ?_)
    ·
      have c_27 := b2_t c_27
      refine ev_iconst (v := (nI (0))) d_X_bar_34 (by decide) ?_
      exact hJ_35 false (by rw [c_27]; rfl)
    ·
      have c_27 := b2_f c_27
      refine ev_iconst (v := (nI (1))) d_X_bar_30 (by decide) ?_
      refine ev_goto d_X_bar_31 ?_
      exact hJ_35 true (by rw [c_27]; rfl)
theorem ct_X_bar_no2 {a b : Nat} (ha : a < c.mn) (hb : b < c.mn) (hno : ¬ (a ≠ b)) (hX : XM G n μ c lx ik tb tl ts lat) (hc : CfOK c) : Ct G k_X_bar (d + 8) 2 12 [.ref (G.1 + 0), .int (nI a), .int (nI b)] n μ (XT 4 n μ) := by
  obtain ⟨hn, x0, x1, x2, x3, x4, x5, x11, x12, x18, x19, xi, xj⟩ := id hX
  obtain ⟨⟨hst1, hst2⟩, hfr, hpn, hpp, hmn, hwd, hnd, hpu, hnr, hbr, hle, hdef⟩ := id hc
  refine Ct.ofp (r := 1) (ls := [some (.ref (G.1 + 0)), some (.int (nI (a))), some (.int (nI (b))), none]) rfl (Nat.le_of_ble_eq_true rfl) ?_
  refine ev_aload_n d_X_bar_0 rfl rfl ?_
  refine ev_iload_n d_X_bar_1 rfl rfl ?_
  refine ev_iload_n d_X_bar_2 rfl rfl ?_
  refine cv (mc' := 1) (ms' := 6) (k' := k_X_pairThere) (As := [.int (nI (a)), .int (nI (b))]) (stk := []) d_X_bar_3 ml_X_108 kk_X_pairThere rfl rfl (Nat.le_of_ble_eq_true rfl) (by omega) x0 rfl rfl (ct_X_pairThere_ok (d := d) ha hb hX hc) (rd ?_)
  refine ev_iload_n d_X_bar_6 rfl rfl ?_
  refine ev_iload_n d_X_bar_7 rfl rfl ?_
  refine ev_icmp_eq d_X_bar_8 (fun c_8 => ?_) (fun c_8 => ?_)
  ·
    simp (disch := omega) only [nI_ltI, nI_leI, nI_eq, Nat.not_lt, Nat.not_le] at c_8
    refine ev_iconst (v := (nI (0))) d_X_bar_15 (by decide) ?_
    refine cs (mc' := 1) (ms' := 6) (k' := k_X_proper) (As := [.int (nI (0))]) (stk := []) d_X_bar_16 ml_X_71 kk_X_proper rfl rfl (Nat.le_of_ble_eq_true rfl) (ct_proper (d := d + 1) (false)) (gdF (rfl) ?_)
    exact ⟨rfl, rfl, rfl⟩
  ·
    simp (disch := omega) only [nI_ltI, nI_leI, nI_eq, Nat.not_lt, Nat.not_le] at c_8
    exact absurd c_8 hno
theorem ct_X_bar_no1 {a b : Int} (ha1 : -2147483648 ≤ a) (ha2 : a < 2147483648) (hb1 : -2147483648 ≤ b) (hb2 : b < 2147483648) (hno : ¬ ((0 ≤ a ∧ a < c.mn) ∧ (0 ≤ b ∧ b < c.mn))) (hX : XM G n μ c lx ik tb tl ts lat) (hc : CfOK c) : Ct G k_X_bar (d + 8) 2 12 [.ref (G.1 + 0), .int (iI a), .int (iI b)] n μ (XT 6 n μ) := by
  obtain ⟨hn, x0, x1, x2, x3, x4, x5, x11, x12, x18, x19, xi, xj⟩ := id hX
  obtain ⟨⟨hst1, hst2⟩, hfr, hpn, hpp, hmn, hwd, hnd, hpu, hnr, hbr, hle, hdef⟩ := id hc
  refine Ct.ofp (r := 1) (ls := [some (.ref (G.1 + 0)), some (.int (iI (a))), some (.int (iI (b))), none]) rfl (Nat.le_of_ble_eq_true rfl) ?_
  refine ev_aload_n d_X_bar_0 rfl rfl ?_
  refine ev_iload_n d_X_bar_1 rfl rfl ?_
  refine ev_iload_n d_X_bar_2 rfl rfl ?_
  refine cv (mc' := 1) (ms' := 6) (k' := k_X_pairThere) (As := [.int (iI (a)), .int (iI (b))]) (stk := []) d_X_bar_3 ml_X_108 kk_X_pairThere rfl rfl (Nat.le_of_ble_eq_true rfl) (by omega) x0 rfl rfl (ct_X_pairThere_no (d := d) ha1 ha2 hb1 hb2 hno hX hc) (thr ?_)
  exact ⟨rfl, rfl, rfl⟩
end TL
