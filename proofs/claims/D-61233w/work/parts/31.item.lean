/-! ===== a new item ===== -/
section IT
variable {G : Gm} {d n : Nat} {μ : Mem} {c : Cf} {lx : Nat} {ik : Nat → Nat} {tb : Nat → Int64} {tl : Nat} {ts : Nat → Int32} {lat : Value}
theorem ct_X_toldT {v0 v1 v2 v3 v4 v5 v6 v7 v8 v9 v10 v11 v12 lat : Value} (hn : 0 < n) (x0 : μ 0 = ob 0 [v0, v1, v2, v3, v4, v5, v6, v7, v8, v9, v10, v11, v12, lat]) : Ct G k_X_told d 0 0 [.ref (G.1 + 0), .int (b2 true)] n μ (fun o n' μ' => o = .inl (some (.int (b2 true))) ∧ n' = n ∧ μ' = mset μ 0 (ob 0 [v0, v1, v2, v3, v4, v5, v6, v7, v8, v9, v10, v11, v12, .null])) := by
  refine Ct.ofp (r := 0) (ls := [some (.ref (G.1 + 0)), some (.int (b2 true))]) rfl (Nat.le_of_ble_eq_true rfl) ?_
  refine ev_aload_n d_X_told_0 rfl rfl ?_
  refine ev_iload_n d_X_told_1 rfl rfl ?_
  refine ev_if_eq d_X_told_2 (fun c_2 => ?_) (fun c_2 => ?_)
  ·
    have c_2 := b2_f c_2
    cases c_2
  ·
    have c_2 := b2_t c_2
    refine ev_null d_X_told_5 ?_
    refine ev_goto d_X_told_6 ?_
    refine ev_putf (kf := 13) (T := F_X) (C := R_X) (N := 14) (ty0 := t_X) d_X_told_13 fl_X_63 rfl i_X t_X_ok n_X (by decide) rfl rfl rfl rfl hn x0 (Nat.le_of_ble_eq_true rfl) ?_
    refine ev_iload_n d_X_told_16 rfl rfl ?_
    refine ev_ireturn d_X_told_17 rfl (b2_nar _) ?_
    exact ⟨rfl, rfl, rfl⟩
theorem ct_X_item_ok {w wo ce : Nat} (hm6 : c.mn < 6) (hw1 : 1 ≤ w) (hw2 : w ≤ 20) (hwo : wo ≤ 100000) (hce : ce ≤ 100000) (hX : XM G n μ c lx ik tb tl ts lat) (hc : CfOK c) : Ct G k_X_item (d + 7) 3 18 [.ref (G.1 + 0), .int (nI w), .long (lN wo), .long (lN ce)] n μ (fun (o : Oc) (n' : Nat) (μ' : Mem) => o = .inl (some (.int (nI c.mn))) ∧ n' = n + 1 ∧ XM G (n + 1) μ' (itemC c w wo ce) lx (fun j => if j = c.mn then n else ik j) tb tl ts .null ∧ ∀ t, 20 ≤ t → t < n → μ' t = μ t) := by
  obtain ⟨hn, x0, x1, x2, x3, x4, x5, x11, x12, x18, x19, xi, xj⟩ := id hX
  obtain ⟨⟨hst1, hst2⟩, hfr, hpn, hpp, hmn, hwd, hnd, hpu, hnr, hbr, hle, hdef⟩ := id hc
  generalize hQ : (fun (o : Oc) (n' : Nat) (μ' : Mem) => o = .inl (some (.int (nI c.mn))) ∧ n' = n + 1 ∧ XM G (n + 1) μ' (itemC c w wo ce) lx (fun j => if j = c.mn then n else ik j) tb tl ts .null ∧ ∀ t, 20 ≤ t → t < n → μ' t = μ t) = Q
  refine Ct.ofp (r := 1) (ls := [some (.ref (G.1 + 0)), some (.int (nI (w))), some (.long (lN (wo))), none, some (.long (lN (ce))), none, none]) rfl (Nat.le_of_ble_eq_true rfl) ?_
  refine ev_aload_n d_X_item_0 rfl rfl ?_
  refine ev_getf (kf := 5) (T := F_X) (C := R_X) (N := 14) (v := .int (nI (c.mn))) d_X_item_1 fl_X_81 rfl i_X (by decide) (by omega) x0 rfl ?_
  refine ev_bipush (v := (nI (6))) d_X_item_4 (by decide) ?_
  refine ev_icmp_ge d_X_item_6 (fun c_6 => ?_) (fun c_6 => ?_)
  ·
    simp (disch := omega) only [nI_ltI, nI_leI, nI_eq, Nat.not_lt, Nat.not_le] at c_6
    omega
  ·
    simp (disch := omega) only [nI_ltI, nI_leI, nI_eq, Nat.not_lt, Nat.not_le] at c_6
    refine ev_iconst (v := (nI (1))) d_X_item_9 (by decide) ?_
    refine ev_goto d_X_item_10 ?_
    refine cs (mc' := 1) (ms' := 6) (k' := k_X_can) (As := [.int (nI (1))]) (stk := []) d_X_item_14 ml_X_84 kk_X_can rfl rfl (Nat.le_of_ble_eq_true rfl) (ct_can (d := d) (true)) (gdT (rfl) ?_)
    refine ev_iload_n d_X_item_17 rfl rfl ?_
    refine ev_i2l d_X_item_18 ?_
    refine ev_topl (w := (lN (w))) (nI_l (by omega)) ?_
    refine ev_lconst (v := lN 1) d_X_item_19 (by decide) ?_
    refine ev_ldc2 (v := (20)) d_X_item_20 ck_X_87 ?_
    refine ev_topl (w := lN 20) (by decide) ?_
    refine cs (mc' := 0) (ms' := 0) (k' := k_X_isIn) (As := [.long (lN (w)), .long (lN (1)), .long (lN (20))]) (stk := []) d_X_item_23 ml_X_67 kk_X_isIn rfl rfl (Nat.le_of_ble_eq_true rfl) (ct_X_isInV (d := d + 6) (LZ_n (by omega)) (LZ_n (by omega)) (LZ_n (by omega))) (rd ?_)
    refine ev_if_eq d_X_item_26 (fun c_26 => ?_) (fun c_26 => ?_)
    ·
      have c_26 := b2_f c_26
      exfalso; rw [decide_eq_false_iff_not] at c_26; omega
    ·
      have c_26 := b2_t c_26
      refine ev_lload_n d_X_item_29 rfl rfl ?_
      refine ev_lconst (v := lN 0) d_X_item_30 (by decide) ?_
      refine ev_ldc2 (v := (100000)) d_X_item_31 ck_X_89 ?_
      refine ev_topl (w := lN 100000) (by decide) ?_
      refine cs (mc' := 0) (ms' := 0) (k' := k_X_isIn) (As := [.long (lN (wo)), .long (lN (0)), .long (lN (100000))]) (stk := []) d_X_item_34 ml_X_67 kk_X_isIn rfl rfl (Nat.le_of_ble_eq_true rfl) (ct_X_isInV (d := d + 6) (LZ_n (by omega)) (LZ_n (by omega)) (LZ_n (by omega))) (rd ?_)
      refine ev_if_eq d_X_item_37 (fun c_37 => ?_) (fun c_37 => ?_)
      ·
        have c_37 := b2_f c_37
        exfalso; rw [decide_eq_false_iff_not] at c_37; omega
      ·
        have c_37 := b2_t c_37
        refine ev_lload d_X_item_40 rfl ?_
        refine ev_lconst (v := lN 0) d_X_item_42 (by decide) ?_
        refine ev_ldc2 (v := (100000)) d_X_item_43 ck_X_89 ?_
        refine ev_topl (w := lN 100000) (by decide) ?_
        refine cs (mc' := 0) (ms' := 0) (k' := k_X_isIn) (As := [.long (lN (ce)), .long (lN (0)), .long (lN (100000))]) (stk := []) d_X_item_46 ml_X_67 kk_X_isIn rfl rfl (Nat.le_of_ble_eq_true rfl) (ct_X_isInV (d := d + 6) (LZ_n (by omega)) (LZ_n (by omega)) (LZ_n (by omega))) (rd ?_)
        refine ev_if_eq d_X_item_49 (fun c_49 => ?_) (fun c_49 => ?_)
        ·
          have c_49 := b2_f c_49
          exfalso; rw [decide_eq_false_iff_not] at c_49; omega
        ·
          have c_49 := b2_t c_49
          refine ev_iconst (v := (nI (1))) d_X_item_52 (by decide) ?_
          refine ev_goto d_X_item_53 ?_
          refine cs (mc' := 1) (ms' := 6) (k' := k_X_proper) (As := [.int (nI (1))]) (stk := []) d_X_item_57 ml_X_71 kk_X_proper rfl rfl (Nat.le_of_ble_eq_true rfl) (ct_proper (d := d) (true)) (gdT (rfl) ?_)
          refine ev_aload_n d_X_item_60 rfl rfl ?_
          refine ev_getf (kf := 4) (T := F_X) (C := R_X) (N := 14) (v := .ref (G.1 + 3)) d_X_item_61 fl_X_19 rfl i_X (by decide) (by omega) x0 rfl ?_
          refine ev_aload_n d_X_item_64 rfl rfl ?_
          refine ev_getf (kf := 5) (T := F_X) (C := R_X) (N := 14) (v := .int (nI (c.mn))) d_X_item_65 fl_X_81 rfl i_X (by decide) (by omega) x0 rfl ?_
          refine ev_new (rc := 0) (rs := 0) (ci := 1) (C := R_I) (T := F_I) (N := 6) (fs := [.int 0, .long 0, .long 0, .int 0, .int 0, .int 0]) (ty := t_I) d_X_item_68 cl_X_17 in_I iz_I rfl i_I t_I_ok (by decide) ?_
          refine ev_dup d_X_item_71 rfl ?_
          refine ev_iload_n d_X_item_72 rfl rfl ?_
          refine ev_lload_n d_X_item_73 rfl rfl ?_
          refine ev_lload d_X_item_74 rfl ?_
          refine ci (rc := 0) (rs := 0) (mc' := 0) (ms' := 0) (k' := k_I_init) (As := [.int (nI w), .long (lN wo), .long (lN ce)]) (stk := [.ref (G.1 + n), .int (nI c.mn), .ref (G.1 + 3)]) d_X_item_76 ml_X_91 kk_I_init rfl rfl (Nat.le_of_ble_eq_true rfl) (ct_I_init (d := d + 5) (Nat.lt_succ_self n) (mset_eq _ _ _)) (af fun n1 ν1 hq => ?_)
          obtain ⟨rfl, rfl⟩ := hq
          rw [mset_mset]
          refine ev_aast (t := 3) (v := n) (j := c.mn) d_X_item_79 (by omega) ((mset_ne _ _ (by omega)).trans x3) (Nat.lt_succ_self n) (mset_eq _ _ _) hm6 (by decide) ?_
          have y0 : (mset (mset μ n (ob 1 [.int (nI w), .long (lN wo), .long (lN ce), .int (iI (-1)), .int 0, .int (iI (-101))])) 3 (aR 3 6 (va_up (fun j => if j < c.mn then some (G.1 + ik j) else none) c.mn (some (G.1 + n))))) 0 = ob 0 [.int (nI c.st), .ref (G.1 + 1), .ref (G.1 + 2), .int (nI c.pn), .ref (G.1 + 3), .int (nI c.mn), .ref (G.1 + 4), .ref (G.1 + 11), .int (nI lx), .int (nI c.mo), .ref (G.1 + 18), .ref (G.1 + 19), .int (nI tl), lat] := by
            rw [mset_ne _ _ (by omega), mset_ne _ _ (by omega)]; exact x0
          refine ev_aload_n d_X_item_80 rfl rfl ?_
          refine ev_iconst (v := (nI (1))) d_X_item_81 (by decide) ?_
          refine cv (mc' := 0) (ms' := 0) (k' := k_X_told) (As := [.int (nI (1))]) (stk := []) d_X_item_82 ml_X_75 kk_X_told rfl rfl (Nat.le_of_ble_eq_true rfl) (by omega) y0 rfl rfl (ct_X_toldT (d := d + 6) (by omega) y0) (af fun n1 ν1 hq => ?_)
          obtain ⟨rfl, rfl⟩ := hq
          refine ev_istore (ls' := [_, _, _, none, _, none, _]) d_X_item_85 (by decide) rfl rfl ?_
          refine ev_aload_n d_X_item_87 rfl rfl ?_
          refine ev_dup d_X_item_88 rfl ?_
          refine ev_getf (kf := 5) (T := F_X) (C := R_X) (N := 14) (v := .int (nI (c.mn))) d_X_item_89 fl_X_81 rfl i_X (by decide) (by omega) (mset_eq _ _ _) rfl ?_
          refine ev_dup_x1 d_X_item_92 rfl rfl ?_
          refine ev_iconst (v := (nI (1))) d_X_item_93 (by decide) ?_
          refine ev_iadd d_X_item_94 ?_
          refine ev_topi (w := (nI (c.mn + 1))) (nI_add _ _) ?_
          refine ev_putf (kf := 5) (T := F_X) (C := R_X) (N := 14) (ty0 := t_X) d_X_item_95 fl_X_81 rfl i_X t_X_ok n_X (by decide) rfl rfl rfl rfl (by omega) (mset_eq _ _ _) (Nat.le_of_ble_eq_true rfl) ?_
          refine ev_ireturn d_X_item_98 rfl rfl ?_
          subst hQ
          rw [mset_mset]
          refine ⟨rfl, rfl, ⟨by omega, mset_eq _ _ _, ?_, ?_, ?_, ?_, fun i hi => ?_, ?_, fun i hi => ?_, ?_, ?_, fun k hk => ?_, fun i j hi hj hij => ?_⟩, fun t h1 h2 => ?_⟩
          · rw [mset_ne _ _ (by omega), mset_ne _ _ (by omega), mset_ne _ _ (by omega)]; exact x1
          · rw [mset_ne _ _ (by omega), mset_ne _ _ (by omega), mset_ne _ _ (by omega)]; exact x2
          · rw [mset_ne _ _ (by omega), mset_eq]
            show aR 3 6 _ = aR 3 6 (fun j => if j < c.mn + 1 then some (G.1 + (if j = c.mn then n else ik j)) else none)
            congr 5
            funext j
            unfold va_up
            by_cases e : j = c.mn
            · rw [if_pos e, if_pos (by omega), if_pos e]
            · rw [if_neg e, if_neg e]
              dsimp only
              by_cases e2 : j < c.mn
              · rw [if_pos e2, if_pos (by omega)]
              · rw [if_neg e2, if_neg (by omega)]
          · rw [mset_ne _ _ (by omega), mset_ne _ _ (by omega), mset_ne _ _ (by omega)]; exact x4
          · rw [mset_ne _ _ (by omega), mset_ne _ _ (by omega), mset_ne _ _ (by omega)]; exact x5 i hi
          · rw [mset_ne _ _ (by omega), mset_ne _ _ (by omega), mset_ne _ _ (by omega)]; exact x11
          · rw [mset_ne _ _ (by omega), mset_ne _ _ (by omega), mset_ne _ _ (by omega)]; exact x12 i hi
          · rw [mset_ne _ _ (by omega), mset_ne _ _ (by omega), mset_ne _ _ (by omega)]; exact x18
          · rw [mset_ne _ _ (by omega), mset_ne _ _ (by omega), mset_ne _ _ (by omega)]; exact x19
          · by_cases e : k = c.mn
            · subst e
              simp only [if_true]
              refine ⟨hn, Nat.lt_succ_self n, ?_⟩
              rw [mset_ne _ _ (by omega), mset_ne _ _ (by omega), mset_eq]
              obtain ⟨d1, d2, d3⟩ := hdef c.mn (Nat.le_refl _)
              show ob 1 _ = ob 1 [.int (nI (if c.mn = c.mn then w else c.wd c.mn)), .long (lN (if c.mn = c.mn then wo else c.wo c.mn)), .long (lN (if c.mn = c.mn then ce else c.ce c.mn)), .int (iI (c.nd c.mn)), .int (b2 (c.ms c.mn)), .int (iI (c.pu c.mn))]
              rw [d1, d2, d3, if_pos rfl, if_pos rfl, if_pos rfl]; rfl
            · have hk2 : k < c.mn := by
                have : k < c.mn + 1 := hk
                omega
              obtain ⟨z1, z2, z3⟩ := xi k hk2
              simp only [if_neg e]
              refine ⟨z1, by omega, ?_⟩
              rw [mset_ne _ _ (by omega), mset_ne _ _ (by omega), mset_ne _ _ (by omega), z3]
              show _ = ob 1 [.int (nI (if k = c.mn then w else c.wd k)), .long (lN (if k = c.mn then wo else c.wo k)), .long (lN (if k = c.mn then ce else c.ce k)), .int (iI (c.nd k)), .int (b2 (c.ms k)), .int (iI (c.pu k))]
              rw [if_neg e, if_neg e, if_neg e]
          · have hi2 : i < c.mn + 1 := hi
            have hj2 : j < c.mn + 1 := hj
            dsimp only at hij
            by_cases e1 : i = c.mn <;> by_cases e2 : j = c.mn
            · omega
            · rw [if_pos e1, if_neg e2] at hij
              have := (xi j (by omega)).2.1; omega
            · rw [if_neg e1, if_pos e2] at hij
              have := (xi i (by omega)).2.1; omega
            · rw [if_neg e1, if_neg e2] at hij
              exact xj i j (by omega) (by omega) hij
          · rw [mset_ne _ _ (by omega), mset_ne _ _ (by omega), mset_ne _ _ (by omega)]
theorem ct_X_item_no1 {a : Int} {wo ce : Int64} (hm6 : ¬ c.mn < 6) (ha1 : -2147483648 ≤ a) (ha2 : a < 2147483648) (hX : XM G n μ c lx ik tb tl ts lat) (hc : CfOK c) : Ct G k_X_item (d + 7) 3 18 [.ref (G.1 + 0), .int (iI a), .long wo, .long ce] n μ (XT 5 n μ) := by
  obtain ⟨hn, x0, x1, x2, x3, x4, x5, x11, x12, x18, x19, xi, xj⟩ := id hX
  obtain ⟨⟨hst1, hst2⟩, hfr, hpn, hpp, hmn, hwd, hnd, hpu, hnr, hbr, hle, hdef⟩ := id hc
  refine Ct.ofp (r := 1) (ls := [some (.ref (G.1 + 0)), some (.int (iI (a))), some (.long (wo)), none, some (.long (ce)), none, none]) rfl (Nat.le_of_ble_eq_true rfl) ?_
  refine ev_aload_n d_X_item_0 rfl rfl ?_
  refine ev_getf (kf := 5) (T := F_X) (C := R_X) (N := 14) (v := .int (nI (c.mn))) d_X_item_1 fl_X_81 rfl i_X (by decide) (by omega) x0 rfl ?_
  refine ev_bipush (v := (nI (6))) d_X_item_4 (by decide) ?_
  refine ev_icmp_ge d_X_item_6 (fun c_6 => ?_) (fun c_6 => ?_)
  ·
    simp (disch := omega) only [nI_ltI, nI_leI, nI_eq, Nat.not_lt, Nat.not_le] at c_6
    refine ev_iconst (v := (nI (0))) d_X_item_13 (by decide) ?_
    refine cs (mc' := 1) (ms' := 6) (k' := k_X_can) (As := [.int (nI (0))]) (stk := []) d_X_item_14 ml_X_84 kk_X_can rfl rfl (Nat.le_of_ble_eq_true rfl) (ct_can (d := d) (false)) (gdF (rfl) ?_)
    exact ⟨rfl, rfl, rfl⟩
  ·
    simp (disch := omega) only [nI_ltI, nI_leI, nI_eq, Nat.not_lt, Nat.not_le] at c_6
    omega
theorem ct_X_item_no2 {a : Int} {wo ce : Int64} (hm6 : c.mn < 6) (hno : ¬ ((1 ≤ a ∧ a ≤ 20) ∧ (0 ≤ wo.toInt ∧ wo.toInt ≤ 100000) ∧ (0 ≤ ce.toInt ∧ ce.toInt ≤ 100000))) (ha1 : -2147483648 ≤ a) (ha2 : a < 2147483648) (hX : XM G n μ c lx ik tb tl ts lat) (hc : CfOK c) : Ct G k_X_item (d + 7) 3 18 [.ref (G.1 + 0), .int (iI a), .long wo, .long ce] n μ (XT 4 n μ) := by
  obtain ⟨hn, x0, x1, x2, x3, x4, x5, x11, x12, x18, x19, xi, xj⟩ := id hX
  obtain ⟨⟨hst1, hst2⟩, hfr, hpn, hpp, hmn, hwd, hnd, hpu, hnr, hbr, hle, hdef⟩ := id hc
  refine Ct.ofp (r := 1) (ls := [some (.ref (G.1 + 0)), some (.int (iI (a))), some (.long (wo)), none, some (.long (ce)), none, none]) rfl (Nat.le_of_ble_eq_true rfl) ?_
  refine ev_aload_n d_X_item_0 rfl rfl ?_
  refine ev_getf (kf := 5) (T := F_X) (C := R_X) (N := 14) (v := .int (nI (c.mn))) d_X_item_1 fl_X_81 rfl i_X (by decide) (by omega) x0 rfl ?_
  refine ev_bipush (v := (nI (6))) d_X_item_4 (by decide) ?_
  refine ev_icmp_ge d_X_item_6 (fun c_6 => ?_) (fun c_6 => ?_)
  ·
    simp (disch := omega) only [nI_ltI, nI_leI, nI_eq, Nat.not_lt, Nat.not_le] at c_6
    omega
  ·
    simp (disch := omega) only [nI_ltI, nI_leI, nI_eq, Nat.not_lt, Nat.not_le] at c_6
    refine ev_iconst (v := (nI (1))) d_X_item_9 (by decide) ?_
    refine ev_goto d_X_item_10 ?_
    refine cs (mc' := 1) (ms' := 6) (k' := k_X_can) (As := [.int (nI (1))]) (stk := []) d_X_item_14 ml_X_84 kk_X_can rfl rfl (Nat.le_of_ble_eq_true rfl) (ct_can (d := d) (true)) (gdT (rfl) ?_)
    refine ev_iload_n d_X_item_17 rfl rfl ?_
    refine ev_i2l d_X_item_18 ?_
    refine ev_lconst (v := lN 1) d_X_item_19 (by decide) ?_
    refine ev_ldc2 (v := (20)) d_X_item_20 ck_X_87 ?_
    refine ev_topl (w := lN 20) (by decide) ?_
    refine cs (mc' := 0) (ms' := 0) (k' := k_X_isIn) (As := [.long (((iI (a))).toInt64), .long (lN (1)), .long (lN (20))]) (stk := []) d_X_item_23 ml_X_67 kk_X_isIn rfl rfl (Nat.le_of_ble_eq_true rfl) (ct_X_isInV (d := d + 6) (LZ_z (by omega) (by omega)) (LZ_n (by omega)) (LZ_n (by omega))) (rd ?_)
    refine ev_if_eq d_X_item_26 (fun c_26 => ?_) (fun c_26 => ?_)
    ·
      have c_26 := b2_f c_26
      refine ev_iconst (v := (nI (0))) d_X_item_56 (by decide) ?_
      refine cs (mc' := 1) (ms' := 6) (k' := k_X_proper) (As := [.int (nI (0))]) (stk := []) d_X_item_57 ml_X_71 kk_X_proper rfl rfl (Nat.le_of_ble_eq_true rfl) (ct_proper (d := d) (false)) (gdF (rfl) ?_)
      exact ⟨rfl, rfl, rfl⟩
    ·
      have c_26 := b2_t c_26
      refine ev_lload_n d_X_item_29 rfl rfl ?_
      refine ev_lconst (v := lN 0) d_X_item_30 (by decide) ?_
      refine ev_ldc2 (v := (100000)) d_X_item_31 ck_X_89 ?_
      refine ev_topl (w := lN 100000) (by decide) ?_
      refine cs (mc' := 0) (ms' := 0) (k' := k_X_isIn) (As := [.long (wo), .long (lN (0)), .long (lN (100000))]) (stk := []) d_X_item_34 ml_X_67 kk_X_isIn rfl rfl (Nat.le_of_ble_eq_true rfl) (ct_X_isInV (d := d + 6) (LZ_of _) (LZ_n (by omega)) (LZ_n (by omega))) (rd ?_)
      refine ev_if_eq d_X_item_37 (fun c_37 => ?_) (fun c_37 => ?_)
      ·
        have c_37 := b2_f c_37
        refine ev_iconst (v := (nI (0))) d_X_item_56 (by decide) ?_
        refine cs (mc' := 1) (ms' := 6) (k' := k_X_proper) (As := [.int (nI (0))]) (stk := []) d_X_item_57 ml_X_71 kk_X_proper rfl rfl (Nat.le_of_ble_eq_true rfl) (ct_proper (d := d) (false)) (gdF (rfl) ?_)
        exact ⟨rfl, rfl, rfl⟩
      ·
        have c_37 := b2_t c_37
        refine ev_lload d_X_item_40 rfl ?_
        refine ev_lconst (v := lN 0) d_X_item_42 (by decide) ?_
        refine ev_ldc2 (v := (100000)) d_X_item_43 ck_X_89 ?_
        refine ev_topl (w := lN 100000) (by decide) ?_
        refine cs (mc' := 0) (ms' := 0) (k' := k_X_isIn) (As := [.long (ce), .long (lN (0)), .long (lN (100000))]) (stk := []) d_X_item_46 ml_X_67 kk_X_isIn rfl rfl (Nat.le_of_ble_eq_true rfl) (ct_X_isInV (d := d + 6) (LZ_of _) (LZ_n (by omega)) (LZ_n (by omega))) (rd ?_)
        refine ev_if_eq d_X_item_49 (fun c_49 => ?_) (fun c_49 => ?_)
        ·
          have c_49 := b2_f c_49
          refine ev_iconst (v := (nI (0))) d_X_item_56 (by decide) ?_
          refine cs (mc' := 1) (ms' := 6) (k' := k_X_proper) (As := [.int (nI (0))]) (stk := []) d_X_item_57 ml_X_71 kk_X_proper rfl rfl (Nat.le_of_ble_eq_true rfl) (ct_proper (d := d) (false)) (gdF (rfl) ?_)
          exact ⟨rfl, rfl, rfl⟩
        ·
          have c_49 := b2_t c_49
          exfalso; have := of_decide_eq_true c_26; have := of_decide_eq_true c_37; have := of_decide_eq_true c_49; omega
end IT
