/-! ===== what a set is looked at for ===== -/
def bc (v : Nat) : Nat := ssm v (fun _ => 1) 6
def unl (td : Nat → Nat) (tl ul S : Nat) : Bool := (List.range tl).all (fun k => decide (ul ≤ bc (S ^^^ td k)))
def TdOK (tl : Nat) (ts : Nat → Int32) (td : Nat → Nat) : Prop := tl ≤ 16 ∧ ∀ k, k < tl → ts k = nI (td k) ∧ td k < 64
theorem xor_dec : ∀ u, u < 64 → ∀ v, v < 64 → nI u ^^^ nI v = nI (u ^^^ v) ∧ u ^^^ v < 64 := by decide +kernel
theorem bc_lt (v : Nat) : bc v ≤ 6 := by
  refine Nat.le_trans (sm_bnd (B := 1) 6 fun k _ => ?_) (by omega)
  show (if v.testBit k = true then 1 else 0) ≤ 1
  split <;> omega
theorem b2_mul (b : Bool) (w : Nat) : b2 b * nI w = nI (if b then w else 0) := by
  cases b
  · show nI 0 * nI w = _
    rw [pk_mul, Nat.zero_mul]; rfl
  · show nI 1 * nI w = _
    rw [pk_mul, Nat.one_mul]; rfl
theorem b2_l (b : Bool) : (b2 b).toInt64 = lN (if b then 1 else 0) := by cases b <;> decide
theorem bit2_shr : ∀ u, u < 64 → ∀ i, i < 6 → ∀ j, j < 6 → (nI u >>> (nI i &&& 31)) &&& (nI u >>> (nI j &&& 31)) &&& nI 1 = b2 (u.testBit i && u.testBit j) := by decide +kernel
theorem bc_raw : ∀ v, v < 64 → ((((((((nI v) - ((((nI v).toUInt32 >>> ((nI (1)).toUInt32 &&& Int32.toUInt32 31)).toInt32) &&& ((1431655765)))) &&& ((858993459))) + (((((nI v) - ((((nI v).toUInt32 >>> ((nI (1)).toUInt32 &&& Int32.toUInt32 31)).toInt32) &&& ((1431655765)))).toUInt32 >>> ((nI (2)).toUInt32 &&& Int32.toUInt32 31)).toInt32) &&& ((858993459)))) + ((((((nI v) - ((((nI v).toUInt32 >>> ((nI (1)).toUInt32 &&& Int32.toUInt32 31)).toInt32) &&& ((1431655765)))) &&& ((858993459))) + (((((nI v) - ((((nI v).toUInt32 >>> ((nI (1)).toUInt32 &&& Int32.toUInt32 31)).toInt32) &&& ((1431655765)))).toUInt32 >>> ((nI (2)).toUInt32 &&& Int32.toUInt32 31)).toInt32) &&& ((858993459)))).toUInt32 >>> ((nI (4)).toUInt32 &&& Int32.toUInt32 31)).toInt32)) &&& ((252645135))) + ((((((((nI v) - ((((nI v).toUInt32 >>> ((nI (1)).toUInt32 &&& Int32.toUInt32 31)).toInt32) &&& ((1431655765)))) &&& ((858993459))) + (((((nI v) - ((((nI v).toUInt32 >>> ((nI (1)).toUInt32 &&& Int32.toUInt32 31)).toInt32) &&& ((1431655765)))).toUInt32 >>> ((nI (2)).toUInt32 &&& Int32.toUInt32 31)).toInt32) &&& ((858993459)))) + ((((((nI v) - ((((nI v).toUInt32 >>> ((nI (1)).toUInt32 &&& Int32.toUInt32 31)).toInt32) &&& ((1431655765)))) &&& ((858993459))) + (((((nI v) - ((((nI v).toUInt32 >>> ((nI (1)).toUInt32 &&& Int32.toUInt32 31)).toInt32) &&& ((1431655765)))).toUInt32 >>> ((nI (2)).toUInt32 &&& Int32.toUInt32 31)).toInt32) &&& ((858993459)))).toUInt32 >>> ((nI (4)).toUInt32 &&& Int32.toUInt32 31)).toInt32)) &&& ((252645135))).toUInt32 >>> ((nI (8)).toUInt32 &&& Int32.toUInt32 31)).toInt32)) + (((((((((nI v) - ((((nI v).toUInt32 >>> ((nI (1)).toUInt32 &&& Int32.toUInt32 31)).toInt32) &&& ((1431655765)))) &&& ((858993459))) + (((((nI v) - ((((nI v).toUInt32 >>> ((nI (1)).toUInt32 &&& Int32.toUInt32 31)).toInt32) &&& ((1431655765)))).toUInt32 >>> ((nI (2)).toUInt32 &&& Int32.toUInt32 31)).toInt32) &&& ((858993459)))) + ((((((nI v) - ((((nI v).toUInt32 >>> ((nI (1)).toUInt32 &&& Int32.toUInt32 31)).toInt32) &&& ((1431655765)))) &&& ((858993459))) + (((((nI v) - ((((nI v).toUInt32 >>> ((nI (1)).toUInt32 &&& Int32.toUInt32 31)).toInt32) &&& ((1431655765)))).toUInt32 >>> ((nI (2)).toUInt32 &&& Int32.toUInt32 31)).toInt32) &&& ((858993459)))).toUInt32 >>> ((nI (4)).toUInt32 &&& Int32.toUInt32 31)).toInt32)) &&& ((252645135))) + ((((((((nI v) - ((((nI v).toUInt32 >>> ((nI (1)).toUInt32 &&& Int32.toUInt32 31)).toInt32) &&& ((1431655765)))) &&& ((858993459))) + (((((nI v) - ((((nI v).toUInt32 >>> ((nI (1)).toUInt32 &&& Int32.toUInt32 31)).toInt32) &&& ((1431655765)))).toUInt32 >>> ((nI (2)).toUInt32 &&& Int32.toUInt32 31)).toInt32) &&& ((858993459)))) + ((((((nI v) - ((((nI v).toUInt32 >>> ((nI (1)).toUInt32 &&& Int32.toUInt32 31)).toInt32) &&& ((1431655765)))) &&& ((858993459))) + (((((nI v) - ((((nI v).toUInt32 >>> ((nI (1)).toUInt32 &&& Int32.toUInt32 31)).toInt32) &&& ((1431655765)))).toUInt32 >>> ((nI (2)).toUInt32 &&& Int32.toUInt32 31)).toInt32) &&& ((858993459)))).toUInt32 >>> ((nI (4)).toUInt32 &&& Int32.toUInt32 31)).toInt32)) &&& ((252645135))).toUInt32 >>> ((nI (8)).toUInt32 &&& Int32.toUInt32 31)).toInt32)).toUInt32 >>> ((nI (16)).toUInt32 &&& Int32.toUInt32 31)).toInt32)) &&& (nI (63)) = nI (bc v) := by decide +kernel
section LK
variable {G : Gm} {d n : Nat} {μ : Mem} {c : Cf} {lx : Nat} {ik : Nat → Nat} {tb : Nat → Int64} {tl : Nat} {ts : Nat → Int32} {lat : Value} {S : Nat}
theorem ct_J_bitCount {v : Nat} (hv : v < 64) : Ct G k_J_bitCount d 0 0 [.int (nI v)] n μ (Rd (some (.int (nI (bc v)))) n μ) := by
  refine Ct.ofp (r := 0) (ls := [some (.int (nI v))]) rfl (Nat.le_of_ble_eq_true rfl) ?_
  refine ev_iload_n d_J_bitCount_0 rfl rfl ?_
  refine ev_iload_n d_J_bitCount_1 rfl rfl ?_
  refine ev_iconst (v := (nI (1))) d_J_bitCount_2 (by decide) ?_
  refine ev_iushr d_J_bitCount_3 ?_
  refine ev_ldcw (v := (1431655765)) d_J_bitCount_4 ck_J_265 ?_
  refine ev_iand d_J_bitCount_7 ?_
  refine ev_isub d_J_bitCount_8 ?_
  refine ev_istore_n (ls' := [_]) d_J_bitCount_9 rfl (by decide) rfl rfl ?_
  refine ev_iload_n d_J_bitCount_10 rfl rfl ?_
  refine ev_ldcw (v := (858993459)) d_J_bitCount_11 ck_J_266 ?_
  refine ev_iand d_J_bitCount_14 ?_
  refine ev_iload_n d_J_bitCount_15 rfl rfl ?_
  refine ev_iconst (v := (nI (2))) d_J_bitCount_16 (by decide) ?_
  refine ev_iushr d_J_bitCount_17 ?_
  refine ev_ldcw (v := (858993459)) d_J_bitCount_18 ck_J_266 ?_
  refine ev_iand d_J_bitCount_21 ?_
  refine ev_iadd d_J_bitCount_22 ?_
  refine ev_istore_n (ls' := [_]) d_J_bitCount_23 rfl (by decide) rfl rfl ?_
  refine ev_iload_n d_J_bitCount_24 rfl rfl ?_
  refine ev_iload_n d_J_bitCount_25 rfl rfl ?_
  refine ev_iconst (v := (nI (4))) d_J_bitCount_26 (by decide) ?_
  refine ev_iushr d_J_bitCount_27 ?_
  refine ev_iadd d_J_bitCount_28 ?_
  refine ev_ldcw (v := (252645135)) d_J_bitCount_29 ck_J_267 ?_
  refine ev_iand d_J_bitCount_32 ?_
  refine ev_istore_n (ls' := [_]) d_J_bitCount_33 rfl (by decide) rfl rfl ?_
  refine ev_iload_n d_J_bitCount_34 rfl rfl ?_
  refine ev_iload_n d_J_bitCount_35 rfl rfl ?_
  refine ev_bipush (v := (nI (8))) d_J_bitCount_36 (by decide) ?_
  refine ev_iushr d_J_bitCount_38 ?_
  refine ev_iadd d_J_bitCount_39 ?_
  refine ev_istore_n (ls' := [_]) d_J_bitCount_40 rfl (by decide) rfl rfl ?_
  refine ev_iload_n d_J_bitCount_41 rfl rfl ?_
  refine ev_iload_n d_J_bitCount_42 rfl rfl ?_
  refine ev_bipush (v := (nI (16))) d_J_bitCount_43 (by decide) ?_
  refine ev_iushr d_J_bitCount_45 ?_
  refine ev_iadd d_J_bitCount_46 ?_
  refine ev_istore_n (ls' := [_]) d_J_bitCount_47 rfl (by decide) rfl rfl ?_
  refine ev_iload_n d_J_bitCount_48 rfl rfl ?_
  refine ev_bipush (v := (nI (63))) d_J_bitCount_49 (by decide) ?_
  refine ev_iand d_J_bitCount_51 ?_
  refine ev_ireturn d_J_bitCount_52 rfl rfl ?_
  rw [bc_raw v hv]; exact ⟨rfl, rfl, rfl⟩
theorem lp_X_isUnlike {td : Nat → Nat} {ul : Nat} (hS : S < 64) (hul : ul ≤ 6) (htd : TdOK tl ts td) (hX : XM G n μ c lx ik tb tl ts lat) (hc : CfOK c) : ∀ (m : Nat) (i : Nat) (op : Bool), i ≤ tl → tl < i + m → op = (List.range i).all (fun k => decide (ul ≤ bc (S ^^^ td k))) → Ev G k_X_isUnlike (d + 1) 0 0 5 [some (.ref (G.1 + 0)), some (.int (nI (S))), some (.int (nI (ul))), some (.int (b2 (op))), some (.int (nI (i)))] [] n μ ((Rd (some (.int (b2 (unl td tl ul S)))) n μ)) := by
  obtain ⟨hn, x0, x1, x2, x3, x4, x5, x11, x12, x18, x19, xi, xj⟩ := id hX
  obtain ⟨⟨hst1, hst2⟩, hfr, hpn, hpp, hmn, hwd, hnd, hpu, hnr, hbr, hle, hdef⟩ := id hc
  obtain ⟨htl, htd⟩ := id htd
  generalize hQ : (Rd (some (.int (b2 (unl td tl ul S)))) n μ) = Q
  intro m
  induction m with
  | zero =>
    intro i op h1 h2
    exact absurd h2 (by omega)
  | succ m ih =>
    intro i op hi him hop
    refine ev_iload d_X_isUnlike_5 rfl ?_
    refine ev_aload_n d_X_isUnlike_7 rfl rfl ?_
    refine ev_getf (kf := 12) (T := F_X) (C := R_X) (N := 14) (v := .int (nI (tl))) d_X_isUnlike_8 fl_X_177 rfl i_X (by decide) (by omega) x0 rfl ?_
    refine ev_icmp_ge d_X_isUnlike_11 (fun c_11 => ?_) (fun c_11 => ?_)
    ·
      simp (disch := omega) only [nI_ltI, nI_leI, nI_eq, Nat.not_lt, Nat.not_le] at c_11
      refine ev_iload_n d_X_isUnlike_44 rfl rfl ?_
      refine ev_ireturn d_X_isUnlike_45 rfl (b2_nar _) ?_
      subst hQ
      refine retb ?_
      have hi2 : i = tl := by omega
      subst hi2; rw [hop]; rfl
    ·
      simp (disch := omega) only [nI_ltI, nI_leI, nI_eq, Nat.not_lt, Nat.not_le] at c_11
      obtain ⟨ht1, ht2⟩ := htd i c_11
      obtain ⟨hx1, hx2⟩ := xor_dec S hS (td i) ht2
      refine ev_iload_n d_X_isUnlike_14 rfl rfl ?_
      refine ev_iload_n d_X_isUnlike_15 rfl rfl ?_
      refine ev_aload_n d_X_isUnlike_16 rfl rfl ?_
      refine ev_getf (kf := 11) (T := F_X) (C := R_X) (N := 14) (v := .ref (G.1 + 19)) d_X_isUnlike_17 fl_X_38 rfl i_X (by decide) (by omega) x0 rfl ?_
      refine ev_iload d_X_isUnlike_20 rfl ?_
      refine ev_iald (j := i) d_X_isUnlike_22 (by omega) x19 (by omega) (by decide) ?_
      refine ev_topi (w := nI (td i)) ht1 ?_
      refine ev_ixor d_X_isUnlike_23 ?_
      refine ev_topi (w := (nI (S ^^^ td i))) hx1 ?_
      have hbc := bc_lt (S ^^^ td i)
      refine cs (mc' := 0) (ms' := 0) (k' := k_J_bitCount) (As := [.int (nI (S ^^^ td i))]) (stk := [.int (b2 (op))]) d_X_isUnlike_24 ml_X_180 kk_J_bitCount rfl rfl (Nat.le_of_ble_eq_true rfl) (ct_J_bitCount (d := d) hx2) (rd ?_)
      have hJ_36 : ∀ b : Bool, b = decide (ul ≤ bc (S ^^^ td i)) → Ev G k_X_isUnlike (d + 1) 0 0 36 [some (.ref (G.1 + 0)), some (.int (nI (S))), some (.int (nI (ul))), some (.int (b2 (op))), some (.int (nI (i)))] [.int (b2 (b)), .int (b2 (op))] n μ Q := by
        intro b hJ
        refine ev_iand d_X_isUnlike_36 ?_
        refine ev_topi (w := (b2 (op && b))) (b2_and _ _) ?_
        refine ev_istore_n (ls' := [_, _, _, _, _]) d_X_isUnlike_37 rfl (by decide) rfl rfl ?_
        refine ev_iinc (v := (nI (i + 1))) (ls' := [_, _, _, _, _]) d_X_isUnlike_38 rfl (nI_1 _) (by decide) rfl rfl ?_
        refine ev_goto d_X_isUnlike_41 ?_
        subst hQ
        exact ih (i + 1) (op && b) (by omega) (by omega) (by rw [all_succ, ← hop, hJ])
      refine ev_iload_n d_X_isUnlike_27 rfl rfl ?_
      refine ev_icmp_lt d_X_isUnlike_28 (fun c_28 => ?_) (fun c_28 => ?_)
      ·
        simp (disch := omega) only [nI_ltI, nI_leI, nI_eq, Nat.not_lt, Nat.not_le] at c_28
        refine ev_iconst (v := (nI (0))) d_X_isUnlike_35 (by decide) ?_
        exact hJ_36 false (by simp; omega)
      ·
        simp (disch := omega) only [nI_ltI, nI_leI, nI_eq, Nat.not_lt, Nat.not_le] at c_28
        refine ev_iconst (v := (nI (1))) d_X_isUnlike_31 (by decide) ?_
        refine ev_goto d_X_isUnlike_32 ?_
        exact hJ_36 true (by simp; omega)
theorem ct_X_isUnlike {td : Nat → Nat} {ul : Nat} (hS : S < 64) (hul : ul ≤ 6) (htd : TdOK tl ts td) (hX : XM G n μ c lx ik tb tl ts lat) (hc : CfOK c) : Ct G k_X_isUnlike (d + 1) 0 0 [.ref (G.1 + 0), .int (nI S), .int (nI ul)] n μ (Rd (some (.int (b2 (unl td tl ul S)))) n μ) := by
  obtain ⟨hn, x0, x1, x2, x3, x4, x5, x11, x12, x18, x19, xi, xj⟩ := id hX
  obtain ⟨⟨hst1, hst2⟩, hfr, hpn, hpp, hmn, hwd, hnd, hpu, hnr, hbr, hle, hdef⟩ := id hc
  generalize hQ : (Rd (some (.int (b2 (unl td tl ul S)))) n μ) = Q
  refine Ct.ofp (r := 2) (ls := [some (.ref (G.1 + 0)), some (.int (nI (S))), some (.int (nI (ul))), none, none]) rfl (Nat.le_of_ble_eq_true rfl) ?_
  refine ev_iconst (v := (nI (1))) d_X_isUnlike_0 (by decide) ?_
  refine ev_istore_n (ls' := [_, _, _, _, none]) d_X_isUnlike_1 rfl (by decide) rfl rfl ?_
  refine ev_iconst (v := (nI (0))) d_X_isUnlike_2 (by decide) ?_
  refine ev_istore (ls' := [_, _, _, _, _]) d_X_isUnlike_3 (by decide) rfl rfl ?_
  subst hQ
  exact lp_X_isUnlike hS hul htd hX hc (tl + 1) 0 true (by omega) (by omega) rfl
theorem lp_X_hasRoom2 (hS : S < 64) (hX : XM G n μ c lx ik tb tl ts lat) (hc : CfOK c) : ∀ (m : Nat) (i : Nat) (r : Int), i ≤ c.mn → c.mn < i + m → r = (nf c 0 : Int) - ssm S c.wd i → Ev G k_X_hasRoom (d) 0 0 37 [some (.ref (G.1 + 0)), some (.int (nI (S))), some (.int (iI (r))), some (.int (nI (i)))] [] n μ ((Rd (some (.int (b2 (decide (ssm S c.wd c.mn ≤ nf c 0))))) n μ)) := by
  obtain ⟨hn, x0, x1, x2, x3, x4, x5, x11, x12, x18, x19, xi, xj⟩ := id hX
  obtain ⟨⟨hst1, hst2⟩, hfr, hpn, hpp, hmn, hwd, hnd, hpu, hnr, hbr, hle, hdef⟩ := id hc
  have hnf : nf c 0 ≤ 1 * c.st := sm_bnd c.st (fun k _ => by split <;> omega)
  generalize hQ : (Rd (some (.int (b2 (decide (ssm S c.wd c.mn ≤ nf c 0))))) n μ) = Q
  intro m
  induction m with
  | zero =>
    intro i r h1 h2
    exact absurd h2 (by omega)
  | succ m ih =>
    intro i r hi him hr
    refine ev_iload_n d_X_hasRoom_37 rfl rfl ?_
    refine ev_aload_n d_X_hasRoom_38 rfl rfl ?_
    refine ev_getf (kf := 5) (T := F_X) (C := R_X) (N := 14) (v := .int (nI (c.mn))) d_X_hasRoom_39 fl_X_81 rfl i_X (by decide) (by omega) x0 rfl ?_
    refine ev_icmp_ge d_X_hasRoom_42 (fun c_42 => ?_) (fun c_42 => ?_)
    ·
      simp (disch := omega) only [nI_ltI, nI_leI, nI_eq, Nat.not_lt, Nat.not_le] at c_42
      have hi2 : i = c.mn := by omega
      have hss : ssm S c.wd c.mn ≤ 20 * c.mn := sm_bnd c.mn (fun k hk => by have := hwd k hk; split <;> omega)
      subst hi2
      refine ev_iload_n d_X_hasRoom_69 rfl rfl ?_
      refine ev_if_lt d_X_hasRoom_70 (fun c_70 => ?_) (fun c_70 => ?_)
      ·
        have c_70 : r < 0 := (iI_ltI (b := 0) (by omega) (by omega) (by omega) (by omega)).mp c_70
        refine ev_iconst (v := (nI (0))) d_X_hasRoom_77 (by decide) ?_
        refine ev_ireturn d_X_hasRoom_78 rfl rfl ?_
        subst hQ
        exact ret0 (by simp; omega)
      ·
        have c_70 : ¬ r < 0 := fun q => c_70 ((iI_ltI (b := 0) (by omega) (by omega) (by omega) (by omega)).mpr q)
        refine ev_iconst (v := (nI (1))) d_X_hasRoom_73 (by decide) ?_
        refine ev_goto d_X_hasRoom_74 ?_
        refine ev_ireturn d_X_hasRoom_78 rfl rfl ?_
        subst hQ
        exact ret1 (by simp; omega)
    ·
      simp (disch := omega) only [nI_ltI, nI_leI, nI_eq, Nat.not_lt, Nat.not_le] at c_42
      refine ev_iload_n d_X_hasRoom_45 rfl rfl ?_
      refine ev_iload_n d_X_hasRoom_46 rfl rfl ?_
      refine ev_iload_n d_X_hasRoom_47 rfl rfl ?_
      refine ev_ishr d_X_hasRoom_48 ?_
      refine ev_iconst (v := (nI (1))) d_X_hasRoom_49 (by decide) ?_
      refine ev_iand d_X_hasRoom_50 ?_
      refine ev_topi (w := (b2 (S.testBit i))) (bit_shr S hS i (by omega)) ?_
      refine ev_aload_n d_X_hasRoom_51 rfl rfl ?_
      refine ev_getf (kf := 4) (T := F_X) (C := R_X) (N := 14) (v := .ref (G.1 + 3)) d_X_hasRoom_52 fl_X_19 rfl i_X (by decide) (by omega) x0 rfl ?_
      refine ev_iload_n d_X_hasRoom_55 rfl rfl ?_
      refine ev_aald (j := i) d_X_hasRoom_56 (by omega) x3 (by decide) (by omega) (by decide) ?_
      refine ev_top (w := .ref (G.1 + ik i)) (by rw [if_pos c_42]; rfl) ?_
      refine ev_getN (kf := 0) (T := F_I) (C := R_I) (N := 6) (v := .int (nI (c.wd i))) d_X_hasRoom_57 fl_X_122 rfl i_I (by decide) (xi i c_42).2.1 (xi i c_42).2.2 rfl ?_
      refine ev_imul d_X_hasRoom_60 ?_
      refine ev_topi (w := (nI (if S.testBit i then c.wd i else 0))) (b2_mul _ _) ?_
      refine ev_isub d_X_hasRoom_61 ?_
      refine ev_topi (w := (iI (r - ((if S.testBit i then c.wd i else 0 : Nat) : Int)))) (by rw [nI_iI, iI_sub]) ?_
      refine ev_istore_n (ls' := [_, _, _, _]) d_X_hasRoom_62 rfl (by decide) rfl rfl ?_
      refine ev_iinc (v := (nI (i + 1))) (ls' := [_, _, _, _]) d_X_hasRoom_63 rfl (nI_1 _) (by decide) rfl rfl ?_
      refine ev_goto d_X_hasRoom_66 ?_
      exact ih (i + 1) _ (by omega) (by omega) (by rw [hr]; simp only [ssm, sm]; omega)
theorem lp_X_hasRoom1 (hS : S < 64) (hX : XM G n μ c lx ik tb tl ts lat) (hc : CfOK c) : ∀ (m : Nat) (i : Nat) (r : Nat), i ≤ c.st → c.st < i + m → r = sm (fun j => if 0 ≤ j ∧ c.fr j = false then 1 else 0) i → Ev G k_X_hasRoom (d) 0 0 4 [some (.ref (G.1 + 0)), some (.int (nI (S))), some (.int (nI (r))), some (.int (nI (i)))] [] n μ ((Rd (some (.int (b2 (decide (ssm S c.wd c.mn ≤ nf c 0))))) n μ)) := by
  obtain ⟨hn, x0, x1, x2, x3, x4, x5, x11, x12, x18, x19, xi, xj⟩ := id hX
  obtain ⟨⟨hst1, hst2⟩, hfr, hpn, hpp, hmn, hwd, hnd, hpu, hnr, hbr, hle, hdef⟩ := id hc
  generalize hQ : (Rd (some (.int (b2 (decide (ssm S c.wd c.mn ≤ nf c 0))))) n μ) = Q
  intro m
  induction m with
  | zero =>
    intro i r h1 h2
    exact absurd h2 (by omega)
  | succ m ih =>
    intro i r hi him hr
    refine ev_iload_n d_X_hasRoom_4 rfl rfl ?_
    refine ev_aload_n d_X_hasRoom_5 rfl rfl ?_
    refine ev_getf (kf := 0) (T := F_X) (C := R_X) (N := 14) (v := .int (nI (c.st))) d_X_hasRoom_6 fl_X_50 rfl i_X (by decide) (by omega) x0 rfl ?_
    refine ev_icmp_ge d_X_hasRoom_9 (fun c_9 => ?_) (fun c_9 => ?_)
    ·
      simp (disch := omega) only [nI_ltI, nI_leI, nI_eq, Nat.not_lt, Nat.not_le] at c_9
      refine ev_iconst (v := (nI (0))) d_X_hasRoom_35 (by decide) ?_
      refine ev_istore_n (ls' := [_, _, _, _]) d_X_hasRoom_36 rfl (by decide) rfl rfl ?_
      subst hQ
      have hi2 : i = c.st := by omega
      subst hi2
      have h := lp_X_hasRoom2 (d := d) hS hX hc (c.mn + 1) 0 r (by omega) (by omega) (by rw [hr]; simp [ssm, sm, nf])
      rw [← nI_iI] at h
      exact h
    ·
      simp (disch := omega) only [nI_ltI, nI_leI, nI_eq, Nat.not_lt, Nat.not_le] at c_9
      refine ev_iload_n d_X_hasRoom_12 rfl rfl ?_
      have hJ_27 : ∀ b : Nat, (b = if 0 ≤ i ∧ c.fr i = false then 1 else 0) → Ev G k_X_hasRoom (d) 0 0 27 [some (.ref (G.1 + 0)), some (.int (nI (S))), some (.int (nI (r))), some (.int (nI (i)))] [.int (nI (b)), .int (nI (r))] n μ Q := by
        intro b hJ
        refine ev_iadd d_X_hasRoom_27 ?_
        refine ev_topi (w := (nI (r + b))) (nI_add _ _) ?_
        refine ev_istore_n (ls' := [_, _, _, _]) d_X_hasRoom_28 rfl (by decide) rfl rfl ?_
        refine ev_iinc (v := (nI (i + 1))) (ls' := [_, _, _, _]) d_X_hasRoom_29 rfl (nI_1 _) (by decide) rfl rfl ?_
        refine ev_goto d_X_hasRoom_32 ?_
        exact ih (i + 1) (r + b) (by omega) (by omega) (by rw [hr, hJ]; rfl)
      refine ev_aload_n d_X_hasRoom_13 rfl rfl ?_
      refine ev_getf (kf := 1) (T := F_X) (C := R_X) (N := 14) (v := .ref (G.1 + 1)) d_X_hasRoom_14 fl_X_7 rfl i_X (by decide) (by omega) x0 rfl ?_
      refine ev_iload_n d_X_hasRoom_17 rfl rfl ?_
      refine ev_zald (j := i) d_X_hasRoom_18 (by omega) x1 (by omega) (by decide) ?_
      refine ev_if_eq d_X_hasRoom_19 (fun c_19 => ?_) (fun c_19 => ?_)
      ·
        have c_19 := b2_f c_19
        refine ev_iconst (v := (nI (1))) d_X_hasRoom_26 (by decide) ?_
        exact hJ_27 1 (by rw [c_19]; simp)
      ·
        have c_19 := b2_t c_19
        refine ev_iconst (v := (nI (0))) d_X_hasRoom_22 (by decide) ?_
        refine ev_goto d_X_hasRoom_23 ?_
        exact hJ_27 0 (by rw [c_19]; simp)
theorem ct_X_hasRoom (hS : S < 64) (hX : XM G n μ c lx ik tb tl ts lat) (hc : CfOK c) : Ct G k_X_hasRoom d 0 0 [.ref (G.1 + 0), .int (nI S)] n μ (Rd (some (.int (b2 (decide (ssm S c.wd c.mn ≤ nf c 0))))) n μ) := by
  obtain ⟨hn, x0, x1, x2, x3, x4, x5, x11, x12, x18, x19, xi, xj⟩ := id hX
  obtain ⟨⟨hst1, hst2⟩, hfr, hpn, hpp, hmn, hwd, hnd, hpu, hnr, hbr, hle, hdef⟩ := id hc
  generalize hQ : (Rd (some (.int (b2 (decide (ssm S c.wd c.mn ≤ nf c 0))))) n μ) = Q
  refine Ct.ofp (r := 2) (ls := [some (.ref (G.1 + 0)), some (.int (nI (S))), none, none]) rfl (Nat.le_of_ble_eq_true rfl) ?_
  refine ev_iconst (v := (nI (0))) d_X_hasRoom_0 (by decide) ?_
  refine ev_istore_n (ls' := [_, _, _, none]) d_X_hasRoom_1 rfl (by decide) rfl rfl ?_
  refine ev_iconst (v := (nI (0))) d_X_hasRoom_2 (by decide) ?_
  refine ev_istore_n (ls' := [_, _, _, _]) d_X_hasRoom_3 rfl (by decide) rfl rfl ?_
  subst hQ
  exact lp_X_hasRoom1 hS hX hc (c.st + 1) 0 0 (by omega) (by omega) rfl
theorem lp_X_atMost2 {Q : Oc → Nat → Mem → Prop} (hS : S < 64) (hX : XM G n μ c lx ik tb tl ts lat) (hc : CfOK c) {i x0 : Nat} (hi6 : i < c.mn) (hexit : ∀ y, y = x0 + (if S.testBit i then ssm S (c.nr i) i else 0) → Ev G k_X_atMost d 0 0 77 [some (.ref (G.1 + 0)), some (.int (nI S)), some (.long (lN y)), none, some (.int (nI i)), none] [] n μ Q) : ∀ (m j x : Nat), j ≤ i → i < j + m → x = x0 + (if S.testBit i then ssm S (c.nr i) j else 0) → Ev G k_X_atMost d 0 0 38 [some (.ref (G.1 + 0)), some (.int (nI S)), some (.long (lN x)), none, some (.int (nI i)), some (.int (nI j))] [] n μ Q := by
  obtain ⟨hn, x0, x1, x2, x3, x4, x5, x11, x12, x18, x19, xi, xj⟩ := id hX
  obtain ⟨⟨hst1, hst2⟩, hfr, hpn, hpp, hmn, hwd, hnd, hpu, hnr, hbr, hle, hdef⟩ := id hc
  intro m
  induction m with
  | zero =>
    intro j x h1 h2
    exact absurd h2 (by omega)
  | succ m ih =>
    intro j x hj hjm hx
    refine ev_iload d_X_atMost_38 rfl ?_
    refine ev_iload d_X_atMost_40 rfl ?_
    refine ev_icmp_ge d_X_atMost_42 (fun c_42 => ?_) (fun c_42 => ?_)
    ·
      simp (disch := omega) only [nI_ltI, nI_leI, nI_eq, Nat.not_lt, Nat.not_le] at c_42
      refine Ev.fg [true, true, true, false, true, false] rfl (hexit x ?_)
      rw [hx, show j = i by omega]
    ·
      simp (disch := omega) only [nI_ltI, nI_leI, nI_eq, Nat.not_lt, Nat.not_le] at c_42
      refine ev_lload_n d_X_atMost_45 rfl rfl ?_
      refine ev_iload_n d_X_atMost_46 rfl rfl ?_
      refine ev_iload d_X_atMost_47 rfl ?_
      refine ev_ishr d_X_atMost_49 ?_
      refine ev_iload_n d_X_atMost_50 rfl rfl ?_
      refine ev_iload d_X_atMost_51 rfl ?_
      refine ev_ishr d_X_atMost_53 ?_
      refine ev_iand d_X_atMost_54 ?_
      refine ev_iconst (v := (nI (1))) d_X_atMost_55 (by decide) ?_
      refine ev_iand d_X_atMost_56 ?_
      refine ev_topi (w := (b2 (S.testBit i && S.testBit j))) (bit2_shr S hS i (by omega) j (by omega)) ?_
      refine ev_i2l d_X_atMost_57 ?_
      refine ev_topl (w := (lN (if S.testBit i && S.testBit j then 1 else 0))) (b2_l _) ?_
      refine ev_aload_n d_X_atMost_58 rfl rfl ?_
      refine ev_getf (kf := 6) (T := F_X) (C := R_X) (N := 14) (v := .ref (G.1 + 4)) d_X_atMost_59 fl_X_25 rfl i_X (by decide) (by omega) x0 rfl ?_
      refine ev_iload d_X_atMost_62 rfl ?_
      refine ev_aald (j := i) d_X_atMost_64 (by omega) x4 (by decide) (by omega) (by decide) ?_
      refine ev_top (w := .ref (G.1 + (5 + i))) (row_ref _ 4 (by omega)) ?_
      refine ev_iload d_X_atMost_65 rfl ?_
      refine ev_lald (j := j) d_X_atMost_67 (by omega) (x5 i (by omega)) (by omega) (by decide) ?_
      refine ev_lmul d_X_atMost_68 ?_
      refine ev_topl (w := (lN ((if S.testBit i && S.testBit j then 1 else 0) * (c.nr i j)))) (lN_mul _ _) ?_
      refine ev_ladd d_X_atMost_69 ?_
      refine ev_topl (w := (lN (x + ((if S.testBit i && S.testBit j then 1 else 0) * (c.nr i j))))) (lN_add _ _) ?_
      refine ev_lstore_n (ls' := [_, _, _, none, _, _]) d_X_atMost_70 rfl (by decide) rfl rfl ?_
      refine ev_iinc (v := (nI (j + 1))) (ls' := [_, _, _, none, _, _]) d_X_atMost_71 rfl (nI_1 _) (by decide) rfl rfl ?_
      refine ev_goto d_X_atMost_74 ?_
      refine ih (j + 1) _ (by omega) (by omega) ?_
      rw [hx]
      simp only [ssm, sm]
      cases S.testBit i <;> cases S.testBit j <;> simp <;> omega
theorem lp_X_atMost3 {Q : Oc → Nat → Mem → Prop} {i x : Nat} (h : Ev G k_X_atMost d 0 0 5 [some (.ref (G.1 + 0)), some (.int (nI S)), some (.long (lN x)), none, some (.int (nI (i + 1))), none] [] n μ Q) : Ev G k_X_atMost d 0 0 77 [some (.ref (G.1 + 0)), some (.int (nI S)), some (.long (lN x)), none, some (.int (nI i)), none] [] n μ Q := by
  refine ev_iinc (v := (nI (i + 1))) (ls' := [_, _, _, none, _, none]) d_X_atMost_77 rfl (nI_1 _) (by decide) rfl rfl ?_
  refine ev_goto d_X_atMost_80 ?_
  exact h
theorem lp_X_atMost1 (hS : S < 64) (hX : XM G n μ c lx ik tb tl ts lat) (hc : CfOK c) : ∀ (m : Nat) (i : Nat) (x : Nat), i ≤ c.mn → c.mn < i + m → x = ssm S (amt c S) i → Ev G k_X_atMost (d) 0 0 5 [some (.ref (G.1 + 0)), some (.int (nI (S))), some (.long (lN (x))), none, some (.int (nI (i))), none] [] n μ ((Rd (some (.long (lN (am c S)))) n μ)) := by
  obtain ⟨hn, x0, x1, x2, x3, x4, x5, x11, x12, x18, x19, xi, xj⟩ := id hX
  obtain ⟨⟨hst1, hst2⟩, hfr, hpn, hpp, hmn, hwd, hnd, hpu, hnr, hbr, hle, hdef⟩ := id hc
  generalize hQ : (Rd (some (.long (lN (am c S)))) n μ) = Q
  intro m
  induction m with
  | zero =>
    intro i x h1 h2
    exact absurd h2 (by omega)
  | succ m ih =>
    intro i x hi him hx
    refine ev_iload d_X_atMost_5 rfl ?_
    refine ev_aload_n d_X_atMost_7 rfl rfl ?_
    refine ev_getf (kf := 5) (T := F_X) (C := R_X) (N := 14) (v := .int (nI (c.mn))) d_X_atMost_8 fl_X_81 rfl i_X (by decide) (by omega) x0 rfl ?_
    refine ev_icmp_ge d_X_atMost_11 (fun c_11 => ?_) (fun c_11 => ?_)
    ·
      simp (disch := omega) only [nI_ltI, nI_leI, nI_eq, Nat.not_lt, Nat.not_le] at c_11
      refine ev_lload_n d_X_atMost_83 rfl rfl ?_
      refine ev_lreturn d_X_atMost_84 rfl ?_
      subst hQ
      have hi2 : i = c.mn := by omega
      subst hi2
      rw [hx]; exact ⟨rfl, rfl, rfl⟩
    ·
      simp (disch := omega) only [nI_ltI, nI_leI, nI_eq, Nat.not_lt, Nat.not_le] at c_11
      refine ev_lload_n d_X_atMost_14 rfl rfl ?_
      refine ev_iload_n d_X_atMost_15 rfl rfl ?_
      refine ev_iload d_X_atMost_16 rfl ?_
      refine ev_ishr d_X_atMost_18 ?_
      refine ev_iconst (v := (nI (1))) d_X_atMost_19 (by decide) ?_
      refine ev_iand d_X_atMost_20 ?_
      refine ev_topi (w := (b2 (S.testBit i))) (bit_shr S hS i (by omega)) ?_
      refine ev_i2l d_X_atMost_21 ?_
      refine ev_topl (w := (lN (if S.testBit i then 1 else 0))) (b2_l _) ?_
      refine ev_aload_n d_X_atMost_22 rfl rfl ?_
      refine ev_getf (kf := 4) (T := F_X) (C := R_X) (N := 14) (v := .ref (G.1 + 3)) d_X_atMost_23 fl_X_19 rfl i_X (by decide) (by omega) x0 rfl ?_
      refine ev_iload d_X_atMost_26 rfl ?_
      refine ev_aald (j := i) d_X_atMost_28 (by omega) x3 (by decide) (by omega) (by decide) ?_
      refine ev_top (w := .ref (G.1 + ik i)) (by rw [if_pos c_11]; rfl) ?_
      refine ev_getN (kf := 1) (T := F_I) (C := R_I) (N := 6) (v := .long (lN (c.wo i))) d_X_atMost_29 fl_X_137 rfl i_I (by decide) (xi i c_11).2.1 (xi i c_11).2.2 rfl ?_
      refine ev_lmul d_X_atMost_32 ?_
      refine ev_topl (w := (lN ((if S.testBit i then 1 else 0) * (c.wo i)))) (lN_mul _ _) ?_
      refine ev_ladd d_X_atMost_33 ?_
      refine ev_topl (w := (lN (x + ((if S.testBit i then 1 else 0) * (c.wo i))))) (lN_add _ _) ?_
      refine ev_lstore_n (ls' := [_, _, _, none, _, none]) d_X_atMost_34 rfl (by decide) rfl rfl ?_
      refine ev_iconst (v := (nI (0))) d_X_atMost_35 (by decide) ?_
      refine ev_istore (ls' := [_, _, _, none, _, _]) d_X_atMost_36 (by decide) rfl rfl ?_
      refine lp_X_atMost2 hS hX hc c_11 (fun y hy => ?_) (i + 1) 0 _ (by omega) (by omega) (by simp [ssm, sm]; rfl)
      exact lp_X_atMost3 (ih (i + 1) y (by omega) (by omega) (by rw [hy, hx]; simp only [ssm, sm, amt]; cases S.testBit i <;> simp <;> omega))
theorem ct_X_atMost (hS : S < 64) (hX : XM G n μ c lx ik tb tl ts lat) (hc : CfOK c) : Ct G k_X_atMost d 0 0 [.ref (G.1 + 0), .int (nI S)] n μ (Rd (some (.long (lN (am c S)))) n μ) := by
  obtain ⟨hn, x0, x1, x2, x3, x4, x5, x11, x12, x18, x19, xi, xj⟩ := id hX
  obtain ⟨⟨hst1, hst2⟩, hfr, hpn, hpp, hmn, hwd, hnd, hpu, hnr, hbr, hle, hdef⟩ := id hc
  generalize hQ : (Rd (some (.long (lN (am c S)))) n μ) = Q
  refine Ct.ofp (r := 4) (ls := [some (.ref (G.1 + 0)), some (.int (nI (S))), none, none, none, none]) rfl (Nat.le_of_ble_eq_true rfl) ?_
  refine ev_lconst (v := lN 0) d_X_atMost_0 (by decide) ?_
  refine ev_lstore_n (ls' := [_, _, _, none, none, none]) d_X_atMost_1 rfl (by decide) rfl rfl ?_
  refine ev_iconst (v := (nI (0))) d_X_atMost_2 (by decide) ?_
  refine ev_istore (ls' := [_, _, _, none, _, none]) d_X_atMost_3 (by decide) rfl rfl ?_
  subst hQ
  exact lp_X_atMost1 hS hX hc (c.mn + 1) 0 0 (by omega) (by omega) rfl
end LK
