/-! ===== what a choice brings ===== -/
theorem cX_i {s i u : Nat} (h : i < 6) : cX s i u = ((s * 64 + u) * 7 + i) * 2 + 0 := by unfold cX; rw [if_pos h, if_neg (by omega)]
theorem cX_6 {s u : Nat} : cX s 6 u = ((s * 64 + u) * 7 + 6) * 2 + 0 := by unfold cX; rw [if_neg (by omega), if_neg (by omega)]
theorem cX_7 {s u : Nat} : cX s 7 u = ((s * 64 + u) * 7 + 6) * 2 + 1 := by unfold cX; rw [if_neg (by omega), if_pos rfl]
theorem DBf_7 {c : Cf} {nx : Nat → Nat → Nat → Kv} {s u : Nat} {a : Kv} : ∀ m, DBf c nx s 7 u a m = a
  | 0 => rfl
  | m + 1 => by simp [DBf, DBf_7 m]
/-- the table holds the values nx of the later steps, for the items of S -/
def TbX (c : Cf) (S : Nat) (tb : Nat → Int64) (nx : Nat → Nat → Nat → Kv) (s : Nat) : Prop := ∀ s' b' u', s < s' → s' ≤ c.st → b' ≤ 7 → u' < 64 → (∀ i, u'.testBit i = true → S.testBit i = true) → (b' < 6 → u'.testBit b' = true) → tb (cX s' b' u') = tvk (nx s' b' u')
theorem or_sub {S u i : Nat} (hS : S.testBit i = true) (hu : ∀ j, u.testBit j = true → S.testBit j = true) : ∀ j, (u ||| 2 ^ i).testBit j = true → S.testBit j = true := by
  intro j h
  rw [Nat.testBit_or, Bool.or_eq_true] at h
  rcases h with h | h
  · exact hu j h
  · rw [Nat.testBit_two_pow] at h
    have : i = j := by simpa using h
    rw [← this]; exact hS
theorem or_has (u i : Nat) : (u ||| 2 ^ i).testBit i = true := by rw [Nat.testBit_or, Nat.testBit_two_pow_self]; simp
section MA
variable {G : Gm} {d n : Nat} {μ : Mem} {c : Cf} {lx : Nat} {ik : Nat → Nat} {tb : Nat → Int64} {tl : Nat} {ts : Nat → Int32} {lat : Value}
theorem ct_X_mayT {i s u b S : Nat} (hi : i < c.mn) (hs : s ≤ c.st) (hu : u < 64) (hS : S < 64) (hb : b < 6) (hX : XM G n μ c lx ik tb tl ts lat) (hc : CfOK c) : Ct G k_X_may (d + 2) 0 0 [.ref (G.1 + 0), .int (nI i), .int (nI s), .int (nI u), .int (nI (b)), .int (nI S)] n μ (Rd (some (.int (b2 (okI c S.testBit s b u i)))) n μ) := by
  obtain ⟨hn, x0, x1, x2, x3, x4, x5, x11, x12, x18, x19, xi, xj⟩ := id hX
  obtain ⟨⟨hst1, hst2⟩, hfr, hpn, hpp, hmn, hwd, hnd, hpu, hnr, hbr, hle, hdef⟩ := id hc
  have hwi := hwd i hi
  have hi6 : i < 6 := by omega
  have hqb := hbr b i
  generalize hQ : (Rd (some (.int (b2 (okI c S.testBit s b u i)))) n μ) = Q
  refine Ct.ofp (r := 0) (ls := [some (.ref (G.1 + 0)), some (.int (nI (i))), some (.int (nI (s))), some (.int (nI (u))), some (.int (nI (b))), some (.int (nI (S)))]) rfl (Nat.le_of_ble_eq_true rfl) ?_
  refine ev_iload d_X_may_0 rfl ?_
  refine ev_iload_n d_X_may_2 rfl rfl ?_
  refine ev_ishr d_X_may_3 ?_
  refine ev_iconst (v := (nI (1))) d_X_may_4 (by decide) ?_
  refine ev_iand d_X_may_5 ?_
  refine ev_topi (w := (b2 (S.testBit i))) (bit_shr S hS i hi6) ?_
  refine ev_iconst (v := (nI (1))) d_X_may_6 (by decide) ?_
  refine ev_icmp_ne d_X_may_7 (fun c_7 => ?_) (fun c_7 => ?_)
  ·
    have c_7 := b2_not1 c_7
    refine ev_iconst (v := (nI (0))) d_X_may_71 (by decide) ?_
    refine ev_ireturn d_X_may_72 rfl rfl ?_
    subst hQ
    exact ret0 (by simp [okI, hqb, hb, show ¬ 6 ≤ b ∨ 6 ≤ b by omega, c_7])
  ·
    have c_7 := b2_is1 c_7
    refine ev_iload_n d_X_may_10 rfl rfl ?_
    refine ev_iload_n d_X_may_11 rfl rfl ?_
    refine ev_ishr d_X_may_12 ?_
    refine ev_iconst (v := (nI (1))) d_X_may_13 (by decide) ?_
    refine ev_iand d_X_may_14 ?_
    refine ev_topi (w := (b2 (u.testBit i))) (bit_shr u hu i hi6) ?_
    refine ev_if_ne d_X_may_15 (fun c_15 => ?_) (fun c_15 => ?_)
    ·
      have c_15 := b2_t c_15
      refine ev_iconst (v := (nI (0))) d_X_may_71 (by decide) ?_
      refine ev_ireturn d_X_may_72 rfl rfl ?_
      subst hQ
      exact ret0 (by simp [okI, hqb, hb, show ¬ 6 ≤ b ∨ 6 ≤ b by omega, c_7, c_15])
    ·
      have c_15 := b2_f c_15
      refine ev_aload_n d_X_may_18 rfl rfl ?_
      refine ev_iload_n d_X_may_19 rfl rfl ?_
      refine ev_aload_n d_X_may_20 rfl rfl ?_
      refine ev_getf (kf := 4) (T := F_X) (C := R_X) (N := 14) (v := .ref (G.1 + 3)) d_X_may_21 fl_X_19 rfl i_X (by decide) (by omega) x0 rfl ?_
      refine ev_iload_n d_X_may_24 rfl rfl ?_
      refine ev_aald (j := i) d_X_may_25 (by omega) x3 (by decide) (by omega) (by decide) ?_
      refine ev_top (w := .ref (G.1 + ik i)) (by rw [if_pos hi]; rfl) ?_
      refine ev_getN (kf := 0) (T := F_I) (C := R_I) (N := 6) (v := .int (nI (c.wd i))) d_X_may_26 fl_X_122 rfl i_I (by decide) (xi i hi).2.1 (xi i hi).2.2 rfl ?_
      refine cv (k' := k_X_isOpen) (As := [.int (nI (s)), .int (nI (c.wd i))]) (stk := []) d_X_may_29 ml_X_125 kk_X_isOpen rfl rfl (Nat.le_of_ble_eq_true rfl) (by omega) x0 rfl rfl (ct_X_isOpen (d := d + 1) (by omega) (by omega) hX hc) (rd ?_)
      refine ev_if_eq d_X_may_32 (fun c_32 => ?_) (fun c_32 => ?_)
      ·
        have c_32 := b2_f c_32
        refine ev_iconst (v := (nI (0))) d_X_may_71 (by decide) ?_
        refine ev_ireturn d_X_may_72 rfl rfl ?_
        subst hQ
        exact ret0 (by simp [okI, hqb, hb, show ¬ 6 ≤ b ∨ 6 ≤ b by omega, c_7, c_15, c_32])
      ·
        have c_32 := b2_t c_32
        refine ev_aload_n d_X_may_35 rfl rfl ?_
        refine ev_aload_n d_X_may_36 rfl rfl ?_
        refine ev_getf (kf := 4) (T := F_X) (C := R_X) (N := 14) (v := .ref (G.1 + 3)) d_X_may_37 fl_X_19 rfl i_X (by decide) (by omega) x0 rfl ?_
        refine ev_iload_n d_X_may_40 rfl rfl ?_
        refine ev_aald (j := i) d_X_may_41 (by omega) x3 (by decide) (by omega) (by decide) ?_
        refine ev_top (w := .ref (G.1 + ik i)) (by rw [if_pos hi]; rfl) ?_
        refine ev_iload_n d_X_may_42 rfl rfl ?_
        refine ev_topi (nI_iI s) ?_
        refine cv (k' := k_X_isMet) (As := [.ref (G.1 + ik i), .int (iI ((s : Int)))]) (stk := []) d_X_may_43 ml_X_129 kk_X_isMet rfl rfl (Nat.le_of_ble_eq_true rfl) (by omega) x0 rfl rfl (ct_X_isMet (d := d) (k := i) (f := (s : Int)) hi (by omega) (by omega) hX hc) (rd ?_)
        refine ev_if_eq d_X_may_46 (fun c_46 => ?_) (fun c_46 => ?_)
        ·
          have c_46 := b2_f c_46
          refine ev_iconst (v := (nI (0))) d_X_may_71 (by decide) ?_
          refine ev_ireturn d_X_may_72 rfl rfl ?_
          subst hQ
          exact ret0 (by simp [okI, hqb, hb, show ¬ 6 ≤ b ∨ 6 ≤ b by omega, c_7, c_15, c_32, c_46])
        ·
          have c_46 := b2_t c_46
          refine ev_iload d_X_may_49 rfl ?_
          refine ev_iconst (v := (iI ((-1)))) d_X_may_51 (by decide) ?_
          refine ev_icmp_eq d_X_may_52 (fun c_52 => ?_) (fun c_52 => ?_)
          ·
            simp (disch := omega) only [nI_iI, iI_ltI, iI_leI, iI_eq, Int.not_lt, Int.not_le] at c_52
            omega
          ·
            simp (disch := omega) only [nI_iI, iI_ltI, iI_leI, iI_eq, Int.not_lt, Int.not_le] at c_52
            refine ev_aload_n d_X_may_55 rfl rfl ?_
            refine ev_getf (kf := 7) (T := F_X) (C := R_X) (N := 14) (v := .ref (G.1 + 11)) d_X_may_56 fl_X_30 rfl i_X (by decide) (by omega) x0 rfl ?_
            refine ev_iload_n d_X_may_59 rfl rfl ?_
            refine ev_aald (j := i) d_X_may_60 (by omega) x11 (by decide) (by omega) (by decide) ?_
            refine ev_top (w := .ref (G.1 + (12 + i))) (row_ref _ 11 (by omega)) ?_
            refine ev_iload d_X_may_61 rfl ?_
            refine ev_zald (j := b) d_X_may_63 (by omega) (x12 i (by omega)) (by omega) (by decide) ?_
            refine ev_if_ne d_X_may_64 (fun c_64 => ?_) (fun c_64 => ?_)
            ·
              have c_64 := b2_t c_64
              refine ev_iconst (v := (nI (0))) d_X_may_71 (by decide) ?_
              refine ev_ireturn d_X_may_72 rfl rfl ?_
              subst hQ
              exact ret0 (by simp [okI, hqb, hb, show ¬ 6 ≤ b ∨ 6 ≤ b by omega, c_7, c_15, c_32, c_46, c_64])
            ·
              have c_64 := b2_f c_64
              refine ev_iconst (v := (nI (1))) d_X_may_67 (by decide) ?_
              refine ev_goto d_X_may_68 ?_
              refine ev_ireturn d_X_may_72 rfl rfl ?_
              subst hQ
              exact ret1 (by simp [okI, hqb, hb, show ¬ 6 ≤ b ∨ 6 ≤ b by omega, c_7, c_15, c_32, c_46, c_64])
theorem ct_X_withItemT_none {i s u b : Nat} (hi : i < c.mn) (hs : s + c.wd i ≤ c.st) (hu : u < 64) (hb : b < 6) (hX : XM G n μ c lx ik tb tl ts lat) (hc : CfOK c) (ht : tb (cX (s + c.wd i) i (u ||| 2 ^ i)) = tvk (none)) : Ct G k_X_withItem (d + 1) 0 0 [.ref (G.1 + 0), .int (nI i), .int (nI s), .int (nI u), .int (nI (b))] n μ (Rd (some (.long (tvk (kadd (none) (c.wo i + nbW c b i) (c.ce i))))) n μ) := by
  obtain ⟨hn, x0, x1, x2, x3, x4, x5, x11, x12, x18, x19, xi, xj⟩ := id hX
  obtain ⟨⟨hst1, hst2⟩, hfr, hpn, hpp, hmn, hwd, hnd, hpu, hnr, hbr, hle, hdef⟩ := id hc
  have hwi := hwd i hi
  have hi6 : i < 6 := by omega
  have hqb := (hnr b i).2
  have hor := or_lt u hu i hi6
  rw [cX_i hi6] at ht
  generalize hQ : (Rd (some (.long (tvk (kadd (none) (c.wo i + nbW c b i) (c.ce i))))) n μ) = Q
  refine Ct.ofp (r := 2) (ls := [some (.ref (G.1 + 0)), some (.int (nI (i))), some (.int (nI (s))), some (.int (nI (u))), some (.int (nI (b))), none, none]) rfl (Nat.le_of_ble_eq_true rfl) ?_
  refine ev_aload_n d_X_withItem_0 rfl rfl ?_
  refine ev_getf (kf := 10) (T := F_X) (C := R_X) (N := 14) (v := .ref (G.1 + 18)) d_X_withItem_1 fl_X_34 rfl i_X (by decide) (by omega) x0 rfl ?_
  refine ev_iload_n d_X_withItem_4 rfl rfl ?_
  refine ev_aload_n d_X_withItem_5 rfl rfl ?_
  refine ev_getf (kf := 4) (T := F_X) (C := R_X) (N := 14) (v := .ref (G.1 + 3)) d_X_withItem_6 fl_X_19 rfl i_X (by decide) (by omega) x0 rfl ?_
  refine ev_iload_n d_X_withItem_9 rfl rfl ?_
  refine ev_aald (j := i) d_X_withItem_10 (by omega) x3 (by decide) (by omega) (by decide) ?_
  refine ev_top (w := .ref (G.1 + ik i)) (by rw [if_pos hi]; rfl) ?_
  refine ev_getN (kf := 0) (T := F_I) (C := R_I) (N := 6) (v := .int (nI (c.wd i))) d_X_withItem_11 fl_X_122 rfl i_I (by decide) (xi i hi).2.1 (xi i hi).2.2 rfl ?_
  refine ev_iadd d_X_withItem_14 ?_
  refine ev_topi (w := (nI (s + (c.wd i)))) (nI_add _ _) ?_
  refine ev_iload_n d_X_withItem_15 rfl rfl ?_
  refine ev_iconst (v := (nI (1))) d_X_withItem_16 (by decide) ?_
  refine ev_iload_n d_X_withItem_17 rfl rfl ?_
  refine ev_ishl d_X_withItem_18 ?_
  refine ev_ior d_X_withItem_19 ?_
  refine ev_topi (w := (nI (u ||| 2 ^ i))) (bit_or u hu i hi6) ?_
  refine ev_iload_n d_X_withItem_20 rfl rfl ?_
  refine ev_iconst (v := (nI (0))) d_X_withItem_21 (by decide) ?_
  refine cs (k' := k_X_cell) (As := [.int (nI (s + (c.wd i))), .int (nI (u ||| 2 ^ i)), .int (nI (i)), .int (nI (0))]) (stk := [.ref (G.1 + 18)]) d_X_withItem_22 ml_X_133 kk_X_cell rfl rfl (Nat.le_of_ble_eq_true rfl) (ct_X_cell (d := d) (s + c.wd i) (u ||| 2 ^ i) i 0) (rd ?_)
  refine ev_lald (j := ((((s + c.wd i) * 64 + (u ||| 2 ^ i)) * 7 + i) * 2 + 0)) d_X_withItem_25 (by omega) x18 (by omega) (by decide) ?_
  refine ev_topl ht ?_
  refine ev_lstore (ls' := [_, _, _, _, _, _, none]) d_X_withItem_26 (by decide) rfl rfl ?_
  refine ev_lload d_X_withItem_28 rfl ?_
  refine ev_ldc2 (v := (-1)) d_X_withItem_30 ck_X_101 ?_
  refine ev_lcmp d_X_withItem_33 ?_
  refine ev_if_ne d_X_withItem_34 (fun c_34 => ?_) (fun c_34 => ?_)
  ·
    simp only [lc_ne] at c_34
    exact absurd rfl c_34
  ·
    simp only [lc_ne] at c_34
    refine ev_ldc2 (v := (-1)) d_X_withItem_37 ck_X_101 ?_
    refine ev_goto d_X_withItem_40 ?_
    refine ev_lreturn d_X_withItem_75 rfl ?_
    subst hQ
    exact ⟨rfl, rfl, rfl⟩
theorem ct_X_withItemT_some {i s u b : Nat} {p : Nat × Nat} (hp : p.1 ≤ 8000000) (hi : i < c.mn) (hs : s + c.wd i ≤ c.st) (hu : u < 64) (hb : b < 6) (hX : XM G n μ c lx ik tb tl ts lat) (hc : CfOK c) (ht : tb (cX (s + c.wd i) i (u ||| 2 ^ i)) = tvk (some p)) : Ct G k_X_withItem (d + 1) 0 0 [.ref (G.1 + 0), .int (nI i), .int (nI s), .int (nI u), .int (nI (b))] n μ (Rd (some (.long (tvk (kadd (some p) (c.wo i + nbW c b i) (c.ce i))))) n μ) := by
  obtain ⟨hn, x0, x1, x2, x3, x4, x5, x11, x12, x18, x19, xi, xj⟩ := id hX
  obtain ⟨⟨hst1, hst2⟩, hfr, hpn, hpp, hmn, hwd, hnd, hpu, hnr, hbr, hle, hdef⟩ := id hc
  have hwi := hwd i hi
  have hi6 : i < 6 := by omega
  have hqb := (hnr b i).2
  have hor := or_lt u hu i hi6
  rw [cX_i hi6] at ht
  generalize hQ : (Rd (some (.long (tvk (kadd (some p) (c.wo i + nbW c b i) (c.ce i))))) n μ) = Q
  refine Ct.ofp (r := 2) (ls := [some (.ref (G.1 + 0)), some (.int (nI (i))), some (.int (nI (s))), some (.int (nI (u))), some (.int (nI (b))), none, none]) rfl (Nat.le_of_ble_eq_true rfl) ?_
  refine ev_aload_n d_X_withItem_0 rfl rfl ?_
  refine ev_getf (kf := 10) (T := F_X) (C := R_X) (N := 14) (v := .ref (G.1 + 18)) d_X_withItem_1 fl_X_34 rfl i_X (by decide) (by omega) x0 rfl ?_
  refine ev_iload_n d_X_withItem_4 rfl rfl ?_
  refine ev_aload_n d_X_withItem_5 rfl rfl ?_
  refine ev_getf (kf := 4) (T := F_X) (C := R_X) (N := 14) (v := .ref (G.1 + 3)) d_X_withItem_6 fl_X_19 rfl i_X (by decide) (by omega) x0 rfl ?_
  refine ev_iload_n d_X_withItem_9 rfl rfl ?_
  refine ev_aald (j := i) d_X_withItem_10 (by omega) x3 (by decide) (by omega) (by decide) ?_
  refine ev_top (w := .ref (G.1 + ik i)) (by rw [if_pos hi]; rfl) ?_
  refine ev_getN (kf := 0) (T := F_I) (C := R_I) (N := 6) (v := .int (nI (c.wd i))) d_X_withItem_11 fl_X_122 rfl i_I (by decide) (xi i hi).2.1 (xi i hi).2.2 rfl ?_
  refine ev_iadd d_X_withItem_14 ?_
  refine ev_topi (w := (nI (s + (c.wd i)))) (nI_add _ _) ?_
  refine ev_iload_n d_X_withItem_15 rfl rfl ?_
  refine ev_iconst (v := (nI (1))) d_X_withItem_16 (by decide) ?_
  refine ev_iload_n d_X_withItem_17 rfl rfl ?_
  refine ev_ishl d_X_withItem_18 ?_
  refine ev_ior d_X_withItem_19 ?_
  refine ev_topi (w := (nI (u ||| 2 ^ i))) (bit_or u hu i hi6) ?_
  refine ev_iload_n d_X_withItem_20 rfl rfl ?_
  refine ev_iconst (v := (nI (0))) d_X_withItem_21 (by decide) ?_
  refine cs (k' := k_X_cell) (As := [.int (nI (s + (c.wd i))), .int (nI (u ||| 2 ^ i)), .int (nI (i)), .int (nI (0))]) (stk := [.ref (G.1 + 18)]) d_X_withItem_22 ml_X_133 kk_X_cell rfl rfl (Nat.le_of_ble_eq_true rfl) (ct_X_cell (d := d) (s + c.wd i) (u ||| 2 ^ i) i 0) (rd ?_)
  refine ev_lald (j := ((((s + c.wd i) * 64 + (u ||| 2 ^ i)) * 7 + i) * 2 + 0)) d_X_withItem_25 (by omega) x18 (by omega) (by decide) ?_
  refine ev_topl ht ?_
  refine ev_topl (w := lN p.1) rfl ?_
  refine ev_lstore (ls' := [_, _, _, _, _, _, none]) d_X_withItem_26 (by decide) rfl rfl ?_
  refine ev_lload d_X_withItem_28 rfl ?_
  refine ev_ldc2 (v := (-1)) d_X_withItem_30 ck_X_101 ?_
  refine ev_lcmp d_X_withItem_33 ?_
  refine ev_if_ne d_X_withItem_34 (fun c_34 => ?_) (fun c_34 => ?_)
  ·
    simp only [lc_ne] at c_34
    refine ev_lload d_X_withItem_43 rfl ?_
    refine ev_aload_n d_X_withItem_45 rfl rfl ?_
    refine ev_getf (kf := 4) (T := F_X) (C := R_X) (N := 14) (v := .ref (G.1 + 3)) d_X_withItem_46 fl_X_19 rfl i_X (by decide) (by omega) x0 rfl ?_
    refine ev_iload_n d_X_withItem_49 rfl rfl ?_
    refine ev_aald (j := i) d_X_withItem_50 (by omega) x3 (by decide) (by omega) (by decide) ?_
    refine ev_top (w := .ref (G.1 + ik i)) (by rw [if_pos hi]; rfl) ?_
    refine ev_getN (kf := 1) (T := F_I) (C := R_I) (N := 6) (v := .long (lN (c.wo i))) d_X_withItem_51 fl_X_137 rfl i_I (by decide) (xi i hi).2.1 (xi i hi).2.2 rfl ?_
    refine ev_ladd d_X_withItem_54 ?_
    refine ev_topl (w := (lN (p.1 + (c.wo i)))) (lN_add _ _) ?_
    refine ev_iload d_X_withItem_55 rfl ?_
    refine ev_iconst (v := (iI ((-1)))) d_X_withItem_57 (by decide) ?_
    refine ev_icmp_ne d_X_withItem_58 (fun c_58 => ?_) (fun c_58 => ?_)
    ·
      simp (disch := omega) only [nI_iI, iI_eq] at c_58
      refine ev_aload_n d_X_withItem_65 rfl rfl ?_
      refine ev_getf (kf := 6) (T := F_X) (C := R_X) (N := 14) (v := .ref (G.1 + 4)) d_X_withItem_66 fl_X_25 rfl i_X (by decide) (by omega) x0 rfl ?_
      refine ev_iload_n d_X_withItem_69 rfl rfl ?_
      refine ev_aald (j := i) d_X_withItem_70 (by omega) x4 (by decide) (by omega) (by decide) ?_
      refine ev_top (w := .ref (G.1 + (5 + i))) (row_ref _ 4 (by omega)) ?_
      refine ev_iload d_X_withItem_71 rfl ?_
      refine ev_lald (j := b) d_X_withItem_73 (by omega) (x5 i (by omega)) (by omega) (by decide) ?_
      refine ev_ladd d_X_withItem_74 ?_
      refine ev_topl (w := (lN ((p.1 + (c.wo i)) + (c.nr i b)))) (lN_add _ _) ?_
      refine ev_lreturn d_X_withItem_75 rfl ?_
      subst hQ
      refine ⟨?_, rfl, rfl⟩
      show Sum.inl (some (Value.long _)) = Sum.inl (some (Value.long (lN (p.1 + (c.wo i + nbW c b i)))))
      rw [show nbW c b i = c.nr i b by unfold nbW; rw [if_pos hb, hqb]]
      rw [Nat.add_assoc]
    ·
      simp (disch := omega) only [nI_iI, iI_eq] at c_58
      omega
  ·
    simp only [lc_ne] at c_34
    exact absurd ((tv_none (o := some p) (fun q hq => by cases hq; exact hp)).mp c_34) (by simp)
theorem ct_X_withItemT {i s u b : Nat} {o : Kv} (ho : ∀ p, o = some p → p.1 ≤ 8000000) (hi : i < c.mn) (hs : s + c.wd i ≤ c.st) (hu : u < 64) (hb : b < 6) (hX : XM G n μ c lx ik tb tl ts lat) (hc : CfOK c) (ht : tb (cX (s + c.wd i) i (u ||| 2 ^ i)) = tvk o) : Ct G k_X_withItem (d + 1) 0 0 [.ref (G.1 + 0), .int (nI i), .int (nI s), .int (nI u), .int (nI (b))] n μ (Rd (some (.long (tvk (kadd o (c.wo i + nbW c b i) (c.ce i))))) n μ) := by
  cases o with
  | none => exact ct_X_withItemT_none hi hs hu hb hX hc ht
  | some p => exact ct_X_withItemT_some (ho p rfl) hi hs hu hb hX hc ht
theorem ct_X_mayN {i s u b S : Nat} (hi : i < c.mn) (hs : s ≤ c.st) (hu : u < 64) (hS : S < 64) (hb : 6 ≤ b) (hX : XM G n μ c lx ik tb tl ts lat) (hc : CfOK c) : Ct G k_X_may (d + 2) 0 0 [.ref (G.1 + 0), .int (nI i), .int (nI s), .int (nI u), .int (iI ((-1))), .int (nI S)] n μ (Rd (some (.int (b2 (okI c S.testBit s b u i)))) n μ) := by
  obtain ⟨hn, x0, x1, x2, x3, x4, x5, x11, x12, x18, x19, xi, xj⟩ := id hX
  obtain ⟨⟨hst1, hst2⟩, hfr, hpn, hpp, hmn, hwd, hnd, hpu, hnr, hbr, hle, hdef⟩ := id hc
  have hwi := hwd i hi
  have hi6 : i < 6 := by omega
  have hqb := hbr b i
  generalize hQ : (Rd (some (.int (b2 (okI c S.testBit s b u i)))) n μ) = Q
  refine Ct.ofp (r := 0) (ls := [some (.ref (G.1 + 0)), some (.int (nI (i))), some (.int (nI (s))), some (.int (nI (u))), some (.int (iI ((-1)))), some (.int (nI (S)))]) rfl (Nat.le_of_ble_eq_true rfl) ?_
  refine ev_iload d_X_may_0 rfl ?_
  refine ev_iload_n d_X_may_2 rfl rfl ?_
  refine ev_ishr d_X_may_3 ?_
  refine ev_iconst (v := (nI (1))) d_X_may_4 (by decide) ?_
  refine ev_iand d_X_may_5 ?_
  refine ev_topi (w := (b2 (S.testBit i))) (bit_shr S hS i hi6) ?_
  refine ev_iconst (v := (nI (1))) d_X_may_6 (by decide) ?_
  refine ev_icmp_ne d_X_may_7 (fun c_7 => ?_) (fun c_7 => ?_)
  ·
    have c_7 := b2_not1 c_7
    refine ev_iconst (v := (nI (0))) d_X_may_71 (by decide) ?_
    refine ev_ireturn d_X_may_72 rfl rfl ?_
    subst hQ
    exact ret0 (by simp [okI, hqb, hb, show ¬ 6 ≤ b ∨ 6 ≤ b by omega, c_7])
  ·
    have c_7 := b2_is1 c_7
    refine ev_iload_n d_X_may_10 rfl rfl ?_
    refine ev_iload_n d_X_may_11 rfl rfl ?_
    refine ev_ishr d_X_may_12 ?_
    refine ev_iconst (v := (nI (1))) d_X_may_13 (by decide) ?_
    refine ev_iand d_X_may_14 ?_
    refine ev_topi (w := (b2 (u.testBit i))) (bit_shr u hu i hi6) ?_
    refine ev_if_ne d_X_may_15 (fun c_15 => ?_) (fun c_15 => ?_)
    ·
      have c_15 := b2_t c_15
      refine ev_iconst (v := (nI (0))) d_X_may_71 (by decide) ?_
      refine ev_ireturn d_X_may_72 rfl rfl ?_
      subst hQ
      exact ret0 (by simp [okI, hqb, hb, show ¬ 6 ≤ b ∨ 6 ≤ b by omega, c_7, c_15])
    ·
      have c_15 := b2_f c_15
      refine ev_aload_n d_X_may_18 rfl rfl ?_
      refine ev_iload_n d_X_may_19 rfl rfl ?_
      refine ev_aload_n d_X_may_20 rfl rfl ?_
      refine ev_getf (kf := 4) (T := F_X) (C := R_X) (N := 14) (v := .ref (G.1 + 3)) d_X_may_21 fl_X_19 rfl i_X (by decide) (by omega) x0 rfl ?_
      refine ev_iload_n d_X_may_24 rfl rfl ?_
      refine ev_aald (j := i) d_X_may_25 (by omega) x3 (by decide) (by omega) (by decide) ?_
      refine ev_top (w := .ref (G.1 + ik i)) (by rw [if_pos hi]; rfl) ?_
      refine ev_getN (kf := 0) (T := F_I) (C := R_I) (N := 6) (v := .int (nI (c.wd i))) d_X_may_26 fl_X_122 rfl i_I (by decide) (xi i hi).2.1 (xi i hi).2.2 rfl ?_
      refine cv (k' := k_X_isOpen) (As := [.int (nI (s)), .int (nI (c.wd i))]) (stk := []) d_X_may_29 ml_X_125 kk_X_isOpen rfl rfl (Nat.le_of_ble_eq_true rfl) (by omega) x0 rfl rfl (ct_X_isOpen (d := d + 1) (by omega) (by omega) hX hc) (rd ?_)
      refine ev_if_eq d_X_may_32 (fun c_32 => ?_) (fun c_32 => ?_)
      ·
        have c_32 := b2_f c_32
        refine ev_iconst (v := (nI (0))) d_X_may_71 (by decide) ?_
        refine ev_ireturn d_X_may_72 rfl rfl ?_
        subst hQ
        exact ret0 (by simp [okI, hqb, hb, show ¬ 6 ≤ b ∨ 6 ≤ b by omega, c_7, c_15, c_32])
      ·
        have c_32 := b2_t c_32
        refine ev_aload_n d_X_may_35 rfl rfl ?_
        refine ev_aload_n d_X_may_36 rfl rfl ?_
        refine ev_getf (kf := 4) (T := F_X) (C := R_X) (N := 14) (v := .ref (G.1 + 3)) d_X_may_37 fl_X_19 rfl i_X (by decide) (by omega) x0 rfl ?_
        refine ev_iload_n d_X_may_40 rfl rfl ?_
        refine ev_aald (j := i) d_X_may_41 (by omega) x3 (by decide) (by omega) (by decide) ?_
        refine ev_top (w := .ref (G.1 + ik i)) (by rw [if_pos hi]; rfl) ?_
        refine ev_iload_n d_X_may_42 rfl rfl ?_
        refine ev_topi (nI_iI s) ?_
        refine cv (k' := k_X_isMet) (As := [.ref (G.1 + ik i), .int (iI ((s : Int)))]) (stk := []) d_X_may_43 ml_X_129 kk_X_isMet rfl rfl (Nat.le_of_ble_eq_true rfl) (by omega) x0 rfl rfl (ct_X_isMet (d := d) (k := i) (f := (s : Int)) hi (by omega) (by omega) hX hc) (rd ?_)
        refine ev_if_eq d_X_may_46 (fun c_46 => ?_) (fun c_46 => ?_)
        ·
          have c_46 := b2_f c_46
          refine ev_iconst (v := (nI (0))) d_X_may_71 (by decide) ?_
          refine ev_ireturn d_X_may_72 rfl rfl ?_
          subst hQ
          exact ret0 (by simp [okI, hqb, hb, show ¬ 6 ≤ b ∨ 6 ≤ b by omega, c_7, c_15, c_32, c_46])
        ·
          have c_46 := b2_t c_46
          refine ev_iload d_X_may_49 rfl ?_
          refine ev_iconst (v := (iI ((-1)))) d_X_may_51 (by decide) ?_
          refine ev_icmp_eq d_X_may_52 (fun c_52 => ?_) (fun c_52 => ?_)
          ·
            simp (disch := omega) only [nI_iI, iI_ltI, iI_leI, iI_eq, Int.not_lt, Int.not_le] at c_52
            refine ev_iconst (v := (nI (1))) d_X_may_67 (by decide) ?_
            refine ev_goto d_X_may_68 ?_
            refine ev_ireturn d_X_may_72 rfl rfl ?_
            subst hQ
            exact ret1 (by simp [okI, hqb, hb, show ¬ 6 ≤ b ∨ 6 ≤ b by omega, c_7, c_15, c_32, c_46])
          ·
            simp (disch := omega) only [nI_iI, iI_ltI, iI_leI, iI_eq, Int.not_lt, Int.not_le] at c_52
            exact absurd trivial c_52
theorem ct_X_withItemN_none {i s u b : Nat} (hi : i < c.mn) (hs : s + c.wd i ≤ c.st) (hu : u < 64) (hb : 6 ≤ b) (hX : XM G n μ c lx ik tb tl ts lat) (hc : CfOK c) (ht : tb (cX (s + c.wd i) i (u ||| 2 ^ i)) = tvk (none)) : Ct G k_X_withItem (d + 1) 0 0 [.ref (G.1 + 0), .int (nI i), .int (nI s), .int (nI u), .int (iI ((-1)))] n μ (Rd (some (.long (tvk (kadd (none) (c.wo i + nbW c b i) (c.ce i))))) n μ) := by
  obtain ⟨hn, x0, x1, x2, x3, x4, x5, x11, x12, x18, x19, xi, xj⟩ := id hX
  obtain ⟨⟨hst1, hst2⟩, hfr, hpn, hpp, hmn, hwd, hnd, hpu, hnr, hbr, hle, hdef⟩ := id hc
  have hwi := hwd i hi
  have hi6 : i < 6 := by omega
  have hqb := (hnr b i).2
  have hor := or_lt u hu i hi6
  rw [cX_i hi6] at ht
  generalize hQ : (Rd (some (.long (tvk (kadd (none) (c.wo i + nbW c b i) (c.ce i))))) n μ) = Q
  refine Ct.ofp (r := 2) (ls := [some (.ref (G.1 + 0)), some (.int (nI (i))), some (.int (nI (s))), some (.int (nI (u))), some (.int (iI ((-1)))), none, none]) rfl (Nat.le_of_ble_eq_true rfl) ?_
  refine ev_aload_n d_X_withItem_0 rfl rfl ?_
  refine ev_getf (kf := 10) (T := F_X) (C := R_X) (N := 14) (v := .ref (G.1 + 18)) d_X_withItem_1 fl_X_34 rfl i_X (by decide) (by omega) x0 rfl ?_
  refine ev_iload_n d_X_withItem_4 rfl rfl ?_
  refine ev_aload_n d_X_withItem_5 rfl rfl ?_
  refine ev_getf (kf := 4) (T := F_X) (C := R_X) (N := 14) (v := .ref (G.1 + 3)) d_X_withItem_6 fl_X_19 rfl i_X (by decide) (by omega) x0 rfl ?_
  refine ev_iload_n d_X_withItem_9 rfl rfl ?_
  refine ev_aald (j := i) d_X_withItem_10 (by omega) x3 (by decide) (by omega) (by decide) ?_
  refine ev_top (w := .ref (G.1 + ik i)) (by rw [if_pos hi]; rfl) ?_
  refine ev_getN (kf := 0) (T := F_I) (C := R_I) (N := 6) (v := .int (nI (c.wd i))) d_X_withItem_11 fl_X_122 rfl i_I (by decide) (xi i hi).2.1 (xi i hi).2.2 rfl ?_
  refine ev_iadd d_X_withItem_14 ?_
  refine ev_topi (w := (nI (s + (c.wd i)))) (nI_add _ _) ?_
  refine ev_iload_n d_X_withItem_15 rfl rfl ?_
  refine ev_iconst (v := (nI (1))) d_X_withItem_16 (by decide) ?_
  refine ev_iload_n d_X_withItem_17 rfl rfl ?_
  refine ev_ishl d_X_withItem_18 ?_
  refine ev_ior d_X_withItem_19 ?_
  refine ev_topi (w := (nI (u ||| 2 ^ i))) (bit_or u hu i hi6) ?_
  refine ev_iload_n d_X_withItem_20 rfl rfl ?_
  refine ev_iconst (v := (nI (0))) d_X_withItem_21 (by decide) ?_
  refine cs (k' := k_X_cell) (As := [.int (nI (s + (c.wd i))), .int (nI (u ||| 2 ^ i)), .int (nI (i)), .int (nI (0))]) (stk := [.ref (G.1 + 18)]) d_X_withItem_22 ml_X_133 kk_X_cell rfl rfl (Nat.le_of_ble_eq_true rfl) (ct_X_cell (d := d) (s + c.wd i) (u ||| 2 ^ i) i 0) (rd ?_)
  refine ev_lald (j := ((((s + c.wd i) * 64 + (u ||| 2 ^ i)) * 7 + i) * 2 + 0)) d_X_withItem_25 (by omega) x18 (by omega) (by decide) ?_
  refine ev_topl ht ?_
  refine ev_lstore (ls' := [_, _, _, _, _, _, none]) d_X_withItem_26 (by decide) rfl rfl ?_
  refine ev_lload d_X_withItem_28 rfl ?_
  refine ev_ldc2 (v := (-1)) d_X_withItem_30 ck_X_101 ?_
  refine ev_lcmp d_X_withItem_33 ?_
  refine ev_if_ne d_X_withItem_34 (fun c_34 => ?_) (fun c_34 => ?_)
  ·
    simp only [lc_ne] at c_34
    exact absurd rfl c_34
  ·
    simp only [lc_ne] at c_34
    refine ev_ldc2 (v := (-1)) d_X_withItem_37 ck_X_101 ?_
    refine ev_goto d_X_withItem_40 ?_
    refine ev_lreturn d_X_withItem_75 rfl ?_
    subst hQ
    exact ⟨rfl, rfl, rfl⟩
theorem ct_X_withItemN_some {i s u b : Nat} {p : Nat × Nat} (hp : p.1 ≤ 8000000) (hi : i < c.mn) (hs : s + c.wd i ≤ c.st) (hu : u < 64) (hb : 6 ≤ b) (hX : XM G n μ c lx ik tb tl ts lat) (hc : CfOK c) (ht : tb (cX (s + c.wd i) i (u ||| 2 ^ i)) = tvk (some p)) : Ct G k_X_withItem (d + 1) 0 0 [.ref (G.1 + 0), .int (nI i), .int (nI s), .int (nI u), .int (iI ((-1)))] n μ (Rd (some (.long (tvk (kadd (some p) (c.wo i + nbW c b i) (c.ce i))))) n μ) := by
  obtain ⟨hn, x0, x1, x2, x3, x4, x5, x11, x12, x18, x19, xi, xj⟩ := id hX
  obtain ⟨⟨hst1, hst2⟩, hfr, hpn, hpp, hmn, hwd, hnd, hpu, hnr, hbr, hle, hdef⟩ := id hc
  have hwi := hwd i hi
  have hi6 : i < 6 := by omega
  have hqb := (hnr b i).2
  have hor := or_lt u hu i hi6
  rw [cX_i hi6] at ht
  generalize hQ : (Rd (some (.long (tvk (kadd (some p) (c.wo i + nbW c b i) (c.ce i))))) n μ) = Q
  refine Ct.ofp (r := 2) (ls := [some (.ref (G.1 + 0)), some (.int (nI (i))), some (.int (nI (s))), some (.int (nI (u))), some (.int (iI ((-1)))), none, none]) rfl (Nat.le_of_ble_eq_true rfl) ?_
  refine ev_aload_n d_X_withItem_0 rfl rfl ?_
  refine ev_getf (kf := 10) (T := F_X) (C := R_X) (N := 14) (v := .ref (G.1 + 18)) d_X_withItem_1 fl_X_34 rfl i_X (by decide) (by omega) x0 rfl ?_
  refine ev_iload_n d_X_withItem_4 rfl rfl ?_
  refine ev_aload_n d_X_withItem_5 rfl rfl ?_
  refine ev_getf (kf := 4) (T := F_X) (C := R_X) (N := 14) (v := .ref (G.1 + 3)) d_X_withItem_6 fl_X_19 rfl i_X (by decide) (by omega) x0 rfl ?_
  refine ev_iload_n d_X_withItem_9 rfl rfl ?_
  refine ev_aald (j := i) d_X_withItem_10 (by omega) x3 (by decide) (by omega) (by decide) ?_
  refine ev_top (w := .ref (G.1 + ik i)) (by rw [if_pos hi]; rfl) ?_
  refine ev_getN (kf := 0) (T := F_I) (C := R_I) (N := 6) (v := .int (nI (c.wd i))) d_X_withItem_11 fl_X_122 rfl i_I (by decide) (xi i hi).2.1 (xi i hi).2.2 rfl ?_
  refine ev_iadd d_X_withItem_14 ?_
  refine ev_topi (w := (nI (s + (c.wd i)))) (nI_add _ _) ?_
  refine ev_iload_n d_X_withItem_15 rfl rfl ?_
  refine ev_iconst (v := (nI (1))) d_X_withItem_16 (by decide) ?_
  refine ev_iload_n d_X_withItem_17 rfl rfl ?_
  refine ev_ishl d_X_withItem_18 ?_
  refine ev_ior d_X_withItem_19 ?_
  refine ev_topi (w := (nI (u ||| 2 ^ i))) (bit_or u hu i hi6) ?_
  refine ev_iload_n d_X_withItem_20 rfl rfl ?_
  refine ev_iconst (v := (nI (0))) d_X_withItem_21 (by decide) ?_
  refine cs (k' := k_X_cell) (As := [.int (nI (s + (c.wd i))), .int (nI (u ||| 2 ^ i)), .int (nI (i)), .int (nI (0))]) (stk := [.ref (G.1 + 18)]) d_X_withItem_22 ml_X_133 kk_X_cell rfl rfl (Nat.le_of_ble_eq_true rfl) (ct_X_cell (d := d) (s + c.wd i) (u ||| 2 ^ i) i 0) (rd ?_)
  refine ev_lald (j := ((((s + c.wd i) * 64 + (u ||| 2 ^ i)) * 7 + i) * 2 + 0)) d_X_withItem_25 (by omega) x18 (by omega) (by decide) ?_
  refine ev_topl ht ?_
  refine ev_topl (w := lN p.1) rfl ?_
  refine ev_lstore (ls' := [_, _, _, _, _, _, none]) d_X_withItem_26 (by decide) rfl rfl ?_
  refine ev_lload d_X_withItem_28 rfl ?_
  refine ev_ldc2 (v := (-1)) d_X_withItem_30 ck_X_101 ?_
  refine ev_lcmp d_X_withItem_33 ?_
  refine ev_if_ne d_X_withItem_34 (fun c_34 => ?_) (fun c_34 => ?_)
  ·
    simp only [lc_ne] at c_34
    refine ev_lload d_X_withItem_43 rfl ?_
    refine ev_aload_n d_X_withItem_45 rfl rfl ?_
    refine ev_getf (kf := 4) (T := F_X) (C := R_X) (N := 14) (v := .ref (G.1 + 3)) d_X_withItem_46 fl_X_19 rfl i_X (by decide) (by omega) x0 rfl ?_
    refine ev_iload_n d_X_withItem_49 rfl rfl ?_
    refine ev_aald (j := i) d_X_withItem_50 (by omega) x3 (by decide) (by omega) (by decide) ?_
    refine ev_top (w := .ref (G.1 + ik i)) (by rw [if_pos hi]; rfl) ?_
    refine ev_getN (kf := 1) (T := F_I) (C := R_I) (N := 6) (v := .long (lN (c.wo i))) d_X_withItem_51 fl_X_137 rfl i_I (by decide) (xi i hi).2.1 (xi i hi).2.2 rfl ?_
    refine ev_ladd d_X_withItem_54 ?_
    refine ev_topl (w := (lN (p.1 + (c.wo i)))) (lN_add _ _) ?_
    refine ev_iload d_X_withItem_55 rfl ?_
    refine ev_iconst (v := (iI ((-1)))) d_X_withItem_57 (by decide) ?_
    refine ev_icmp_ne d_X_withItem_58 (fun c_58 => ?_) (fun c_58 => ?_)
    ·
      skip
      exact absurd rfl c_58
    ·
      skip
      refine ev_lconst (v := lN 0) d_X_withItem_61 (by decide) ?_
      refine ev_goto d_X_withItem_62 ?_
      refine ev_ladd d_X_withItem_74 ?_
      refine ev_topl (w := (lN ((p.1 + (c.wo i)) + 0))) (lN_add _ _) ?_
      refine ev_lreturn d_X_withItem_75 rfl ?_
      subst hQ
      refine ⟨?_, rfl, rfl⟩
      show Sum.inl (some (Value.long _)) = Sum.inl (some (Value.long (lN (p.1 + (c.wo i + nbW c b i)))))
      rw [show nbW c b i = 0 by unfold nbW; rw [if_neg (by omega)]]
      rw [Nat.add_assoc]
  ·
    simp only [lc_ne] at c_34
    exact absurd ((tv_none (o := some p) (fun q hq => by cases hq; exact hp)).mp c_34) (by simp)
theorem ct_X_withItemN {i s u b : Nat} {o : Kv} (ho : ∀ p, o = some p → p.1 ≤ 8000000) (hi : i < c.mn) (hs : s + c.wd i ≤ c.st) (hu : u < 64) (hb : 6 ≤ b) (hX : XM G n μ c lx ik tb tl ts lat) (hc : CfOK c) (ht : tb (cX (s + c.wd i) i (u ||| 2 ^ i)) = tvk o) : Ct G k_X_withItem (d + 1) 0 0 [.ref (G.1 + 0), .int (nI i), .int (nI s), .int (nI u), .int (iI ((-1)))] n μ (Rd (some (.long (tvk (kadd o (c.wo i + nbW c b i) (c.ce i))))) n μ) := by
  cases o with
  | none => exact ct_X_withItemN_none hi hs hu hb hX hc ht
  | some p => exact ct_X_withItemN_some (ho p rfl) hi hs hu hb hX hc ht
end MA
