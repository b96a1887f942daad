/-! ===== placed items ===== -/
theorem ret1 {e : Bool} {n : Nat} {μ : Mem} (h : e = true) : Rd (some (.int (b2 e))) n μ (.inl (some (.int (nI 1)))) n μ := by subst h; exact ⟨rfl, rfl, rfl⟩
theorem ret0 {e : Bool} {n : Nat} {μ : Mem} (h : e = false) : Rd (some (.int (b2 e))) n μ (.inl (some (.int (nI 0)))) n μ := by subst h; exact ⟨rfl, rfl, rfl⟩
theorem retb {e e' : Bool} {n : Nat} {μ : Mem} (h : e = e') : Rd (some (.int (b2 e))) n μ (.inl (some (.int (b2 e')))) n μ := by subst h; exact ⟨rfl, rfl, rfl⟩
theorem row_ref {B : Nat} (j : Nat) (t : Nat) (h : j < 6) : va_rf (if j < 6 then some (B + t + 1 + j) else none) = .ref (B + (t + 1 + j)) := by
  rw [if_pos h]; show Value.ref (B + t + 1 + j) = _; rw [show B + t + 1 + j = B + (t + 1 + j) by omega]
def isputB (c : Cf) (k : Nat) : Bool := decide (c.pu k ≠ -101)
def touchB (c : Cf) (a b : Nat) : Bool := isputB c a && isputB c b && (decide (c.pu a + c.wd a = c.pu b) || decide (c.pu b + c.wd b = c.pu a))
def shareB (c : Cf) (a b : Nat) : Bool := isputB c a && isputB c b && decide (c.pu a < c.pu b + c.wd b) && decide (c.pu b < c.pu a + c.wd a)
def beyB (c : Cf) (k : Nat) : Bool := isputB c k && (decide (c.pu k < 0) || decide ((c.st : Int) < c.pu k + c.wd k))
section PL
variable {G : Gm} {d n : Nat} {μ : Mem} {c : Cf} {lx : Nat} {ik : Nat → Nat} {tb : Nat → Int64} {tl : Nat} {ts : Nat → Int32} {lat : Value}
theorem ct_X_isPut {k : Nat} (hX : XM G n μ c lx ik tb tl ts lat) (hc : CfOK c) (hk : k < c.mn) : Ct G k_X_isPut d 0 0 [.ref (G.1 + 0), .int (nI k)] n μ (Rd (some (.int (b2 (isputB c k)))) n μ) := by
  obtain ⟨hn, x0, x1, x2, x3, x4, x5, x11, x12, x18, x19, xi, xj⟩ := id hX
  obtain ⟨⟨hst1, hst2⟩, hfr, hpn, hpp, hmn, hwd, hnd, hpu, hnr, hbr, hle, hdef⟩ := id hc
  have hpk := hpu k
  refine Ct.ofp (r := 0) (ls := [some (.ref (G.1 + 0)), some (.int (nI (k)))]) rfl (Nat.le_of_ble_eq_true rfl) ?_
  refine ev_aload_n d_X_isPut_0 rfl rfl ?_
  refine ev_getf (kf := 4) (T := F_X) (C := R_X) (N := 14) (v := .ref (G.1 + 3)) d_X_isPut_1 fl_X_19 rfl i_X (by decide) (by omega) x0 rfl ?_
  refine ev_iload_n d_X_isPut_4 rfl rfl ?_
  refine ev_aald (j := k) d_X_isPut_5 (by omega) x3 (by decide) (by omega) (by decide) ?_
  refine ev_top (w := .ref (G.1 + ik k)) (by rw [if_pos hk]; rfl) ?_
  refine ev_getN (kf := 5) (T := F_I) (C := R_I) (N := 6) (v := .int (iI (c.pu k))) d_X_isPut_6 fl_X_235 rfl i_I (by decide) (xi k hk).2.1 (xi k hk).2.2 rfl ?_
  refine ev_bipush (v := (iI ((-101)))) d_X_isPut_9 (by decide) ?_
  refine ev_icmp_eq d_X_isPut_11 (fun c_11 => ?_) (fun c_11 => ?_)
  ·
    simp (disch := omega) only [nI_iI, iI_ltI, iI_leI, iI_eq, Int.not_lt, Int.not_le] at c_11
    refine ev_iconst (v := (nI (0))) d_X_isPut_18 (by decide) ?_
    refine ev_ireturn d_X_isPut_19 rfl rfl ?_
    exact ret0 (by simp only [isputB, Bool.and_eq_true, Bool.or_eq_true, Bool.and_eq_false_iff, Bool.or_eq_false_iff, decide_eq_true_eq, decide_eq_false_iff_not, ne_eq]; first | omega | simp_all | grind)
  ·
    simp (disch := omega) only [nI_iI, iI_ltI, iI_leI, iI_eq, Int.not_lt, Int.not_le] at c_11
    refine ev_iconst (v := (nI (1))) d_X_isPut_14 (by decide) ?_
    refine ev_goto d_X_isPut_15 ?_
    refine ev_ireturn d_X_isPut_19 rfl rfl ?_
    exact ret1 (by simp only [isputB, Bool.and_eq_true, Bool.or_eq_true, Bool.and_eq_false_iff, Bool.or_eq_false_iff, decide_eq_true_eq, decide_eq_false_iff_not, ne_eq]; first | omega | simp_all | grind)
theorem ct_X_touches {a b : Nat} (hX : XM G n μ c lx ik tb tl ts lat) (hc : CfOK c) (ha : a < c.mn) (hb : b < c.mn) : Ct G k_X_touches (d + 1) 0 0 [.ref (G.1 + 0), .int (nI a), .int (nI b)] n μ (Rd (some (.int (b2 (touchB c a b)))) n μ) := by
  obtain ⟨hn, x0, x1, x2, x3, x4, x5, x11, x12, x18, x19, xi, xj⟩ := id hX
  obtain ⟨⟨hst1, hst2⟩, hfr, hpn, hpp, hmn, hwd, hnd, hpu, hnr, hbr, hle, hdef⟩ := id hc
  have hwa := hwd a ha
  have hwb := hwd b hb
  have hpa := hpu a
  have hpb := hpu b
  refine Ct.ofp (r := 0) (ls := [some (.ref (G.1 + 0)), some (.int (nI (a))), some (.int (nI (b)))]) rfl (Nat.le_of_ble_eq_true rfl) ?_
  refine ev_aload_n d_X_touches_0 rfl rfl ?_
  refine ev_iload_n d_X_touches_1 rfl rfl ?_
  refine cv (k' := k_X_isPut) (As := [.int (nI (a))]) (stk := []) d_X_touches_2 ml_X_238 kk_X_isPut rfl rfl (Nat.le_of_ble_eq_true rfl) (by omega) x0 rfl rfl (ct_X_isPut (d := d) hX hc ha) (rd ?_)
  refine ev_if_eq d_X_touches_5 (fun c_5 => ?_) (fun c_5 => ?_)
  ·
    have c_5 := b2_f c_5
    refine ev_iconst (v := (nI (0))) d_X_touches_82 (by decide) ?_
    refine ev_ireturn d_X_touches_83 rfl rfl ?_
    exact ret0 (by simp only [touchB, Bool.and_eq_true, Bool.or_eq_true, Bool.and_eq_false_iff, Bool.or_eq_false_iff, decide_eq_true_eq, decide_eq_false_iff_not, ne_eq]; first | omega | simp_all | grind)
  ·
    have c_5 := b2_t c_5
    refine ev_aload_n d_X_touches_8 rfl rfl ?_
    refine ev_iload_n d_X_touches_9 rfl rfl ?_
    refine cv (k' := k_X_isPut) (As := [.int (nI (b))]) (stk := []) d_X_touches_10 ml_X_238 kk_X_isPut rfl rfl (Nat.le_of_ble_eq_true rfl) (by omega) x0 rfl rfl (ct_X_isPut (d := d) hX hc hb) (rd ?_)
    refine ev_if_eq d_X_touches_13 (fun c_13 => ?_) (fun c_13 => ?_)
    ·
      have c_13 := b2_f c_13
      refine ev_iconst (v := (nI (0))) d_X_touches_82 (by decide) ?_
      refine ev_ireturn d_X_touches_83 rfl rfl ?_
      exact ret0 (by simp only [touchB, Bool.and_eq_true, Bool.or_eq_true, Bool.and_eq_false_iff, Bool.or_eq_false_iff, decide_eq_true_eq, decide_eq_false_iff_not, ne_eq]; first | omega | simp_all | grind)
    ·
      have c_13 := b2_t c_13
      refine ev_aload_n d_X_touches_16 rfl rfl ?_
      refine ev_getf (kf := 4) (T := F_X) (C := R_X) (N := 14) (v := .ref (G.1 + 3)) d_X_touches_17 fl_X_19 rfl i_X (by decide) (by omega) x0 rfl ?_
      refine ev_iload_n d_X_touches_20 rfl rfl ?_
      refine ev_aald (j := a) d_X_touches_21 (by omega) x3 (by decide) (by omega) (by decide) ?_
      refine ev_top (w := .ref (G.1 + ik a)) (by rw [if_pos ha]; rfl) ?_
      refine ev_getN (kf := 5) (T := F_I) (C := R_I) (N := 6) (v := .int (iI (c.pu a))) d_X_touches_22 fl_X_235 rfl i_I (by decide) (xi a ha).2.1 (xi a ha).2.2 rfl ?_
      refine ev_aload_n d_X_touches_25 rfl rfl ?_
      refine ev_getf (kf := 4) (T := F_X) (C := R_X) (N := 14) (v := .ref (G.1 + 3)) d_X_touches_26 fl_X_19 rfl i_X (by decide) (by omega) x0 rfl ?_
      refine ev_iload_n d_X_touches_29 rfl rfl ?_
      refine ev_aald (j := a) d_X_touches_30 (by omega) x3 (by decide) (by omega) (by decide) ?_
      refine ev_top (w := .ref (G.1 + ik a)) (by rw [if_pos ha]; rfl) ?_
      refine ev_getN (kf := 0) (T := F_I) (C := R_I) (N := 6) (v := .int (nI (c.wd a))) d_X_touches_31 fl_X_122 rfl i_I (by decide) (xi a ha).2.1 (xi a ha).2.2 rfl ?_
      refine ev_iadd d_X_touches_34 ?_
      refine ev_topi (w := (iI ((c.pu a) + (c.wd a : Int)))) (by simp only [nI_iI, iI_add, iI_sub, iI_mul]) ?_
      refine ev_aload_n d_X_touches_35 rfl rfl ?_
      refine ev_getf (kf := 4) (T := F_X) (C := R_X) (N := 14) (v := .ref (G.1 + 3)) d_X_touches_36 fl_X_19 rfl i_X (by decide) (by omega) x0 rfl ?_
      refine ev_iload_n d_X_touches_39 rfl rfl ?_
      refine ev_aald (j := b) d_X_touches_40 (by omega) x3 (by decide) (by omega) (by decide) ?_
      refine ev_top (w := .ref (G.1 + ik b)) (by rw [if_pos hb]; rfl) ?_
      refine ev_getN (kf := 5) (T := F_I) (C := R_I) (N := 6) (v := .int (iI (c.pu b))) d_X_touches_41 fl_X_235 rfl i_I (by decide) (xi b hb).2.1 (xi b hb).2.2 rfl ?_
      refine ev_icmp_eq d_X_touches_44 (fun c_44 => ?_) (fun c_44 => ?_)
      ·
        simp (disch := omega) only [nI_iI, iI_ltI, iI_leI, iI_eq, Int.not_lt, Int.not_le] at c_44
        refine ev_iconst (v := (nI (1))) d_X_touches_78 (by decide) ?_
        refine ev_goto d_X_touches_79 ?_
        refine ev_ireturn d_X_touches_83 rfl rfl ?_
        exact ret1 (by simp only [touchB, Bool.and_eq_true, Bool.or_eq_true, Bool.and_eq_false_iff, Bool.or_eq_false_iff, decide_eq_true_eq, decide_eq_false_iff_not, ne_eq]; first | omega | simp_all | grind)
      ·
        simp (disch := omega) only [nI_iI, iI_ltI, iI_leI, iI_eq, Int.not_lt, Int.not_le] at c_44
        refine ev_aload_n d_X_touches_47 rfl rfl ?_
        refine ev_getf (kf := 4) (T := F_X) (C := R_X) (N := 14) (v := .ref (G.1 + 3)) d_X_touches_48 fl_X_19 rfl i_X (by decide) (by omega) x0 rfl ?_
        refine ev_iload_n d_X_touches_51 rfl rfl ?_
        refine ev_aald (j := b) d_X_touches_52 (by omega) x3 (by decide) (by omega) (by decide) ?_
        refine ev_top (w := .ref (G.1 + ik b)) (by rw [if_pos hb]; rfl) ?_
        refine ev_getN (kf := 5) (T := F_I) (C := R_I) (N := 6) (v := .int (iI (c.pu b))) d_X_touches_53 fl_X_235 rfl i_I (by decide) (xi b hb).2.1 (xi b hb).2.2 rfl ?_
        refine ev_aload_n d_X_touches_56 rfl rfl ?_
        refine ev_getf (kf := 4) (T := F_X) (C := R_X) (N := 14) (v := .ref (G.1 + 3)) d_X_touches_57 fl_X_19 rfl i_X (by decide) (by omega) x0 rfl ?_
        refine ev_iload_n d_X_touches_60 rfl rfl ?_
        refine ev_aald (j := b) d_X_touches_61 (by omega) x3 (by decide) (by omega) (by decide) ?_
        refine ev_top (w := .ref (G.1 + ik b)) (by rw [if_pos hb]; rfl) ?_
        refine ev_getN (kf := 0) (T := F_I) (C := R_I) (N := 6) (v := .int (nI (c.wd b))) d_X_touches_62 fl_X_122 rfl i_I (by decide) (xi b hb).2.1 (xi b hb).2.2 rfl ?_
        refine ev_iadd d_X_touches_65 ?_
        refine ev_topi (w := (iI ((c.pu b) + (c.wd b : Int)))) (by simp only [nI_iI, iI_add, iI_sub, iI_mul]) ?_
        refine ev_aload_n d_X_touches_66 rfl rfl ?_
        refine ev_getf (kf := 4) (T := F_X) (C := R_X) (N := 14) (v := .ref (G.1 + 3)) d_X_touches_67 fl_X_19 rfl i_X (by decide) (by omega) x0 rfl ?_
        refine ev_iload_n d_X_touches_70 rfl rfl ?_
        refine ev_aald (j := a) d_X_touches_71 (by omega) x3 (by decide) (by omega) (by decide) ?_
        refine ev_top (w := .ref (G.1 + ik a)) (by rw [if_pos ha]; rfl) ?_
        refine ev_getN (kf := 5) (T := F_I) (C := R_I) (N := 6) (v := .int (iI (c.pu a))) d_X_touches_72 fl_X_235 rfl i_I (by decide) (xi a ha).2.1 (xi a ha).2.2 rfl ?_
        refine ev_icmp_ne d_X_touches_75 (fun c_75 => ?_) (fun c_75 => ?_)
        ·
          simp (disch := omega) only [nI_iI, iI_ltI, iI_leI, iI_eq, Int.not_lt, Int.not_le] at c_75
          refine ev_iconst (v := (nI (0))) d_X_touches_82 (by decide) ?_
          refine ev_ireturn d_X_touches_83 rfl rfl ?_
          exact ret0 (by simp only [touchB, Bool.and_eq_true, Bool.or_eq_true, Bool.and_eq_false_iff, Bool.or_eq_false_iff, decide_eq_true_eq, decide_eq_false_iff_not, ne_eq]; first | omega | simp_all | grind)
        ·
          simp (disch := omega) only [nI_iI, iI_ltI, iI_leI, iI_eq, Int.not_lt, Int.not_le] at c_75
          refine ev_iconst (v := (nI (1))) d_X_touches_78 (by decide) ?_
          refine ev_goto d_X_touches_79 ?_
          refine ev_ireturn d_X_touches_83 rfl rfl ?_
          exact ret1 (by simp only [touchB, Bool.and_eq_true, Bool.or_eq_true, Bool.and_eq_false_iff, Bool.or_eq_false_iff, decide_eq_true_eq, decide_eq_false_iff_not, ne_eq]; first | omega | simp_all | grind)
theorem ct_X_share {a b : Nat} (hX : XM G n μ c lx ik tb tl ts lat) (hc : CfOK c) (ha : a < c.mn) (hb : b < c.mn) : Ct G k_X_share (d + 1) 0 0 [.ref (G.1 + 0), .int (nI a), .int (nI b)] n μ (Rd (some (.int (b2 (shareB c a b)))) n μ) := by
  obtain ⟨hn, x0, x1, x2, x3, x4, x5, x11, x12, x18, x19, xi, xj⟩ := id hX
  obtain ⟨⟨hst1, hst2⟩, hfr, hpn, hpp, hmn, hwd, hnd, hpu, hnr, hbr, hle, hdef⟩ := id hc
  have hwa := hwd a ha
  have hwb := hwd b hb
  have hpa := hpu a
  have hpb := hpu b
  refine Ct.ofp (r := 0) (ls := [some (.ref (G.1 + 0)), some (.int (nI (a))), some (.int (nI (b)))]) rfl (Nat.le_of_ble_eq_true rfl) ?_
  refine ev_aload_n d_X_share_0 rfl rfl ?_
  refine ev_iload_n d_X_share_1 rfl rfl ?_
  refine cv (k' := k_X_isPut) (As := [.int (nI (a))]) (stk := []) d_X_share_2 ml_X_238 kk_X_isPut rfl rfl (Nat.le_of_ble_eq_true rfl) (by omega) x0 rfl rfl (ct_X_isPut (d := d) hX hc ha) (rd ?_)
  refine ev_if_eq d_X_share_5 (fun c_5 => ?_) (fun c_5 => ?_)
  ·
    have c_5 := b2_f c_5
    refine ev_iconst (v := (nI (0))) d_X_share_82 (by decide) ?_
    refine ev_ireturn d_X_share_83 rfl rfl ?_
    exact ret0 (by simp only [shareB, Bool.and_eq_true, Bool.or_eq_true, Bool.and_eq_false_iff, Bool.or_eq_false_iff, decide_eq_true_eq, decide_eq_false_iff_not, ne_eq]; first | omega | simp_all | grind)
  ·
    have c_5 := b2_t c_5
    refine ev_aload_n d_X_share_8 rfl rfl ?_
    refine ev_iload_n d_X_share_9 rfl rfl ?_
    refine cv (k' := k_X_isPut) (As := [.int (nI (b))]) (stk := []) d_X_share_10 ml_X_238 kk_X_isPut rfl rfl (Nat.le_of_ble_eq_true rfl) (by omega) x0 rfl rfl (ct_X_isPut (d := d) hX hc hb) (rd ?_)
    refine ev_if_eq d_X_share_13 (fun c_13 => ?_) (fun c_13 => ?_)
    ·
      have c_13 := b2_f c_13
      refine ev_iconst (v := (nI (0))) d_X_share_82 (by decide) ?_
      refine ev_ireturn d_X_share_83 rfl rfl ?_
      exact ret0 (by simp only [shareB, Bool.and_eq_true, Bool.or_eq_true, Bool.and_eq_false_iff, Bool.or_eq_false_iff, decide_eq_true_eq, decide_eq_false_iff_not, ne_eq]; first | omega | simp_all | grind)
    ·
      have c_13 := b2_t c_13
      refine ev_aload_n d_X_share_16 rfl rfl ?_
      refine ev_getf (kf := 4) (T := F_X) (C := R_X) (N := 14) (v := .ref (G.1 + 3)) d_X_share_17 fl_X_19 rfl i_X (by decide) (by omega) x0 rfl ?_
      refine ev_iload_n d_X_share_20 rfl rfl ?_
      refine ev_aald (j := a) d_X_share_21 (by omega) x3 (by decide) (by omega) (by decide) ?_
      refine ev_top (w := .ref (G.1 + ik a)) (by rw [if_pos ha]; rfl) ?_
      refine ev_getN (kf := 5) (T := F_I) (C := R_I) (N := 6) (v := .int (iI (c.pu a))) d_X_share_22 fl_X_235 rfl i_I (by decide) (xi a ha).2.1 (xi a ha).2.2 rfl ?_
      refine ev_aload_n d_X_share_25 rfl rfl ?_
      refine ev_getf (kf := 4) (T := F_X) (C := R_X) (N := 14) (v := .ref (G.1 + 3)) d_X_share_26 fl_X_19 rfl i_X (by decide) (by omega) x0 rfl ?_
      refine ev_iload_n d_X_share_29 rfl rfl ?_
      refine ev_aald (j := b) d_X_share_30 (by omega) x3 (by decide) (by omega) (by decide) ?_
      refine ev_top (w := .ref (G.1 + ik b)) (by rw [if_pos hb]; rfl) ?_
      refine ev_getN (kf := 5) (T := F_I) (C := R_I) (N := 6) (v := .int (iI (c.pu b))) d_X_share_31 fl_X_235 rfl i_I (by decide) (xi b hb).2.1 (xi b hb).2.2 rfl ?_
      refine ev_aload_n d_X_share_34 rfl rfl ?_
      refine ev_getf (kf := 4) (T := F_X) (C := R_X) (N := 14) (v := .ref (G.1 + 3)) d_X_share_35 fl_X_19 rfl i_X (by decide) (by omega) x0 rfl ?_
      refine ev_iload_n d_X_share_38 rfl rfl ?_
      refine ev_aald (j := b) d_X_share_39 (by omega) x3 (by decide) (by omega) (by decide) ?_
      refine ev_top (w := .ref (G.1 + ik b)) (by rw [if_pos hb]; rfl) ?_
      refine ev_getN (kf := 0) (T := F_I) (C := R_I) (N := 6) (v := .int (nI (c.wd b))) d_X_share_40 fl_X_122 rfl i_I (by decide) (xi b hb).2.1 (xi b hb).2.2 rfl ?_
      refine ev_iadd d_X_share_43 ?_
      refine ev_topi (w := (iI ((c.pu b) + (c.wd b : Int)))) (by simp only [nI_iI, iI_add, iI_sub, iI_mul]) ?_
      refine ev_icmp_ge d_X_share_44 (fun c_44 => ?_) (fun c_44 => ?_)
      ·
        simp (disch := omega) only [nI_iI, iI_ltI, iI_leI, iI_eq, Int.not_lt, Int.not_le] at c_44
        refine ev_iconst (v := (nI (0))) d_X_share_82 (by decide) ?_
        refine ev_ireturn d_X_share_83 rfl rfl ?_
        exact ret0 (by simp only [shareB, Bool.and_eq_true, Bool.or_eq_true, Bool.and_eq_false_iff, Bool.or_eq_false_iff, decide_eq_true_eq, decide_eq_false_iff_not, ne_eq]; first | omega | simp_all | grind)
      ·
        simp (disch := omega) only [nI_iI, iI_ltI, iI_leI, iI_eq, Int.not_lt, Int.not_le] at c_44
        refine ev_aload_n d_X_share_47 rfl rfl ?_
        refine ev_getf (kf := 4) (T := F_X) (C := R_X) (N := 14) (v := .ref (G.1 + 3)) d_X_share_48 fl_X_19 rfl i_X (by decide) (by omega) x0 rfl ?_
        refine ev_iload_n d_X_share_51 rfl rfl ?_
        refine ev_aald (j := b) d_X_share_52 (by omega) x3 (by decide) (by omega) (by decide) ?_
        refine ev_top (w := .ref (G.1 + ik b)) (by rw [if_pos hb]; rfl) ?_
        refine ev_getN (kf := 5) (T := F_I) (C := R_I) (N := 6) (v := .int (iI (c.pu b))) d_X_share_53 fl_X_235 rfl i_I (by decide) (xi b hb).2.1 (xi b hb).2.2 rfl ?_
        refine ev_aload_n d_X_share_56 rfl rfl ?_
        refine ev_getf (kf := 4) (T := F_X) (C := R_X) (N := 14) (v := .ref (G.1 + 3)) d_X_share_57 fl_X_19 rfl i_X (by decide) (by omega) x0 rfl ?_
        refine ev_iload_n d_X_share_60 rfl rfl ?_
        refine ev_aald (j := a) d_X_share_61 (by omega) x3 (by decide) (by omega) (by decide) ?_
        refine ev_top (w := .ref (G.1 + ik a)) (by rw [if_pos ha]; rfl) ?_
        refine ev_getN (kf := 5) (T := F_I) (C := R_I) (N := 6) (v := .int (iI (c.pu a))) d_X_share_62 fl_X_235 rfl i_I (by decide) (xi a ha).2.1 (xi a ha).2.2 rfl ?_
        refine ev_aload_n d_X_share_65 rfl rfl ?_
        refine ev_getf (kf := 4) (T := F_X) (C := R_X) (N := 14) (v := .ref (G.1 + 3)) d_X_share_66 fl_X_19 rfl i_X (by decide) (by omega) x0 rfl ?_
        refine ev_iload_n d_X_share_69 rfl rfl ?_
        refine ev_aald (j := a) d_X_share_70 (by omega) x3 (by decide) (by omega) (by decide) ?_
        refine ev_top (w := .ref (G.1 + ik a)) (by rw [if_pos ha]; rfl) ?_
        refine ev_getN (kf := 0) (T := F_I) (C := R_I) (N := 6) (v := .int (nI (c.wd a))) d_X_share_71 fl_X_122 rfl i_I (by decide) (xi a ha).2.1 (xi a ha).2.2 rfl ?_
        refine ev_iadd d_X_share_74 ?_
        refine ev_topi (w := (iI ((c.pu a) + (c.wd a : Int)))) (by simp only [nI_iI, iI_add, iI_sub, iI_mul]) ?_
        refine ev_icmp_ge d_X_share_75 (fun c_75 => ?_) (fun c_75 => ?_)
        ·
          simp (disch := omega) only [nI_iI, iI_ltI, iI_leI, iI_eq, Int.not_lt, Int.not_le] at c_75
          refine ev_iconst (v := (nI (0))) d_X_share_82 (by decide) ?_
          refine ev_ireturn d_X_share_83 rfl rfl ?_
          exact ret0 (by simp only [shareB, Bool.and_eq_true, Bool.or_eq_true, Bool.and_eq_false_iff, Bool.or_eq_false_iff, decide_eq_true_eq, decide_eq_false_iff_not, ne_eq]; first | omega | simp_all | grind)
        ·
          simp (disch := omega) only [nI_iI, iI_ltI, iI_leI, iI_eq, Int.not_lt, Int.not_le] at c_75
          refine ev_iconst (v := (nI (1))) d_X_share_78 (by decide) ?_
          refine ev_goto d_X_share_79 ?_
          refine ev_ireturn d_X_share_83 rfl rfl ?_
          exact ret1 (by simp only [shareB, Bool.and_eq_true, Bool.or_eq_true, Bool.and_eq_false_iff, Bool.or_eq_false_iff, decide_eq_true_eq, decide_eq_false_iff_not, ne_eq]; first | omega | simp_all | grind)
theorem ct_X_isBeyond {k : Nat} (hX : XM G n μ c lx ik tb tl ts lat) (hc : CfOK c) (hk : k < c.mn) : Ct G k_X_isBeyond (d + 1) 0 0 [.ref (G.1 + 0), .int (nI k)] n μ (Rd (some (.int (b2 (beyB c k)))) n μ) := by
  obtain ⟨hn, x0, x1, x2, x3, x4, x5, x11, x12, x18, x19, xi, xj⟩ := id hX
  obtain ⟨⟨hst1, hst2⟩, hfr, hpn, hpp, hmn, hwd, hnd, hpu, hnr, hbr, hle, hdef⟩ := id hc
  have hpk := hpu k
  have hwk := hwd k hk
  refine Ct.ofp (r := 0) (ls := [some (.ref (G.1 + 0)), some (.int (nI (k)))]) rfl (Nat.le_of_ble_eq_true rfl) ?_
  refine ev_aload_n d_X_isBeyond_0 rfl rfl ?_
  refine ev_iload_n d_X_isBeyond_1 rfl rfl ?_
  refine cv (k' := k_X_isPut) (As := [.int (nI (k))]) (stk := []) d_X_isBeyond_2 ml_X_238 kk_X_isPut rfl rfl (Nat.le_of_ble_eq_true rfl) (by omega) x0 rfl rfl (ct_X_isPut (d := d) hX hc hk) (rd ?_)
  refine ev_if_eq d_X_isBeyond_5 (fun c_5 => ?_) (fun c_5 => ?_)
  ·
    have c_5 := b2_f c_5
    refine ev_iconst (v := (nI (0))) d_X_isBeyond_50 (by decide) ?_
    refine ev_ireturn d_X_isBeyond_51 rfl rfl ?_
    exact ret0 (by simp only [beyB, Bool.and_eq_true, Bool.or_eq_true, Bool.and_eq_false_iff, Bool.or_eq_false_iff, decide_eq_true_eq, decide_eq_false_iff_not, ne_eq]; first | omega | simp_all | grind)
  ·
    have c_5 := b2_t c_5
    refine ev_aload_n d_X_isBeyond_8 rfl rfl ?_
    refine ev_getf (kf := 4) (T := F_X) (C := R_X) (N := 14) (v := .ref (G.1 + 3)) d_X_isBeyond_9 fl_X_19 rfl i_X (by decide) (by omega) x0 rfl ?_
    refine ev_iload_n d_X_isBeyond_12 rfl rfl ?_
    refine ev_aald (j := k) d_X_isBeyond_13 (by omega) x3 (by decide) (by omega) (by decide) ?_
    refine ev_top (w := .ref (G.1 + ik k)) (by rw [if_pos hk]; rfl) ?_
    refine ev_getN (kf := 5) (T := F_I) (C := R_I) (N := 6) (v := .int (iI (c.pu k))) d_X_isBeyond_14 fl_X_235 rfl i_I (by decide) (xi k hk).2.1 (xi k hk).2.2 rfl ?_
    refine ev_if_lt d_X_isBeyond_17 (fun c_17 => ?_) (fun c_17 => ?_)
    ·
      have c_17 : c.pu k < 0 := (iI_ltI (b := 0) (by omega) (by omega) (by omega) (by omega)).mp c_17
      refine ev_iconst (v := (nI (1))) d_X_isBeyond_46 (by decide) ?_
      refine ev_goto d_X_isBeyond_47 ?_
      refine ev_ireturn d_X_isBeyond_51 rfl rfl ?_
      exact ret1 (by simp only [beyB, Bool.and_eq_true, Bool.or_eq_true, Bool.and_eq_false_iff, Bool.or_eq_false_iff, decide_eq_true_eq, decide_eq_false_iff_not, ne_eq]; first | omega | simp_all | grind)
    ·
      have c_17 : ¬ c.pu k < 0 := fun q => c_17 ((iI_ltI (b := 0) (by omega) (by omega) (by omega) (by omega)).mpr q)
      refine ev_aload_n d_X_isBeyond_20 rfl rfl ?_
      refine ev_getf (kf := 4) (T := F_X) (C := R_X) (N := 14) (v := .ref (G.1 + 3)) d_X_isBeyond_21 fl_X_19 rfl i_X (by decide) (by omega) x0 rfl ?_
      refine ev_iload_n d_X_isBeyond_24 rfl rfl ?_
      refine ev_aald (j := k) d_X_isBeyond_25 (by omega) x3 (by decide) (by omega) (by decide) ?_
      refine ev_top (w := .ref (G.1 + ik k)) (by rw [if_pos hk]; rfl) ?_
      refine ev_getN (kf := 5) (T := F_I) (C := R_I) (N := 6) (v := .int (iI (c.pu k))) d_X_isBeyond_26 fl_X_235 rfl i_I (by decide) (xi k hk).2.1 (xi k hk).2.2 rfl ?_
      refine ev_aload_n d_X_isBeyond_29 rfl rfl ?_
      refine ev_getf (kf := 4) (T := F_X) (C := R_X) (N := 14) (v := .ref (G.1 + 3)) d_X_isBeyond_30 fl_X_19 rfl i_X (by decide) (by omega) x0 rfl ?_
      refine ev_iload_n d_X_isBeyond_33 rfl rfl ?_
      refine ev_aald (j := k) d_X_isBeyond_34 (by omega) x3 (by decide) (by omega) (by decide) ?_
      refine ev_top (w := .ref (G.1 + ik k)) (by rw [if_pos hk]; rfl) ?_
      refine ev_getN (kf := 0) (T := F_I) (C := R_I) (N := 6) (v := .int (nI (c.wd k))) d_X_isBeyond_35 fl_X_122 rfl i_I (by decide) (xi k hk).2.1 (xi k hk).2.2 rfl ?_
      refine ev_iadd d_X_isBeyond_38 ?_
      refine ev_topi (w := (iI ((c.pu k) + (c.wd k : Int)))) (by simp only [nI_iI, iI_add, iI_sub, iI_mul]) ?_
      refine ev_aload_n d_X_isBeyond_39 rfl rfl ?_
      refine ev_getf (kf := 0) (T := F_X) (C := R_X) (N := 14) (v := .int (nI (c.st))) d_X_isBeyond_40 fl_X_50 rfl i_X (by decide) (by omega) x0 rfl ?_
      refine ev_icmp_le d_X_isBeyond_43 (fun c_43 => ?_) (fun c_43 => ?_)
      ·
        simp (disch := omega) only [nI_iI, iI_ltI, iI_leI, iI_eq, Int.not_lt, Int.not_le] at c_43
        refine ev_iconst (v := (nI (0))) d_X_isBeyond_50 (by decide) ?_
        refine ev_ireturn d_X_isBeyond_51 rfl rfl ?_
        exact ret0 (by simp only [beyB, Bool.and_eq_true, Bool.or_eq_true, Bool.and_eq_false_iff, Bool.or_eq_false_iff, decide_eq_true_eq, decide_eq_false_iff_not, ne_eq]; first | omega | simp_all | grind)
      ·
        simp (disch := omega) only [nI_iI, iI_ltI, iI_leI, iI_eq, Int.not_lt, Int.not_le] at c_43
        refine ev_iconst (v := (nI (1))) d_X_isBeyond_46 (by decide) ?_
        refine ev_goto d_X_isBeyond_47 ?_
        refine ev_ireturn d_X_isBeyond_51 rfl rfl ?_
        exact ret1 (by simp only [beyB, Bool.and_eq_true, Bool.or_eq_true, Bool.and_eq_false_iff, Bool.or_eq_false_iff, decide_eq_true_eq, decide_eq_false_iff_not, ne_eq]; first | omega | simp_all | grind)
end PL
