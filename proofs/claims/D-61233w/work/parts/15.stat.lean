/-! ===== static helpers ===== -/
section ST
variable {G : Gm} {d n : Nat} {μ : Mem}
theorem ct_X_isIn (v a b : Int64) : Ct G k_X_isIn d 0 0 [.long v, .long a, .long b] n μ (Rd (some (.int (b2 (decide (a ≤ v ∧ v ≤ b))))) n μ) := by
  refine Ct.ofp (r := 0) (ls := [some (.long (v)), none, some (.long (a)), none, some (.long (b)), none]) rfl (Nat.le_of_ble_eq_true rfl) ?_
  refine ev_lload_n d_X_isIn_0 rfl rfl ?_
  refine ev_lload_n d_X_isIn_1 rfl rfl ?_
  refine ev_lcmp d_X_isIn_2 ?_
  refine ev_if_lt d_X_isIn_3 (fun c_3 => ?_) (fun c_3 => ?_)
  ·
    simp only [lc_lt] at c_3
    refine ev_iconst (v := (nI (0))) d_X_isIn_17 (by decide) ?_
    refine ev_ireturn d_X_isIn_18 rfl rfl ?_
    have e : decide (a ≤ v ∧ v ≤ b) = false := by
      rw [decide_eq_false_iff_not]; rintro ⟨q1, q2⟩; first | exact (i64_nle.mpr c_3) q1 | exact (i64_nle.mpr c_10) q2
    rw [e]; exact ⟨rfl, rfl, rfl⟩
  ·
    simp only [lc_lt] at c_3
    refine ev_lload_n d_X_isIn_6 rfl rfl ?_
    refine ev_lload d_X_isIn_7 rfl ?_
    refine ev_lcmp d_X_isIn_9 ?_
    refine ev_if_gt d_X_isIn_10 (fun c_10 => ?_) (fun c_10 => ?_)
    ·
      simp only [lc_gt] at c_10
      refine ev_iconst (v := (nI (0))) d_X_isIn_17 (by decide) ?_
      refine ev_ireturn d_X_isIn_18 rfl rfl ?_
      have e : decide (a ≤ v ∧ v ≤ b) = false := by
        rw [decide_eq_false_iff_not]; rintro ⟨q1, q2⟩; first | exact (i64_nle.mpr c_3) q1 | exact (i64_nle.mpr c_10) q2
      rw [e]; exact ⟨rfl, rfl, rfl⟩
    ·
      simp only [lc_gt] at c_10
      refine ev_iconst (v := (nI (1))) d_X_isIn_13 (by decide) ?_
      refine ev_goto d_X_isIn_14 ?_
      refine ev_ireturn d_X_isIn_18 rfl rfl ?_
      have e : decide (a ≤ v ∧ v ≤ b) = true := by
        rw [decide_eq_true_iff]; exact ⟨i64_nlt.mp c_3, i64_nlt.mp c_10⟩
      rw [e]; exact ⟨rfl, rfl, rfl⟩
theorem ct_M_isIn (v a b : Int64) : Ct G k_M_isIn d 0 0 [.long v, .long a, .long b] n μ (Rd (some (.int (b2 (decide (a ≤ v ∧ v ≤ b))))) n μ) := by
  refine Ct.ofp (r := 0) (ls := [some (.long (v)), none, some (.long (a)), none, some (.long (b)), none]) rfl (Nat.le_of_ble_eq_true rfl) ?_
  refine ev_lload_n d_M_isIn_0 rfl rfl ?_
  refine ev_lload_n d_M_isIn_1 rfl rfl ?_
  refine ev_lcmp d_M_isIn_2 ?_
  refine ev_if_lt d_M_isIn_3 (fun c_3 => ?_) (fun c_3 => ?_)
  ·
    simp only [lc_lt] at c_3
    refine ev_iconst (v := (nI (0))) d_M_isIn_17 (by decide) ?_
    refine ev_ireturn d_M_isIn_18 rfl rfl ?_
    have e : decide (a ≤ v ∧ v ≤ b) = false := by
      rw [decide_eq_false_iff_not]; rintro ⟨q1, q2⟩; first | exact (i64_nle.mpr c_3) q1 | exact (i64_nle.mpr c_10) q2
    rw [e]; exact ⟨rfl, rfl, rfl⟩
  ·
    simp only [lc_lt] at c_3
    refine ev_lload_n d_M_isIn_6 rfl rfl ?_
    refine ev_lload d_M_isIn_7 rfl ?_
    refine ev_lcmp d_M_isIn_9 ?_
    refine ev_if_gt d_M_isIn_10 (fun c_10 => ?_) (fun c_10 => ?_)
    ·
      simp only [lc_gt] at c_10
      refine ev_iconst (v := (nI (0))) d_M_isIn_17 (by decide) ?_
      refine ev_ireturn d_M_isIn_18 rfl rfl ?_
      have e : decide (a ≤ v ∧ v ≤ b) = false := by
        rw [decide_eq_false_iff_not]; rintro ⟨q1, q2⟩; first | exact (i64_nle.mpr c_3) q1 | exact (i64_nle.mpr c_10) q2
      rw [e]; exact ⟨rfl, rfl, rfl⟩
    ·
      simp only [lc_gt] at c_10
      refine ev_iconst (v := (nI (1))) d_M_isIn_13 (by decide) ?_
      refine ev_goto d_M_isIn_14 ?_
      refine ev_ireturn d_M_isIn_18 rfl rfl ?_
      have e : decide (a ≤ v ∧ v ≤ b) = true := by
        rw [decide_eq_true_iff]; exact ⟨i64_nlt.mp c_3, i64_nlt.mp c_10⟩
      rw [e]; exact ⟨rfl, rfl, rfl⟩
theorem ct_J_max (x y : Int32) : Ct G k_J_max d 0 0 [.int x, .int y] n μ (Rd (some (.int (if y ≤ x then x else y))) n μ) := by
  refine Ct.ofp (r := 0) (ls := [some (.int (x)), some (.int (y))]) rfl (Nat.le_of_ble_eq_true rfl) ?_
  refine ev_iload_n d_J_max_0 rfl rfl ?_
  refine ev_iload_n d_J_max_1 rfl rfl ?_
  refine ev_icmp_lt d_J_max_2 (fun c_2 => ?_) (fun c_2 => ?_)
  ·
    refine ev_iload_n d_J_max_9 rfl rfl ?_
    refine ev_ireturn d_J_max_10 rfl rfl ?_
    rw [if_neg (by first | exact i32_nle.mpr c_2 | exact c_2)]; exact ⟨rfl, rfl, rfl⟩
  ·
    refine ev_iload_n d_J_max_5 rfl rfl ?_
    refine ev_goto d_J_max_6 ?_
    refine ev_ireturn d_J_max_10 rfl rfl ?_
    rw [if_pos (by first | exact i32_nlt.mp c_2 | exact c_2)]; exact ⟨rfl, rfl, rfl⟩
theorem ct_J_min (x y : Int32) : Ct G k_J_min d 0 0 [.int x, .int y] n μ (Rd (some (.int (if x ≤ y then x else y))) n μ) := by
  refine Ct.ofp (r := 0) (ls := [some (.int (x)), some (.int (y))]) rfl (Nat.le_of_ble_eq_true rfl) ?_
  refine ev_iload_n d_J_min_0 rfl rfl ?_
  refine ev_iload_n d_J_min_1 rfl rfl ?_
  refine ev_icmp_gt d_J_min_2 (fun c_2 => ?_) (fun c_2 => ?_)
  ·
    refine ev_iload_n d_J_min_9 rfl rfl ?_
    refine ev_ireturn d_J_min_10 rfl rfl ?_
    rw [if_neg (by first | exact i32_nle.mpr c_2 | exact c_2)]; exact ⟨rfl, rfl, rfl⟩
  ·
    refine ev_iload_n d_J_min_5 rfl rfl ?_
    refine ev_goto d_J_min_6 ?_
    refine ev_ireturn d_J_min_10 rfl rfl ?_
    rw [if_pos (by first | exact i32_nlt.mp c_2 | exact c_2)]; exact ⟨rfl, rfl, rfl⟩
theorem ct_J_lmax (x y : Int64) : Ct G k_J_lmax d 0 0 [.long x, .long y] n μ (Rd (some (.long (if y ≤ x then x else y))) n μ) := by
  refine Ct.ofp (r := 0) (ls := [some (.long (x)), none, some (.long (y)), none]) rfl (Nat.le_of_ble_eq_true rfl) ?_
  refine ev_lload_n d_J_lmax_0 rfl rfl ?_
  refine ev_lload_n d_J_lmax_1 rfl rfl ?_
  refine ev_lcmp d_J_lmax_2 ?_
  refine ev_if_lt d_J_lmax_3 (fun c_3 => ?_) (fun c_3 => ?_)
  ·
    simp only [lc_lt] at c_3
    refine ev_lload_n d_J_lmax_10 rfl rfl ?_
    refine ev_lreturn d_J_lmax_11 rfl ?_
    rw [if_neg (i64_nle.mpr c_3)]; exact ⟨rfl, rfl, rfl⟩
  ·
    simp only [lc_lt] at c_3
    refine ev_lload_n d_J_lmax_6 rfl rfl ?_
    refine ev_goto d_J_lmax_7 ?_
    refine ev_lreturn d_J_lmax_11 rfl ?_
    rw [if_pos (i64_nlt.mp c_3)]; exact ⟨rfl, rfl, rfl⟩
theorem ct_X_cell (s u t f : Nat) : Ct G k_X_cell d 0 0 [.int (nI s), .int (nI u), .int (nI t), .int (nI f)] n μ (Rd (some (.int (nI (((s * 64 + u) * 7 + t) * 2 + f)))) n μ) := by
  refine Ct.ofp (r := 0) (ls := [some (.int (nI (s))), some (.int (nI (u))), some (.int (nI (t))), some (.int (nI (f)))]) rfl (Nat.le_of_ble_eq_true rfl) ?_
  refine ev_iload_n d_X_cell_0 rfl rfl ?_
  refine ev_bipush (v := (nI (64))) d_X_cell_1 (by decide) ?_
  refine ev_imul d_X_cell_3 ?_
  refine ev_topi (w := (nI (s * 64))) (pk_mul _ _) ?_
  refine ev_iload_n d_X_cell_4 rfl rfl ?_
  refine ev_iadd d_X_cell_5 ?_
  refine ev_topi (w := (nI ((s * 64) + u))) (nI_add _ _) ?_
  refine ev_bipush (v := (nI (7))) d_X_cell_6 (by decide) ?_
  refine ev_imul d_X_cell_8 ?_
  refine ev_topi (w := (nI (((s * 64) + u) * 7))) (pk_mul _ _) ?_
  refine ev_iload_n d_X_cell_9 rfl rfl ?_
  refine ev_iadd d_X_cell_10 ?_
  refine ev_topi (w := (nI ((((s * 64) + u) * 7) + t))) (nI_add _ _) ?_
  refine ev_iconst (v := (nI (2))) d_X_cell_11 (by decide) ?_
  refine ev_imul d_X_cell_12 ?_
  refine ev_topi (w := (nI (((((s * 64) + u) * 7) + t) * 2))) (pk_mul _ _) ?_
  refine ev_iload_n d_X_cell_13 rfl rfl ?_
  refine ev_iadd d_X_cell_14 ?_
  refine ev_topi (w := (nI ((((((s * 64) + u) * 7) + t) * 2) + f))) (nI_add _ _) ?_
  refine ev_ireturn d_X_cell_15 rfl rfl ?_
  exact ⟨rfl, rfl, rfl⟩
theorem ct_M_index (s u t : Nat) : Ct G k_M_index d 0 0 [.int (nI s), .int (nI u), .int (nI t)] n μ (Rd (some (.int (nI (512 * s + 64 * u + t)))) n μ) := by
  refine Ct.ofp (r := 0) (ls := [some (.int (nI (s))), some (.int (nI (u))), some (.int (nI (t)))]) rfl (Nat.le_of_ble_eq_true rfl) ?_
  refine ev_sipush (v := (nI (512))) d_M_index_0 (by decide) ?_
  refine ev_iload_n d_M_index_3 rfl rfl ?_
  refine ev_imul d_M_index_4 ?_
  refine ev_topi (w := (nI (512 * s))) (pk_mul _ _) ?_
  refine ev_bipush (v := (nI (64))) d_M_index_5 (by decide) ?_
  refine ev_iload_n d_M_index_7 rfl rfl ?_
  refine ev_imul d_M_index_8 ?_
  refine ev_topi (w := (nI (64 * u))) (pk_mul _ _) ?_
  refine ev_iadd d_M_index_9 ?_
  refine ev_topi (w := (nI ((512 * s) + (64 * u)))) (nI_add _ _) ?_
  refine ev_iload_n d_M_index_10 rfl rfl ?_
  refine ev_iadd d_M_index_11 ?_
  refine ev_topi (w := (nI (((512 * s) + (64 * u)) + t))) (nI_add _ _) ?_
  refine ev_ireturn d_M_index_12 rfl rfl ?_
  exact ⟨rfl, rfl, rfl⟩
theorem ct_X_touchingN : Ct G k_X_touching d 0 0 [.int (iI (-1))] n μ (Rd (some (.int (nI 6))) n μ) := by
  refine Ct.ofp (r := 0) (ls := [some (.int (iI ((-1))))]) rfl (Nat.le_of_ble_eq_true rfl) ?_
  refine ev_iload_n d_X_touching_0 rfl rfl ?_
  refine ev_iconst (v := (iI ((-1)))) d_X_touching_1 (by decide) ?_
  refine ev_icmp_ne d_X_touching_2 (fun c_2 => ?_) (fun c_2 => ?_)
  ·
    simp (disch := omega) only [nI_iI, iI_ltI, iI_leI, iI_eq, Int.not_lt, Int.not_le] at c_2
    exact absurd trivial c_2
  ·
    simp (disch := omega) only [nI_iI, iI_ltI, iI_leI, iI_eq, Int.not_lt, Int.not_le] at c_2
    refine ev_bipush (v := (nI (6))) d_X_touching_5 (by decide) ?_
    refine ev_goto d_X_touching_7 ?_
    refine ev_ireturn d_X_touching_11 rfl rfl ?_
    exact ⟨rfl, rfl, rfl⟩
theorem ct_X_touching (k : Nat) (hk : k < 6) : Ct G k_X_touching d 0 0 [.int (nI k)] n μ (Rd (some (.int (nI k))) n μ) := by
  refine Ct.ofp (r := 0) (ls := [some (.int (nI (k)))]) rfl (Nat.le_of_ble_eq_true rfl) ?_
  refine ev_iload_n d_X_touching_0 rfl rfl ?_
  refine ev_iconst (v := (iI ((-1)))) d_X_touching_1 (by decide) ?_
  refine ev_icmp_ne d_X_touching_2 (fun c_2 => ?_) (fun c_2 => ?_)
  ·
    simp (disch := omega) only [nI_iI, iI_ltI, iI_leI, iI_eq, Int.not_lt, Int.not_le] at c_2
    refine ev_iload_n d_X_touching_10 rfl rfl ?_
    refine ev_ireturn d_X_touching_11 rfl rfl ?_
    exact ⟨rfl, rfl, rfl⟩
  ·
    simp (disch := omega) only [nI_iI, iI_ltI, iI_leI, iI_eq, Int.not_lt, Int.not_le] at c_2
    omega
end ST
