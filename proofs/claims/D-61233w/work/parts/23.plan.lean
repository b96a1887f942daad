/-! ===== plans ===== -/
def PM (G : Gm) (n : Nat) (μ : Mem) (t : Nat) (l : List (Nat × Nat)) (S w ct : Nat) : Prop := t + 2 < n ∧ l.length ≤ 41 ∧ (∀ x ∈ l, x.1 ≤ 140 ∧ x.2 ≤ 40) ∧ (w ≤ 8000000 ∧ ct ≤ 8000000 ∧ S < 64) ∧ ∃ fc fb : Nat → Int32, μ t = ob 2 [.ref (G.1 + (t + 1)), .ref (G.1 + (t + 2)), .int (nI l.length), .int (nI S), .long (lN w), .long (lN ct)] ∧ μ (t + 1) = aI 41 fc ∧ μ (t + 2) = aI 41 fb ∧ ∀ k x, l[k]? = some x → fc k = nI x.1 ∧ fb k = nI x.2
theorem PM.frame {G : Gm} {n n' : Nat} {μ μ' : Mem} {t : Nat} {l : List (Nat × Nat)} {S w ct : Nat} (h : PM G n μ t l S w ct) (hn : n ≤ n') (hf : ∀ j, t ≤ j → j ≤ t + 2 → μ' j = μ j) : PM G n' μ' t l S w ct := by
  obtain ⟨h1, h2, h3, h4, fc, fb, p0, p1, p2, p3⟩ := h
  exact ⟨by omega, h2, h3, h4, fc, fb, by rw [hf t (by omega) (by omega)]; exact p0, by rw [hf (t + 1) (by omega) (by omega)]; exact p1, by rw [hf (t + 2) (by omega) (by omega)]; exact p2, p3⟩
/-- before: the first codes that differ -/
def lexB : List Nat → List Nat → Bool
  | x :: l, y :: r => if x = y then lexB l r else decide (x < y)
  | _, _ => false
theorem lexB_drop : ∀ (k : Nat) (l r : List Nat) (x y : Nat), l[k]? = some x → r[k]? = some y → lexB (l.drop k) (r.drop k) = if x = y then lexB (l.drop (k + 1)) (r.drop (k + 1)) else decide (x < y)
  | 0, a :: l, b :: r, x, y, h1, h2 => by
    simp at h1 h2
    subst h1; subst h2
    rfl
  | k + 1, a :: l, b :: r, x, y, h1, h2 => by
    simp only [List.getElem?_cons_succ] at h1 h2
    simpa using lexB_drop k l r x y h1 h2
  | k, [], r, x, y, h1, h2 => by simp at h1
  | k, a :: l, [], x, y, h1, h2 => by simp at h2
theorem lexB_nil {l r : List Nat} (h : l = [] ∨ r = []) : lexB l r = false := by
  rcases h with rfl | rfl
  · cases r <;> rfl
  · cases l <;> rfl
def gN (l : List (Nat × Nat)) (k : Nat) : Nat × Nat := l[k]?.getD (0, 0)
theorem gN_some {l : List (Nat × Nat)} {k : Nat} (h : k < l.length) : l[k]? = some (gN l k) := by
  unfold gN
  rw [List.getElem?_eq_getElem h]
  rfl
def betB (w1 c1 : Nat) (l1 : List Nat) (w2 c2 : Nat) (l2 : List Nat) : Bool := if w1 = w2 then (if c1 = c2 then lexB l1 l2 else decide (c1 < c2)) else decide (w2 < w1)
section PLN
variable {G : Gm} {d n : Nat} {μ : Mem}
theorem ct_I_init {t wd : Nat} {wo ce : Int64} (ht : t < n) (hm : μ t = ob 1 [.int 0, .long 0, .long 0, .int 0, .int 0, .int 0]) : Ct G k_I_init (d + 1) 0 0 [.ref (G.1 + t), .int (nI wd), .long wo, .long ce] n μ (fun o n' μ' => o = .inl none ∧ n' = n ∧ μ' = mset μ t (ob 1 [.int (nI wd), .long wo, .long ce, .int (iI (-1)), .int 0, .int (iI (-101))])) := by
  refine Ct.ofp (r := 0) (ls := [some (.ref (G.1 + t)), some (.int (nI wd)), some (.long wo), none, some (.long ce), none]) rfl (Nat.le_of_ble_eq_true rfl) ?_
  refine ev_aload_n d_I_init_0 rfl rfl ?_
  refine ev_objInit d_I_init_1 ml_I_3 (Nat.le_of_ble_eq_true rfl) ?_
  refine ev_aload_n d_I_init_4 rfl rfl ?_
  refine ev_iconst (v := iI (-1)) d_I_init_5 (by decide) ?_
  refine ev_putf (kf := 3) (T := F_I) (C := R_I) (N := 6) (ty0 := t_I) d_I_init_6 fl_I_9 rfl i_I t_I_ok n_I (by decide) rfl rfl rfl rfl ht hm (Nat.le_of_ble_eq_true rfl) ?_
  refine ev_aload_n d_I_init_9 rfl rfl ?_
  refine ev_bipush (v := iI (-101)) d_I_init_10 (by decide) ?_
  refine ev_putf (kf := 5) (T := F_I) (C := R_I) (N := 6) (ty0 := t_I) d_I_init_12 fl_I_15 rfl i_I t_I_ok n_I (by decide) rfl rfl rfl rfl ht (mset_eq _ _ _) (Nat.le_of_ble_eq_true rfl) ?_
  rw [mset_mset]
  refine ev_aload_n d_I_init_15 rfl rfl ?_
  refine ev_iload_n d_I_init_16 rfl rfl ?_
  refine ev_putF (kf := 0) (T := F_I) (C := R_I) (N := 6) (ty0 := t_I) d_I_init_17 fl_I_18 rfl i_I t_I_ok n_I (by decide) rfl rfl rfl rfl rfl rfl ht (mset_eq _ _ _) (Nat.le_of_ble_eq_true rfl) ?_
  rw [mset_mset]
  refine ev_aload_n d_I_init_20 rfl rfl ?_
  refine ev_lload_n d_I_init_21 rfl rfl ?_
  refine ev_putF (kf := 1) (T := F_I) (C := R_I) (N := 6) (ty0 := t_I) d_I_init_22 fl_I_21 rfl i_I t_I_ok n_I (by decide) rfl rfl rfl rfl rfl rfl ht (mset_eq _ _ _) (Nat.le_of_ble_eq_true rfl) ?_
  rw [mset_mset]
  refine ev_aload_n d_I_init_25 rfl rfl ?_
  refine ev_lload d_I_init_26 rfl ?_
  refine ev_putF (kf := 2) (T := F_I) (C := R_I) (N := 6) (ty0 := t_I) d_I_init_28 fl_I_25 rfl i_I t_I_ok n_I (by decide) rfl rfl rfl rfl rfl rfl ht (mset_eq _ _ _) (Nat.le_of_ble_eq_true rfl) ?_
  rw [mset_mset]
  refine ev_return d_I_init_31 rfl ?_
  exact ⟨rfl, rfl, rfl⟩
/-- a new plan: its two arrays come -/
theorem ct_P_init {t : Nat} (ht : t < n) (hm : μ t = ob 2 [.null, .null, .int 0, .int 0, .long 0, .long 0]) : Ct G k_P_init (d + 1) 2 82 [.ref (G.1 + t)] n μ (fun o n' μ' => o = .inl none ∧ n' = n + 2 ∧ μ' t = ob 2 [.ref (G.1 + n), .ref (G.1 + (n + 1)), .int 0, .int 0, .long 0, .long 0] ∧ μ' n = aI 41 (fun _ => 0) ∧ μ' (n + 1) = aI 41 (fun _ => 0) ∧ ∀ j, j < n → j ≠ t → μ' j = μ j) := by
  refine Ct.ofp (r := 0) (ls := [some (.ref (G.1 + t))]) rfl (Nat.le_of_ble_eq_true rfl) ?_
  refine ev_aload_n d_P_init_0 rfl rfl ?_
  refine ev_objInit d_P_init_1 ml_P_1 (Nat.le_of_ble_eq_true rfl) ?_
  refine ev_aload_n d_P_init_4 rfl rfl ?_
  refine ev_bipush (v := nI 41) d_P_init_5 (by decide) ?_
  refine ev_newI (rc := 1) (rs := 41) (N := 41) d_P_init_7 (by decide) ?_
  refine ev_putF (kf := 0) (T := F_P) (C := R_P) (N := 6) (ty0 := t_P) d_P_init_9 fl_P_7 rfl i_P t_P_ok n_P (by decide) rfl rfl rfl rfl rfl rfl (by omega) ((mset_ne _ _ (by omega)).trans hm) (Nat.le_of_ble_eq_true rfl) ?_
  refine ev_aload_n d_P_init_12 rfl rfl ?_
  refine ev_bipush (v := nI 41) d_P_init_13 (by decide) ?_
  refine ev_newI (rc := 0) (rs := 0) (N := 41) d_P_init_15 (by decide) ?_
  refine ev_putF (kf := 1) (T := F_P) (C := R_P) (N := 6) (ty0 := t_P) d_P_init_17 fl_P_13 rfl i_P t_P_ok n_P (by decide) rfl rfl rfl rfl rfl rfl (by omega) ((mset_ne _ _ (by omega)).trans (mset_eq _ _ _)) (Nat.le_of_ble_eq_true rfl) ?_
  refine ev_return d_P_init_20 rfl ?_
  refine ⟨rfl, rfl, mset_eq _ _ _, ?_, ?_, fun j h1 h2 => ?_⟩
  · rw [mset_ne _ _ (by omega), mset_ne _ _ (by omega), mset_ne _ _ (by omega), mset_eq]
  · rw [mset_ne _ _ (by omega), mset_eq]
  · rw [mset_ne _ _ h2, mset_ne _ _ (by omega), mset_ne _ _ h2, mset_ne _ _ (by omega)]
/-- one piece more -/
theorem ct_P_add {t x y : Nat} {l : List (Nat × Nat)} {S w ct : Nat} (h : PM G n μ t l S w ct) (hl : l.length < 41) (hx : x ≤ 140) (hy : y ≤ 40) : Ct G k_P_add d 0 0 [.ref (G.1 + t), .int (nI x), .int (nI y)] n μ (fun o n' μ' => o = .inl none ∧ n' = n ∧ PM G n μ' t (l ++ [(x, y)]) S w ct ∧ ∀ j, ¬ (t ≤ j ∧ j ≤ t + 2) → μ' j = μ j) := by
  obtain ⟨h1, h2, h3, h4, fc, fb, p0, p1, p2, p3⟩ := h
  refine Ct.ofp (r := 0) (ls := [some (.ref (G.1 + t)), some (.int (nI x)), some (.int (nI y))]) rfl (Nat.le_of_ble_eq_true rfl) ?_
  refine ev_aload_n d_P_add_0 rfl rfl ?_
  refine ev_getf (kf := 0) (T := F_P) (C := R_P) (N := 6) d_P_add_1 fl_P_7 rfl i_P (by decide) (by omega) p0 rfl ?_
  refine ev_aload_n d_P_add_4 rfl rfl ?_
  refine ev_getf (kf := 2) (T := F_P) (C := R_P) (N := 6) d_P_add_5 fl_P_16 rfl i_P (by decide) (by omega) p0 rfl ?_
  refine ev_iload_n d_P_add_8 rfl rfl ?_
  refine ev_iast (j := l.length) d_P_add_9 (by omega) p1 hl (by decide) ?_
  have p0 := (mset_ne μ (t := t + 1) (j := t) (aI 41 (upd fc l.length (nI x))) (by omega)).trans p0
  refine ev_aload_n d_P_add_10 rfl rfl ?_
  refine ev_getf (kf := 1) (T := F_P) (C := R_P) (N := 6) d_P_add_11 fl_P_13 rfl i_P (by decide) (by omega) p0 rfl ?_
  refine ev_aload_n d_P_add_14 rfl rfl ?_
  refine ev_dup d_P_add_15 rfl ?_
  refine ev_getf (kf := 2) (T := F_P) (C := R_P) (N := 6) d_P_add_16 fl_P_16 rfl i_P (by decide) (by omega) p0 rfl ?_
  refine ev_dup_x1 d_P_add_19 rfl rfl ?_
  refine ev_iconst (v := nI 1) d_P_add_20 (by decide) ?_
  refine ev_iadd d_P_add_21 ?_
  refine ev_topi (w := nI (l.length + 1)) (nI_add _ _) ?_
  refine ev_putf (kf := 2) (T := F_P) (C := R_P) (N := 6) (ty0 := t_P) d_P_add_22 fl_P_16 rfl i_P t_P_ok n_P (by decide) rfl rfl rfl rfl (by omega) p0 (Nat.le_of_ble_eq_true rfl) ?_
  refine ev_iload_n d_P_add_25 rfl rfl ?_
  refine ev_iast (j := l.length) (f := fb) d_P_add_26 (by omega) (by rw [mset_ne _ _ (by omega), mset_ne _ _ (by omega)]; exact p2) hl (by decide) ?_
  refine ev_return d_P_add_27 rfl ?_
  refine ⟨rfl, rfl, ⟨h1, by simp; omega, fun z hz => ?_, h4, upd fc l.length (nI x), upd fb l.length (nI y), ?_, ?_, mset_eq _ _ _, fun k z hz => ?_⟩, fun j hj => ?_⟩
  · rcases List.mem_append.mp hz with q | q
    · exact h3 z q
    · rw [List.mem_singleton.mp q]; exact ⟨hx, hy⟩
  · rw [mset_ne _ _ (by omega), mset_eq, List.length_append]; rfl
  · rw [mset_ne _ _ (by omega), mset_ne _ _ (by omega), mset_eq]
  · rcases Nat.lt_or_ge k l.length with q | q
    · rw [List.getElem?_append_left q] at hz
      have := p3 k z hz
      unfold upd
      rw [if_neg (by omega), if_neg (by omega)]; exact this
    · rw [List.getElem?_append_right q] at hz
      have hk : k - l.length < 1 := (List.getElem?_eq_some_iff.mp hz).1
      have : k = l.length := by omega
      subst this
      rw [Nat.sub_self] at hz
      cases hz
      unfold upd
      rw [if_pos rfl, if_pos rfl]; exact ⟨rfl, rfl⟩
  · rw [mset_ne _ _ (by omega), mset_ne _ _ (by omega), mset_ne _ _ (by omega)]
theorem lp_P_isBefore {t1 t2 : Nat} {l1 l2 : List (Nat × Nat)} {S1 S2 w1 w2 c1 c2 : Nat} (hp1 : PM G n μ t1 l1 S1 w1 c1) (hp2 : PM G n μ t2 l2 S2 w2 c2) : ∀ (m : Nat) (k : Nat), k ≤ l1.length → l1.length < k + m → lexB (l1.map Prod.fst) (l2.map Prod.fst) = lexB ((l1.map Prod.fst).drop k) ((l2.map Prod.fst).drop k) → Ev G k_P_isBefore (d) 0 0 2 [some (.ref (G.1 + t1)), some (.ref (G.1 + t2)), some (.int (nI (k)))] [] n μ ((Rd (some (.int (b2 (lexB (l1.map Prod.fst) (l2.map Prod.fst))))) n μ)) := by
  obtain ⟨h11, h12, h13, h14, fc1, fb1, p01, p11, p21, p31⟩ := id hp1
  obtain ⟨h21, h22, h23, h24, fc2, fb2, p02, p12, p22, p32⟩ := id hp2
  generalize hQ : (Rd (some (.int (b2 (lexB (l1.map Prod.fst) (l2.map Prod.fst))))) n μ) = Q
  intro m
  induction m with
  | zero =>
    intro k h1 h2
    exact absurd h2 (by omega)
  | succ m ih =>
    intro k hi him hk
    refine ev_iload_n d_P_isBefore_2 rfl rfl ?_
    refine ev_aload_n d_P_isBefore_3 rfl rfl ?_
    refine ev_getf (kf := 2) (T := F_P) (C := R_P) (N := 6) (v := .int (nI (l1.length))) d_P_isBefore_4 fl_P_16 rfl i_P (by decide) (by omega) p01 rfl ?_
    refine ev_icmp_ge d_P_isBefore_7 (fun c_7 => ?_) (fun c_7 => ?_)
    ·
      simp (disch := omega) only [nI_ltI, nI_leI, nI_eq, Nat.not_lt, Nat.not_le] at c_7
      refine ev_iload_n d_P_isBefore_39 rfl rfl ?_
      refine ev_aload_n d_P_isBefore_40 rfl rfl ?_
      refine ev_getf (kf := 2) (T := F_P) (C := R_P) (N := 6) (v := .int (nI (l1.length))) d_P_isBefore_41 fl_P_16 rfl i_P (by decide) (by omega) p01 rfl ?_
      refine ev_icmp_ge d_P_isBefore_44 (fun c_44 => ?_) (fun c_44 => ?_)
      ·
        simp (disch := omega) only [nI_ltI, nI_leI, nI_eq, Nat.not_lt, Nat.not_le] at c_44
        refine ev_iconst (v := (nI (0))) d_P_isBefore_74 (by decide) ?_
        refine ev_ireturn d_P_isBefore_75 rfl rfl ?_
        subst hQ
        refine ret0 ?_
        rw [hk]
        first
        | (rw [hlx, if_neg (by omega)]; simp; omega)
        | exact lexB_nil (by simp only [List.drop_eq_nil_iff, List.length_map]; omega)
      ·
        simp (disch := omega) only [nI_ltI, nI_leI, nI_eq, Nat.not_lt, Nat.not_le] at c_44
        refine ev_iload_n d_P_isBefore_47 rfl rfl ?_
        refine ev_aload_n d_P_isBefore_48 rfl rfl ?_
        refine ev_getf (kf := 2) (T := F_P) (C := R_P) (N := 6) (v := .int (nI (l2.length))) d_P_isBefore_49 fl_P_16 rfl i_P (by decide) (by omega) p02 rfl ?_
        refine ev_icmp_ge d_P_isBefore_52 (fun c_52 => ?_) (fun c_52 => ?_)
        ·
          simp (disch := omega) only [nI_ltI, nI_leI, nI_eq, Nat.not_lt, Nat.not_le] at c_52
          refine ev_iconst (v := (nI (0))) d_P_isBefore_74 (by decide) ?_
          refine ev_ireturn d_P_isBefore_75 rfl rfl ?_
          subst hQ
          refine ret0 ?_
          rw [hk]
          first
          | (rw [hlx, if_neg (by omega)]; simp; omega)
          | exact lexB_nil (by simp only [List.drop_eq_nil_iff, List.length_map]; omega)
        ·
          simp (disch := omega) only [nI_ltI, nI_leI, nI_eq, Nat.not_lt, Nat.not_le] at c_52
          have hy1 := gN_some c_44
          have hy2 := gN_some c_52
          have hb1 := h13 _ (List.mem_of_getElem? hy1)
          have hb2 := h23 _ (List.mem_of_getElem? hy2)
          have hlx := lexB_drop k (l1.map Prod.fst) (l2.map Prod.fst) (gN l1 k).1 (gN l2 k).1 (by rw [List.getElem?_map, hy1]; rfl) (by rw [List.getElem?_map, hy2]; rfl)
          refine ev_aload_n d_P_isBefore_55 rfl rfl ?_
          refine ev_getf (kf := 0) (T := F_P) (C := R_P) (N := 6) (v := .ref (G.1 + (t1 + 1))) d_P_isBefore_56 fl_P_7 rfl i_P (by decide) (by omega) p01 rfl ?_
          refine ev_iload_n d_P_isBefore_59 rfl rfl ?_
          refine ev_iald (j := k) d_P_isBefore_60 (by omega) p11 (by omega) (by decide) ?_
          refine ev_topi (w := nI (gN l1 k).1) (p31 k _ hy1).1 ?_
          refine ev_aload_n d_P_isBefore_61 rfl rfl ?_
          refine ev_getf (kf := 0) (T := F_P) (C := R_P) (N := 6) (v := .ref (G.1 + (t2 + 1))) d_P_isBefore_62 fl_P_7 rfl i_P (by decide) (by omega) p02 rfl ?_
          refine ev_iload_n d_P_isBefore_65 rfl rfl ?_
          refine ev_iald (j := k) d_P_isBefore_66 (by omega) p12 (by omega) (by decide) ?_
          refine ev_topi (w := nI (gN l2 k).1) (p32 k _ hy2).1 ?_
          refine ev_icmp_ge d_P_isBefore_67 (fun c_67 => ?_) (fun c_67 => ?_)
          ·
            simp (disch := omega) only [nI_ltI, nI_leI, nI_eq, Nat.not_lt, Nat.not_le] at c_67
            refine ev_iconst (v := (nI (0))) d_P_isBefore_74 (by decide) ?_
            refine ev_ireturn d_P_isBefore_75 rfl rfl ?_
            subst hQ
            refine ret0 ?_
            rw [hk]
            first
            | (rw [hlx, if_neg (by omega)]; simp; omega)
            | exact lexB_nil (by simp only [List.drop_eq_nil_iff, List.length_map]; omega)
          ·
            simp (disch := omega) only [nI_ltI, nI_leI, nI_eq, Nat.not_lt, Nat.not_le] at c_67
            refine ev_iconst (v := (nI (1))) d_P_isBefore_70 (by decide) ?_
            refine ev_goto d_P_isBefore_71 ?_
            refine ev_ireturn d_P_isBefore_75 rfl rfl ?_
            subst hQ
            exact ret1 (by rw [hk, hlx, if_neg (by omega)]; simp; omega)
    ·
      simp (disch := omega) only [nI_ltI, nI_leI, nI_eq, Nat.not_lt, Nat.not_le] at c_7
      refine ev_iload_n d_P_isBefore_10 rfl rfl ?_
      refine ev_aload_n d_P_isBefore_11 rfl rfl ?_
      refine ev_getf (kf := 2) (T := F_P) (C := R_P) (N := 6) (v := .int (nI (l2.length))) d_P_isBefore_12 fl_P_16 rfl i_P (by decide) (by omega) p02 rfl ?_
      refine ev_icmp_ge d_P_isBefore_15 (fun c_15 => ?_) (fun c_15 => ?_)
      ·
        simp (disch := omega) only [nI_ltI, nI_leI, nI_eq, Nat.not_lt, Nat.not_le] at c_15
        refine ev_iload_n d_P_isBefore_39 rfl rfl ?_
        refine ev_aload_n d_P_isBefore_40 rfl rfl ?_
        refine ev_getf (kf := 2) (T := F_P) (C := R_P) (N := 6) (v := .int (nI (l1.length))) d_P_isBefore_41 fl_P_16 rfl i_P (by decide) (by omega) p01 rfl ?_
        refine ev_icmp_ge d_P_isBefore_44 (fun c_44 => ?_) (fun c_44 => ?_)
        ·
          simp (disch := omega) only [nI_ltI, nI_leI, nI_eq, Nat.not_lt, Nat.not_le] at c_44
          refine ev_iconst (v := (nI (0))) d_P_isBefore_74 (by decide) ?_
          refine ev_ireturn d_P_isBefore_75 rfl rfl ?_
          subst hQ
          refine ret0 ?_
          rw [hk]
          first
          | (rw [hlx, if_neg (by omega)]; simp; omega)
          | exact lexB_nil (by simp only [List.drop_eq_nil_iff, List.length_map]; omega)
        ·
          simp (disch := omega) only [nI_ltI, nI_leI, nI_eq, Nat.not_lt, Nat.not_le] at c_44
          refine ev_iload_n d_P_isBefore_47 rfl rfl ?_
          refine ev_aload_n d_P_isBefore_48 rfl rfl ?_
          refine ev_getf (kf := 2) (T := F_P) (C := R_P) (N := 6) (v := .int (nI (l2.length))) d_P_isBefore_49 fl_P_16 rfl i_P (by decide) (by omega) p02 rfl ?_
          refine ev_icmp_ge d_P_isBefore_52 (fun c_52 => ?_) (fun c_52 => ?_)
          ·
            simp (disch := omega) only [nI_ltI, nI_leI, nI_eq, Nat.not_lt, Nat.not_le] at c_52
            refine ev_iconst (v := (nI (0))) d_P_isBefore_74 (by decide) ?_
            refine ev_ireturn d_P_isBefore_75 rfl rfl ?_
            subst hQ
            refine ret0 ?_
            rw [hk]
            first
            | (rw [hlx, if_neg (by omega)]; simp; omega)
            | exact lexB_nil (by simp only [List.drop_eq_nil_iff, List.length_map]; omega)
          ·
            simp (disch := omega) only [nI_ltI, nI_leI, nI_eq, Nat.not_lt, Nat.not_le] at c_52
            have hy1 := gN_some c_44
            have hy2 := gN_some c_52
            have hb1 := h13 _ (List.mem_of_getElem? hy1)
            have hb2 := h23 _ (List.mem_of_getElem? hy2)
            have hlx := lexB_drop k (l1.map Prod.fst) (l2.map Prod.fst) (gN l1 k).1 (gN l2 k).1 (by rw [List.getElem?_map, hy1]; rfl) (by rw [List.getElem?_map, hy2]; rfl)
            refine ev_aload_n d_P_isBefore_55 rfl rfl ?_
            refine ev_getf (kf := 0) (T := F_P) (C := R_P) (N := 6) (v := .ref (G.1 + (t1 + 1))) d_P_isBefore_56 fl_P_7 rfl i_P (by decide) (by omega) p01 rfl ?_
            refine ev_iload_n d_P_isBefore_59 rfl rfl ?_
            refine ev_iald (j := k) d_P_isBefore_60 (by omega) p11 (by omega) (by decide) ?_
            refine ev_topi (w := nI (gN l1 k).1) (p31 k _ hy1).1 ?_
            refine ev_aload_n d_P_isBefore_61 rfl rfl ?_
            refine ev_getf (kf := 0) (T := F_P) (C := R_P) (N := 6) (v := .ref (G.1 + (t2 + 1))) d_P_isBefore_62 fl_P_7 rfl i_P (by decide) (by omega) p02 rfl ?_
            refine ev_iload_n d_P_isBefore_65 rfl rfl ?_
            refine ev_iald (j := k) d_P_isBefore_66 (by omega) p12 (by omega) (by decide) ?_
            refine ev_topi (w := nI (gN l2 k).1) (p32 k _ hy2).1 ?_
            refine ev_icmp_ge d_P_isBefore_67 (fun c_67 => ?_) (fun c_67 => ?_)
            ·
              simp (disch := omega) only [nI_ltI, nI_leI, nI_eq, Nat.not_lt, Nat.not_le] at c_67
              refine ev_iconst (v := (nI (0))) d_P_isBefore_74 (by decide) ?_
              refine ev_ireturn d_P_isBefore_75 rfl rfl ?_
              subst hQ
              refine ret0 ?_
              rw [hk]
              first
              | (rw [hlx, if_neg (by omega)]; simp; omega)
              | exact lexB_nil (by simp only [List.drop_eq_nil_iff, List.length_map]; omega)
            ·
              simp (disch := omega) only [nI_ltI, nI_leI, nI_eq, Nat.not_lt, Nat.not_le] at c_67
              refine ev_iconst (v := (nI (1))) d_P_isBefore_70 (by decide) ?_
              refine ev_goto d_P_isBefore_71 ?_
              refine ev_ireturn d_P_isBefore_75 rfl rfl ?_
              subst hQ
              exact ret1 (by rw [hk, hlx, if_neg (by omega)]; simp; omega)
      ·
        simp (disch := omega) only [nI_ltI, nI_leI, nI_eq, Nat.not_lt, Nat.not_le] at c_15
        have hy1 := gN_some c_7
        have hy2 := gN_some c_15
        have hb1 := h13 _ (List.mem_of_getElem? hy1)
        have hb2 := h23 _ (List.mem_of_getElem? hy2)
        have hlx := lexB_drop k (l1.map Prod.fst) (l2.map Prod.fst) (gN l1 k).1 (gN l2 k).1 (by rw [List.getElem?_map, hy1]; rfl) (by rw [List.getElem?_map, hy2]; rfl)
        refine ev_aload_n d_P_isBefore_18 rfl rfl ?_
        refine ev_getf (kf := 0) (T := F_P) (C := R_P) (N := 6) (v := .ref (G.1 + (t1 + 1))) d_P_isBefore_19 fl_P_7 rfl i_P (by decide) (by omega) p01 rfl ?_
        refine ev_iload_n d_P_isBefore_22 rfl rfl ?_
        refine ev_iald (j := k) d_P_isBefore_23 (by omega) p11 (by omega) (by decide) ?_
        refine ev_topi (w := nI (gN l1 k).1) (p31 k _ hy1).1 ?_
        refine ev_aload_n d_P_isBefore_24 rfl rfl ?_
        refine ev_getf (kf := 0) (T := F_P) (C := R_P) (N := 6) (v := .ref (G.1 + (t2 + 1))) d_P_isBefore_25 fl_P_7 rfl i_P (by decide) (by omega) p02 rfl ?_
        refine ev_iload_n d_P_isBefore_28 rfl rfl ?_
        refine ev_iald (j := k) d_P_isBefore_29 (by omega) p12 (by omega) (by decide) ?_
        refine ev_topi (w := nI (gN l2 k).1) (p32 k _ hy2).1 ?_
        refine ev_icmp_ne d_P_isBefore_30 (fun c_30 => ?_) (fun c_30 => ?_)
        ·
          simp (disch := omega) only [nI_ltI, nI_leI, nI_eq, Nat.not_lt, Nat.not_le] at c_30
          refine ev_iload_n d_P_isBefore_39 rfl rfl ?_
          refine ev_aload_n d_P_isBefore_40 rfl rfl ?_
          refine ev_getf (kf := 2) (T := F_P) (C := R_P) (N := 6) (v := .int (nI (l1.length))) d_P_isBefore_41 fl_P_16 rfl i_P (by decide) (by omega) p01 rfl ?_
          refine ev_icmp_ge d_P_isBefore_44 (fun c_44 => ?_) (fun c_44 => ?_)
          ·
            simp (disch := omega) only [nI_ltI, nI_leI, nI_eq, Nat.not_lt, Nat.not_le] at c_44
            refine ev_iconst (v := (nI (0))) d_P_isBefore_74 (by decide) ?_
            refine ev_ireturn d_P_isBefore_75 rfl rfl ?_
            subst hQ
            refine ret0 ?_
            rw [hk]
            first
            | (rw [hlx, if_neg (by omega)]; simp; omega)
            | exact lexB_nil (by simp only [List.drop_eq_nil_iff, List.length_map]; omega)
          ·
            simp (disch := omega) only [nI_ltI, nI_leI, nI_eq, Nat.not_lt, Nat.not_le] at c_44
            refine ev_iload_n d_P_isBefore_47 rfl rfl ?_
            refine ev_aload_n d_P_isBefore_48 rfl rfl ?_
            refine ev_getf (kf := 2) (T := F_P) (C := R_P) (N := 6) (v := .int (nI (l2.length))) d_P_isBefore_49 fl_P_16 rfl i_P (by decide) (by omega) p02 rfl ?_
            refine ev_icmp_ge d_P_isBefore_52 (fun c_52 => ?_) (fun c_52 => ?_)
            ·
              simp (disch := omega) only [nI_ltI, nI_leI, nI_eq, Nat.not_lt, Nat.not_le] at c_52
              refine ev_iconst (v := (nI (0))) d_P_isBefore_74 (by decide) ?_
              refine ev_ireturn d_P_isBefore_75 rfl rfl ?_
              subst hQ
              refine ret0 ?_
              rw [hk]
              first
              | (rw [hlx, if_neg (by omega)]; simp; omega)
              | exact lexB_nil (by simp only [List.drop_eq_nil_iff, List.length_map]; omega)
            ·
              simp (disch := omega) only [nI_ltI, nI_leI, nI_eq, Nat.not_lt, Nat.not_le] at c_52
              have hy1 := gN_some c_44
              have hy2 := gN_some c_52
              have hb1 := h13 _ (List.mem_of_getElem? hy1)
              have hb2 := h23 _ (List.mem_of_getElem? hy2)
              have hlx := lexB_drop k (l1.map Prod.fst) (l2.map Prod.fst) (gN l1 k).1 (gN l2 k).1 (by rw [List.getElem?_map, hy1]; rfl) (by rw [List.getElem?_map, hy2]; rfl)
              refine ev_aload_n d_P_isBefore_55 rfl rfl ?_
              refine ev_getf (kf := 0) (T := F_P) (C := R_P) (N := 6) (v := .ref (G.1 + (t1 + 1))) d_P_isBefore_56 fl_P_7 rfl i_P (by decide) (by omega) p01 rfl ?_
              refine ev_iload_n d_P_isBefore_59 rfl rfl ?_
              refine ev_iald (j := k) d_P_isBefore_60 (by omega) p11 (by omega) (by decide) ?_
              refine ev_topi (w := nI (gN l1 k).1) (p31 k _ hy1).1 ?_
              refine ev_aload_n d_P_isBefore_61 rfl rfl ?_
              refine ev_getf (kf := 0) (T := F_P) (C := R_P) (N := 6) (v := .ref (G.1 + (t2 + 1))) d_P_isBefore_62 fl_P_7 rfl i_P (by decide) (by omega) p02 rfl ?_
              refine ev_iload_n d_P_isBefore_65 rfl rfl ?_
              refine ev_iald (j := k) d_P_isBefore_66 (by omega) p12 (by omega) (by decide) ?_
              refine ev_topi (w := nI (gN l2 k).1) (p32 k _ hy2).1 ?_
              refine ev_icmp_ge d_P_isBefore_67 (fun c_67 => ?_) (fun c_67 => ?_)
              ·
                simp (disch := omega) only [nI_ltI, nI_leI, nI_eq, Nat.not_lt, Nat.not_le] at c_67
                refine ev_iconst (v := (nI (0))) d_P_isBefore_74 (by decide) ?_
                refine ev_ireturn d_P_isBefore_75 rfl rfl ?_
                subst hQ
                refine ret0 ?_
                rw [hk]
                first
                | (rw [hlx, if_neg (by omega)]; simp; omega)
                | exact lexB_nil (by simp only [List.drop_eq_nil_iff, List.length_map]; omega)
              ·
                simp (disch := omega) only [nI_ltI, nI_leI, nI_eq, Nat.not_lt, Nat.not_le] at c_67
                refine ev_iconst (v := (nI (1))) d_P_isBefore_70 (by decide) ?_
                refine ev_goto d_P_isBefore_71 ?_
                refine ev_ireturn d_P_isBefore_75 rfl rfl ?_
                subst hQ
                exact ret1 (by rw [hk, hlx, if_neg (by omega)]; simp; omega)
        ·
          simp (disch := omega) only [nI_ltI, nI_leI, nI_eq, Nat.not_lt, Nat.not_le] at c_30
          refine ev_iinc (v := (nI (k + 1))) (ls' := [_, _, _]) d_P_isBefore_33 rfl (nI_1 _) (by decide) rfl rfl ?_
          refine ev_goto d_P_isBefore_36 ?_
          exact ih (k + 1) (by omega) (by omega) (by rw [hk, hlx, if_pos c_30])
theorem ct_P_isBefore {t1 t2 : Nat} {l1 l2 : List (Nat × Nat)} {S1 S2 w1 w2 c1 c2 : Nat} (hp1 : PM G n μ t1 l1 S1 w1 c1) (hp2 : PM G n μ t2 l2 S2 w2 c2) : Ct G k_P_isBefore d 0 0 [.ref (G.1 + t1), .ref (G.1 + t2)] n μ (Rd (some (.int (b2 (lexB (l1.map Prod.fst) (l2.map Prod.fst))))) n μ) := by
  obtain ⟨h11, h12, h13, h14, fc1, fb1, p01, p11, p21, p31⟩ := id hp1
  obtain ⟨h21, h22, h23, h24, fc2, fb2, p02, p12, p22, p32⟩ := id hp2
  generalize hQ : (Rd (some (.int (b2 (lexB (l1.map Prod.fst) (l2.map Prod.fst))))) n μ) = Q
  refine Ct.ofp (r := 1) (ls := [some (.ref (G.1 + t1)), some (.ref (G.1 + t2)), none]) rfl (Nat.le_of_ble_eq_true rfl) ?_
  refine ev_iconst (v := (nI (0))) d_P_isBefore_0 (by decide) ?_
  refine ev_istore_n (ls' := [_, _, _]) d_P_isBefore_1 rfl (by decide) rfl rfl ?_
  subst hQ
  exact lp_P_isBefore hp1 hp2 (l1.length + 1) 0 (by omega) (by omega) rfl
theorem ct_P_isBetter {t1 t2 : Nat} {l1 l2 : List (Nat × Nat)} {S1 S2 w1 w2 c1 c2 : Nat} (hp1 : PM G n μ t1 l1 S1 w1 c1) (hp2 : PM G n μ t2 l2 S2 w2 c2) : Ct G k_P_isBetter (d + 1) 0 0 [.ref (G.1 + t1), .ref (G.1 + t2)] n μ (Rd (some (.int (b2 (betB w1 c1 (l1.map Prod.fst) w2 c2 (l2.map Prod.fst))))) n μ) := by
  obtain ⟨h11, h12, h13, h14, fc1, fb1, p01, p11, p21, p31⟩ := id hp1
  obtain ⟨h21, h22, h23, h24, fc2, fb2, p02, p12, p22, p32⟩ := id hp2
  generalize hQ : (Rd (some (.int (b2 (betB w1 c1 (l1.map Prod.fst) w2 c2 (l2.map Prod.fst))))) n μ) = Q
  refine Ct.ofp (r := 0) (ls := [some (.ref (G.1 + t1)), some (.ref (G.1 + t2))]) rfl (Nat.le_of_ble_eq_true rfl) ?_
  refine ev_aload_n d_P_isBetter_0 rfl rfl ?_
  refine ev_getf (kf := 4) (T := F_P) (C := R_P) (N := 6) (v := .long (lN (w1))) d_P_isBetter_1 fl_P_20 rfl i_P (by decide) (by omega) p01 rfl ?_
  refine ev_aload_n d_P_isBetter_4 rfl rfl ?_
  refine ev_getf (kf := 4) (T := F_P) (C := R_P) (N := 6) (v := .long (lN (w2))) d_P_isBetter_5 fl_P_20 rfl i_P (by decide) (by omega) p02 rfl ?_
  refine ev_lcmp d_P_isBetter_8 ?_
  refine ev_if_eq d_P_isBetter_9 (fun c_9 => ?_) (fun c_9 => ?_)
  ·
    simp (disch := omega) only [lc_eq, lN_eq, lN_le, lN_lt] at c_9
    refine ev_aload_n d_P_isBetter_32 rfl rfl ?_
    refine ev_getf (kf := 5) (T := F_P) (C := R_P) (N := 6) (v := .long (lN (c1))) d_P_isBetter_33 fl_P_24 rfl i_P (by decide) (by omega) p01 rfl ?_
    refine ev_aload_n d_P_isBetter_36 rfl rfl ?_
    refine ev_getf (kf := 5) (T := F_P) (C := R_P) (N := 6) (v := .long (lN (c2))) d_P_isBetter_37 fl_P_24 rfl i_P (by decide) (by omega) p02 rfl ?_
    refine ev_lcmp d_P_isBetter_40 ?_
    refine ev_if_eq d_P_isBetter_41 (fun c_41 => ?_) (fun c_41 => ?_)
    ·
      simp (disch := omega) only [lc_eq, lN_eq, lN_le, lN_lt] at c_41
      refine ev_aload_n d_P_isBetter_64 rfl rfl ?_
      refine ev_aload_n d_P_isBetter_65 rfl rfl ?_
      refine cv (k' := k_P_isBefore) (As := [.ref (G.1 + t2)]) (stk := []) d_P_isBetter_66 ml_P_27 kk_P_isBefore rfl rfl (Nat.le_of_ble_eq_true rfl) (by omega) p01 rfl rfl (ct_P_isBefore (d := d) hp1 hp2) (rd ?_)
      refine ev_ireturn d_P_isBetter_69 rfl (b2_nar _) ?_
      subst hQ
      exact retb (by unfold betB; rw [if_pos c_9, if_pos c_41])
    ·
      simp (disch := omega) only [lc_eq, lN_eq, lN_le, lN_lt] at c_41
      refine ev_aload_n d_P_isBetter_44 rfl rfl ?_
      refine ev_getf (kf := 5) (T := F_P) (C := R_P) (N := 6) (v := .long (lN (c1))) d_P_isBetter_45 fl_P_24 rfl i_P (by decide) (by omega) p01 rfl ?_
      refine ev_aload_n d_P_isBetter_48 rfl rfl ?_
      refine ev_getf (kf := 5) (T := F_P) (C := R_P) (N := 6) (v := .long (lN (c2))) d_P_isBetter_49 fl_P_24 rfl i_P (by decide) (by omega) p02 rfl ?_
      refine ev_lcmp d_P_isBetter_52 ?_
      refine ev_if_ge d_P_isBetter_53 (fun c_53 => ?_) (fun c_53 => ?_)
      ·
        simp (disch := omega) only [lc_ge, lN_eq, lN_le, lN_lt] at c_53
        refine ev_iconst (v := (nI (0))) d_P_isBetter_60 (by decide) ?_
        refine ev_goto d_P_isBetter_61 ?_
        refine ev_ireturn d_P_isBetter_69 rfl rfl ?_
        subst hQ
        exact ret0 (by unfold betB; rw [if_pos c_9, if_neg c_41]; simp; omega)
      ·
        simp (disch := omega) only [lc_ge, lN_eq, lN_le, lN_lt] at c_53
        refine ev_iconst (v := (nI (1))) d_P_isBetter_56 (by decide) ?_
        refine ev_goto d_P_isBetter_57 ?_
        refine ev_ireturn d_P_isBetter_69 rfl rfl ?_
        subst hQ
        exact ret1 (by unfold betB; rw [if_pos c_9, if_neg c_41]; simp; omega)
  ·
    simp (disch := omega) only [lc_eq, lN_eq, lN_le, lN_lt] at c_9
    refine ev_aload_n d_P_isBetter_12 rfl rfl ?_
    refine ev_getf (kf := 4) (T := F_P) (C := R_P) (N := 6) (v := .long (lN (w1))) d_P_isBetter_13 fl_P_20 rfl i_P (by decide) (by omega) p01 rfl ?_
    refine ev_aload_n d_P_isBetter_16 rfl rfl ?_
    refine ev_getf (kf := 4) (T := F_P) (C := R_P) (N := 6) (v := .long (lN (w2))) d_P_isBetter_17 fl_P_20 rfl i_P (by decide) (by omega) p02 rfl ?_
    refine ev_lcmp d_P_isBetter_20 ?_
    refine ev_if_le d_P_isBetter_21 (fun c_21 => ?_) (fun c_21 => ?_)
    ·
      simp (disch := omega) only [lc_le, lN_eq, lN_le, lN_lt] at c_21
      refine ev_iconst (v := (nI (0))) d_P_isBetter_28 (by decide) ?_
      refine ev_goto d_P_isBetter_29 ?_
      refine ev_ireturn d_P_isBetter_69 rfl rfl ?_
      subst hQ
      exact ret0 (by unfold betB; rw [if_neg c_9]; simp; omega)
    ·
      simp (disch := omega) only [lc_le, lN_eq, lN_le, lN_lt] at c_21
      refine ev_iconst (v := (nI (1))) d_P_isBetter_24 (by decide) ?_
      refine ev_goto d_P_isBetter_25 ?_
      refine ev_ireturn d_P_isBetter_69 rfl rfl ?_
      subst hQ
      exact ret1 (by unfold betB; rw [if_neg c_9]; simp; omega)
end PLN
