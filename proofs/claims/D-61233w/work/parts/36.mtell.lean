/-! ===== what is told to the model ===== -/
theorem door_upd (c : Cf) (f i : Nat) : upd (fun j => b2 (c.fr j || (decide (f ≤ j) && decide (j < f + i)))) (f + i) (nI 1) = fun j => b2 (c.fr j || (decide (f ≤ j) && decide (j < f + (i + 1)))) := by
  rw [show nI 1 = b2 true from rfl, upd_b2]
  funext j
  congr 1
  by_cases ej : j = f + i
  · rw [if_pos ej]; subst ej; simp
  · rw [if_neg ej]; congr 2; simp; omega
section MTL
variable {G : Gm} {d n : Nat} {μ : Mem} {c : Cf} {cd : Nat} {hp : Bool} {tl pc : Nat} {pw pn : Int64} {bw bk : Nat → Int64} {me cl mt ts pit pat psz : Nat → Int32}
theorem lp_M_door {f w : Nat} (hfw : f + w ≤ c.st) (hn : 41 ≤ n) (hc : CfOK c) : ∀ (m i : Nat) (ν : Mem), i ≤ w → w < i + m → ML ν (mmL G (c.set_fr (fun j => c.fr j || (decide (f ≤ j) && decide (j < f + i)))) 0 hp tl pc pw pn bw bk me cl mt ts pit pat psz) → FrM ν μ → Ev G k_M_door (d + 1) 0 0 39 [some (.ref (G.1 + 20)), some (.int (nI (f))), some (.int (nI (f + w))), some (.int (b2 (doorB c f i))), some (.int (nI (f + i)))] [] n ν (MU G n μ (some (.int (b2 (doorB c f w)))) (mmL G (doorC c f (f + w)) 0 ((hp && !doorB c f w)) tl pc pw pn bw bk me cl mt ts pit pat psz)) := by
  obtain ⟨⟨hst1, hst2⟩, hfr, hpn, hpp, hmn, hwd, hnd, hpu, hnr, hbr, hle, hdef⟩ := id hc
  generalize hQ : (MU G n μ (some (.int (b2 (doorB c f w)))) (mmL G (doorC c f (f + w)) 0 ((hp && !doorB c f w)) tl pc pw pn bw bk me cl mt ts pit pat psz)) = Q
  intro m
  induction m with
  | zero =>
    intro i ν h1 h2
    exact absurd h2 (by omega)
  | succ m ih =>
    intro i ν hi him hM hF
    refine ev_iload d_M_door_39 rfl ?_
    refine ev_iload_n d_M_door_41 rfl rfl ?_
    refine ev_icmp_ge d_M_door_42 (fun c_42 => ?_) (fun c_42 => ?_)
    ·
      simp (disch := omega) only [nI_ltI, nI_leI, nI_eq, Nat.not_lt, Nat.not_le] at c_42
      refine ev_iload_n d_M_door_86 rfl rfl ?_
      refine ev_if_eq d_M_door_87 (fun c_87 => ?_) (fun c_87 => ?_)
      ·
        have c_87 := b2_f c_87
        refine ev_iload_n d_M_door_94 rfl rfl ?_
        refine ev_ireturn d_M_door_95 rfl (b2_nar _) ?_
        subst hQ
        have hiw : i = w := by omega
        subst hiw
        rw [c_87]
        simp only [Bool.not_true, Bool.not_false, Bool.and_false, Bool.and_true]
        exact ⟨rfl, rfl, hM, hF⟩
      ·
        have c_87 := b2_t c_87
        refine ev_aload_n d_M_door_90 rfl rfl ?_
        refine cv (mc' := 0) (ms' := 0) (k' := k_M_change) (As := []) (stk := []) d_M_door_91 ml_M_83 kk_M_change rfl rfl (Nat.le_of_ble_eq_true rfl) (by omega) (hM 0 _ rfl) rfl rfl (ct_M_change (d := d) hn hM) (af fun n1 ν hq => ?_)
        obtain ⟨hn1, hM, hf⟩ := hq
        subst n1
        have hM : ML ν (mmL G (c.set_fr (fun j => c.fr j || (decide (f ≤ j) && decide (j < f + i)))) 0 false tl pc pw pn bw bk me cl mt ts pit pat psz) := hM
        have hF := frT hf hF
        refine ev_iload_n d_M_door_94 rfl rfl ?_
        refine ev_ireturn d_M_door_95 rfl (b2_nar _) ?_
        subst hQ
        have hiw : i = w := by omega
        subst hiw
        rw [c_87]
        simp only [Bool.not_true, Bool.not_false, Bool.and_false, Bool.and_true]
        exact ⟨rfl, rfl, hM, hF⟩
    ·
      simp (disch := omega) only [nI_ltI, nI_leI, nI_eq, Nat.not_lt, Nat.not_le] at c_42
      refine ev_aload_n d_M_door_45 rfl rfl ?_
      refine ev_getf (kf := 0) (T := F_M) (C := R_M) (N := 30) (v := .int (nI (0))) d_M_door_46 fl_M_76 rfl i_M (by decide) (by omega) (hM 0 _ rfl) rfl ?_
      refine ev_if_ne d_M_door_49 (fun c_49 => ?_) (fun c_49 => ?_)
      ·
        skip
        exact absurd rfl c_49
      ·
        skip
        have hJ_71 : ∀ b : Bool, b = doorB c f (i + 1) → Ev G k_M_door (d + 1) 0 0 71 [some (.ref (G.1 + 20)), some (.int (nI (f))), some (.int (nI (f + w))), some (.int (b2 (doorB c f i))), some (.int (nI (f + i)))] [.int (b2 (b))] n ν Q := by
          intro b hJ
          refine ev_istore_n (ls' := [_, _, _, _, _]) d_M_door_71 rfl (by decide) rfl rfl ?_
          refine ev_aload_n d_M_door_72 rfl rfl ?_
          refine ev_getf (kf := 2) (T := F_M) (C := R_M) (N := 30) (v := .ref (G.1 + 21)) d_M_door_73 fl_M_7 rfl i_M (by decide) (by omega) (hM 0 _ rfl) rfl ?_
          refine ev_iload d_M_door_76 rfl ?_
          refine ev_iconst (v := (nI (1))) d_M_door_78 (by decide) ?_
          refine ev_zastM (a := 1) (j := f + i) d_M_door_79 (by decide) (by omega) hM rfl rfl (by omega) (by decide) (door_upd c f i) (fun ν hM hf => ?_)
          have hM : ML ν (mmL G (c.set_fr (fun j => c.fr j || (decide (f ≤ j) && decide (j < f + (i + 1))))) 0 hp tl pc pw pn bw bk me cl mt ts pit pat psz) := hM
          have hF := frT hf hF
          refine ev_iinc (v := (nI (f + (i + 1)))) (ls' := [_, _, _, _, _]) d_M_door_80 rfl (by rw [show nI (f + i) + Int32.ofInt 1 = nI (f + i + 1) from nI_1 _, Nat.add_assoc]) (by decide) rfl rfl ?_
          refine ev_goto d_M_door_83 ?_
          subst hJ
          exact ih (i + 1) ν (by omega) (by omega) hM hF
        refine ev_iload_n d_M_door_52 rfl rfl ?_
        refine ev_if_ne d_M_door_53 (fun c_53 => ?_) (fun c_53 => ?_)
        ·
          have c_53 := b2_t c_53
          refine ev_iconst (v := (nI (1))) d_M_door_66 (by decide) ?_
          refine ev_goto d_M_door_67 ?_
          exact hJ_71 true (by rw [show doorB c f (i + 1) = (doorB c f i || !c.fr (f + i)) from any_succ (fun j => !c.fr (f + j)) i, c_53, Bool.true_or])
        ·
          have c_53 := b2_f c_53
          refine ev_aload_n d_M_door_56 rfl rfl ?_
          refine ev_getf (kf := 2) (T := F_M) (C := R_M) (N := 30) (v := .ref (G.1 + 21)) d_M_door_57 fl_M_7 rfl i_M (by decide) (by omega) (hM 0 _ rfl) rfl ?_
          refine ev_iload d_M_door_60 rfl ?_
          refine ev_zald (j := f + i) d_M_door_62 (by omega) (hM 1 _ rfl) (by omega) (by decide) ?_
          refine ev_topi (w := b2 (c.fr (f + i))) (by show b2 (c.fr (f + i) || (decide (f ≤ f + i) && decide (f + i < f + i))) = _; simp) ?_
          refine ev_if_ne d_M_door_63 (fun c_63 => ?_) (fun c_63 => ?_)
          ·
            have c_63 := b2_t c_63
            refine ev_iconst (v := (nI (0))) d_M_door_70 (by decide) ?_
            exact hJ_71 false (by rw [show doorB c f (i + 1) = (doorB c f i || !c.fr (f + i)) from any_succ (fun j => !c.fr (f + j)) i, c_53, c_63]; rfl)
          ·
            have c_63 := b2_f c_63
            refine ev_iconst (v := (nI (1))) d_M_door_66 (by decide) ?_
            refine ev_goto d_M_door_67 ?_
            exact hJ_71 true (by rw [show doorB c f (i + 1) = (doorB c f i || !c.fr (f + i)) from any_succ (fun j => !c.fr (f + j)) i, c_53, c_63]; rfl)
theorem ct_M_door_ok {f w : Nat} (hw : 0 < w) (hfw : f + w ≤ c.st) (hn : 41 ≤ n) (hM : ML μ (mmL G c cd hp tl pc pw pn bw bk me cl mt ts pit pat psz)) (hc : CfOK c) : Ct G k_M_door (d + 1) 0 0 [.ref (G.1 + 20), .int (nI f), .int (nI (f + w))] n μ (MU G n μ (some (.int (b2 (doorB c f w)))) (mmL G (doorC c f (f + w)) 0 ((hp && !doorB c f w)) tl pc pw pn bw bk me cl mt ts pit pat psz)) := by
  obtain ⟨⟨hst1, hst2⟩, hfr, hpn, hpp, hmn, hwd, hnd, hpu, hnr, hbr, hle, hdef⟩ := id hc
  have hF : FrM μ μ := fun t _ => rfl
  refine Ct.ofp (r := 2) (ls := [some (.ref (G.1 + 20)), some (.int (nI (f))), some (.int (nI (f + w))), none, none]) rfl (Nat.le_of_ble_eq_true rfl) ?_
  refine ev_aload_n d_M_door_0 rfl rfl ?_
  refine ev_iload_n d_M_door_1 rfl rfl ?_
  refine ev_if_lt d_M_door_2 (fun c_2 => ?_) (fun c_2 => ?_)
  ·
    skip
    exact absurd c_2 (nI_pos (by omega))
  ·
    skip
    refine ev_iload_n d_M_door_5 rfl rfl ?_
    refine ev_aload_n d_M_door_6 rfl rfl ?_
    refine ev_getf (kf := 1) (T := F_M) (C := R_M) (N := 30) (v := .int (nI (c.st))) d_M_door_7 fl_M_69 rfl i_M (by decide) (by omega) (hM 0 _ rfl) rfl ?_
    refine ev_icmp_ge d_M_door_10 (fun c_10 => ?_) (fun c_10 => ?_)
    ·
      simp (disch := omega) only [nI_ltI, nI_leI, nI_eq, Nat.not_lt, Nat.not_le] at c_10
      omega
    ·
      simp (disch := omega) only [nI_ltI, nI_leI, nI_eq, Nat.not_lt, Nat.not_le] at c_10
      refine ev_iload_n d_M_door_13 rfl rfl ?_
      refine ev_iload_n d_M_door_14 rfl rfl ?_
      refine ev_icmp_le d_M_door_15 (fun c_15 => ?_) (fun c_15 => ?_)
      ·
        simp (disch := omega) only [nI_ltI, nI_leI, nI_eq, Nat.not_lt, Nat.not_le] at c_15
        omega
      ·
        simp (disch := omega) only [nI_ltI, nI_leI, nI_eq, Nat.not_lt, Nat.not_le] at c_15
        refine ev_iload_n d_M_door_18 rfl rfl ?_
        refine ev_aload_n d_M_door_19 rfl rfl ?_
        refine ev_getf (kf := 1) (T := F_M) (C := R_M) (N := 30) (v := .int (nI (c.st))) d_M_door_20 fl_M_69 rfl i_M (by decide) (by omega) (hM 0 _ rfl) rfl ?_
        refine ev_icmp_le d_M_door_23 (fun c_23 => ?_) (fun c_23 => ?_)
        ·
          simp (disch := omega) only [nI_ltI, nI_leI, nI_eq, Nat.not_lt, Nat.not_le] at c_23
          refine ev_iconst (v := (nI (0))) d_M_door_30 (by decide) ?_
          refine ev_putM (kf := 0) d_M_door_31 fl_M_76 (by decide) rfl rfl rfl rfl (by omega) hM rfl (Nat.le_of_ble_eq_true rfl) (fun ν hM hf => ?_)
          have hM : ML ν (mmL G c 0 hp tl pc pw pn bw bk me cl mt ts pit pat psz) := hM
          have hF := frT hf hF
          refine ev_iconst (v := (nI (0))) d_M_door_34 (by decide) ?_
          refine ev_istore_n (ls' := [_, _, _, _, none]) d_M_door_35 rfl (by decide) rfl rfl ?_
          refine ev_iload_n d_M_door_36 rfl rfl ?_
          refine ev_istore (ls' := [_, _, _, _, _]) d_M_door_37 (by decide) rfl rfl ?_
          have e : (fun j => c.fr j || (decide (f ≤ j) && decide (j < f + 0))) = c.fr := by
            funext j
            have : (decide (f ≤ j) && decide (j < f + 0)) = false := by
              rw [Bool.and_eq_false_iff, decide_eq_false_iff_not, decide_eq_false_iff_not]; omega
            rw [this, Bool.or_false]
          exact lp_M_door hfw hn hc (w + 1) 0 ν (by omega) (by omega) (by rw [e]; exact hM) hF
        ·
          simp (disch := omega) only [nI_ltI, nI_leI, nI_eq, Nat.not_lt, Nat.not_le] at c_23
          omega
theorem ct_M_door_no {a b : Int} (ha1 : -2147483648 ≤ a) (ha2 : a < 2147483648) (hb1 : -2147483648 ≤ b) (hb2 : b < 2147483648) (hno : ¬ (0 ≤ a ∧ a + 1 ≤ b ∧ b ≤ c.st)) (hn : 41 ≤ n) (hM : ML μ (mmL G c cd hp tl pc pw pn bw bk me cl mt ts pit pat psz)) (hc : CfOK c) : Ct G k_M_door (d + 1) 0 0 [.ref (G.1 + 20), .int (iI a), .int (iI b)] n μ (MU G n μ (some (.int (nI 0))) (mmL G c 1 hp tl pc pw pn bw bk me cl mt ts pit pat psz)) := by
  obtain ⟨⟨hst1, hst2⟩, hfr, hpn, hpp, hmn, hwd, hnd, hpu, hnr, hbr, hle, hdef⟩ := id hc
  have hF : FrM μ μ := fun t _ => rfl
  refine Ct.ofp (r := 2) (ls := [some (.ref (G.1 + 20)), some (.int (iI (a))), some (.int (iI (b))), none, none]) rfl (Nat.le_of_ble_eq_true rfl) ?_
  refine ev_aload_n d_M_door_0 rfl rfl ?_
  refine ev_iload_n d_M_door_1 rfl rfl ?_
  refine ev_if_lt d_M_door_2 (fun c_2 => ?_) (fun c_2 => ?_)
  ·
    have c_2 : a < 0 := (iI_ltI (b := 0) (by omega) (by omega) (by omega) (by omega)).mp c_2
    refine ev_iconst (v := (nI (1))) d_M_door_26 (by decide) ?_
    refine ev_goto d_M_door_27 ?_
    refine ev_putM (kf := 0) d_M_door_31 fl_M_76 (by decide) rfl rfl rfl rfl (by omega) hM rfl (Nat.le_of_ble_eq_true rfl) (fun ν hM hf => ?_)
    have hM : ML ν (mmL G c 1 hp tl pc pw pn bw bk me cl mt ts pit pat psz) := hM
    have hF := frT hf hF
    refine ev_iconst (v := (nI (0))) d_M_door_34 (by decide) ?_
    refine ev_istore_n (ls' := [_, _, _, _, none]) d_M_door_35 rfl (by decide) rfl rfl ?_
    refine ev_iload_n d_M_door_36 rfl rfl ?_
    refine ev_istore (ls' := [_, _, _, _, _]) d_M_door_37 (by decide) rfl rfl ?_
    refine ev_iload d_M_door_39 rfl ?_
    refine ev_iload_n d_M_door_41 rfl rfl ?_
    refine ev_icmp_ge d_M_door_42 (fun c_42 => ?_) (fun c_42 => ?_)
    ·
      simp (disch := omega) only [nI_iI, iI_ltI, iI_leI, iI_eq, Int.not_lt, Int.not_le] at c_42
      refine ev_iload_n d_M_door_86 rfl rfl ?_
      refine ev_if_eq d_M_door_87 (fun c_87 => ?_) (fun c_87 => ?_)
      ·
        skip
        refine ev_iload_n d_M_door_94 rfl rfl ?_
        refine ev_ireturn d_M_door_95 rfl rfl ?_
        exact ⟨rfl, rfl, hM, hF⟩
      ·
        skip
        exact absurd rfl c_87
    ·
      simp (disch := omega) only [nI_iI, iI_ltI, iI_leI, iI_eq, Int.not_lt, Int.not_le] at c_42
      refine ev_aload_n d_M_door_45 rfl rfl ?_
      refine ev_getf (kf := 0) (T := F_M) (C := R_M) (N := 30) (v := .int (nI (1))) d_M_door_46 fl_M_76 rfl i_M (by decide) (by omega) (hM 0 _ rfl) rfl ?_
      refine ev_if_ne d_M_door_49 (fun c_49 => ?_) (fun c_49 => ?_)
      ·
        skip
        refine ev_iload_n d_M_door_86 rfl rfl ?_
        refine ev_if_eq d_M_door_87 (fun c_87 => ?_) (fun c_87 => ?_)
        ·
          skip
          refine ev_iload_n d_M_door_94 rfl rfl ?_
          refine ev_ireturn d_M_door_95 rfl rfl ?_
          exact ⟨rfl, rfl, hM, hF⟩
        ·
          skip
          exact absurd rfl c_87
      ·
        skip
        exact absurd c_49 (by decide)
  ·
    have c_2 : ¬ a < 0 := fun q => c_2 ((iI_ltI (b := 0) (by omega) (by omega) (by omega) (by omega)).mpr q)
    refine ev_iload_n d_M_door_5 rfl rfl ?_
    refine ev_aload_n d_M_door_6 rfl rfl ?_
    refine ev_getf (kf := 1) (T := F_M) (C := R_M) (N := 30) (v := .int (nI (c.st))) d_M_door_7 fl_M_69 rfl i_M (by decide) (by omega) (hM 0 _ rfl) rfl ?_
    refine ev_icmp_ge d_M_door_10 (fun c_10 => ?_) (fun c_10 => ?_)
    ·
      simp (disch := omega) only [nI_iI, iI_ltI, iI_leI, iI_eq, Int.not_lt, Int.not_le] at c_10
      refine ev_iconst (v := (nI (1))) d_M_door_26 (by decide) ?_
      refine ev_goto d_M_door_27 ?_
      refine ev_putM (kf := 0) d_M_door_31 fl_M_76 (by decide) rfl rfl rfl rfl (by omega) hM rfl (Nat.le_of_ble_eq_true rfl) (fun ν hM hf => ?_)
      have hM : ML ν (mmL G c 1 hp tl pc pw pn bw bk me cl mt ts pit pat psz) := hM
      have hF := frT hf hF
      refine ev_iconst (v := (nI (0))) d_M_door_34 (by decide) ?_
      refine ev_istore_n (ls' := [_, _, _, _, none]) d_M_door_35 rfl (by decide) rfl rfl ?_
      refine ev_iload_n d_M_door_36 rfl rfl ?_
      refine ev_istore (ls' := [_, _, _, _, _]) d_M_door_37 (by decide) rfl rfl ?_
      refine ev_iload d_M_door_39 rfl ?_
      refine ev_iload_n d_M_door_41 rfl rfl ?_
      refine ev_icmp_ge d_M_door_42 (fun c_42 => ?_) (fun c_42 => ?_)
      ·
        simp (disch := omega) only [nI_iI, iI_ltI, iI_leI, iI_eq, Int.not_lt, Int.not_le] at c_42
        refine ev_iload_n d_M_door_86 rfl rfl ?_
        refine ev_if_eq d_M_door_87 (fun c_87 => ?_) (fun c_87 => ?_)
        ·
          skip
          refine ev_iload_n d_M_door_94 rfl rfl ?_
          refine ev_ireturn d_M_door_95 rfl rfl ?_
          exact ⟨rfl, rfl, hM, hF⟩
        ·
          skip
          exact absurd rfl c_87
      ·
        simp (disch := omega) only [nI_iI, iI_ltI, iI_leI, iI_eq, Int.not_lt, Int.not_le] at c_42
        refine ev_aload_n d_M_door_45 rfl rfl ?_
        refine ev_getf (kf := 0) (T := F_M) (C := R_M) (N := 30) (v := .int (nI (1))) d_M_door_46 fl_M_76 rfl i_M (by decide) (by omega) (hM 0 _ rfl) rfl ?_
        refine ev_if_ne d_M_door_49 (fun c_49 => ?_) (fun c_49 => ?_)
        ·
          skip
          refine ev_iload_n d_M_door_86 rfl rfl ?_
          refine ev_if_eq d_M_door_87 (fun c_87 => ?_) (fun c_87 => ?_)
          ·
            skip
            refine ev_iload_n d_M_door_94 rfl rfl ?_
            refine ev_ireturn d_M_door_95 rfl rfl ?_
            exact ⟨rfl, rfl, hM, hF⟩
          ·
            skip
            exact absurd rfl c_87
        ·
          skip
          exact absurd c_49 (by decide)
    ·
      simp (disch := omega) only [nI_iI, iI_ltI, iI_leI, iI_eq, Int.not_lt, Int.not_le] at c_10
      refine ev_iload_n d_M_door_13 rfl rfl ?_
      refine ev_iload_n d_M_door_14 rfl rfl ?_
      refine ev_icmp_le d_M_door_15 (fun c_15 => ?_) (fun c_15 => ?_)
      ·
        simp (disch := omega) only [nI_iI, iI_ltI, iI_leI, iI_eq, Int.not_lt, Int.not_le] at c_15
        refine ev_iconst (v := (nI (1))) d_M_door_26 (by decide) ?_
        refine ev_goto d_M_door_27 ?_
        refine ev_putM (kf := 0) d_M_door_31 fl_M_76 (by decide) rfl rfl rfl rfl (by omega) hM rfl (Nat.le_of_ble_eq_true rfl) (fun ν hM hf => ?_)
        have hM : ML ν (mmL G c 1 hp tl pc pw pn bw bk me cl mt ts pit pat psz) := hM
        have hF := frT hf hF
        refine ev_iconst (v := (nI (0))) d_M_door_34 (by decide) ?_
        refine ev_istore_n (ls' := [_, _, _, _, none]) d_M_door_35 rfl (by decide) rfl rfl ?_
        refine ev_iload_n d_M_door_36 rfl rfl ?_
        refine ev_istore (ls' := [_, _, _, _, _]) d_M_door_37 (by decide) rfl rfl ?_
        refine ev_iload d_M_door_39 rfl ?_
        refine ev_iload_n d_M_door_41 rfl rfl ?_
        refine ev_icmp_ge d_M_door_42 (fun c_42 => ?_) (fun c_42 => ?_)
        ·
          simp (disch := omega) only [nI_iI, iI_ltI, iI_leI, iI_eq, Int.not_lt, Int.not_le] at c_42
          refine ev_iload_n d_M_door_86 rfl rfl ?_
          refine ev_if_eq d_M_door_87 (fun c_87 => ?_) (fun c_87 => ?_)
          ·
            skip
            refine ev_iload_n d_M_door_94 rfl rfl ?_
            refine ev_ireturn d_M_door_95 rfl rfl ?_
            exact ⟨rfl, rfl, hM, hF⟩
          ·
            skip
            exact absurd rfl c_87
        ·
          simp (disch := omega) only [nI_iI, iI_ltI, iI_leI, iI_eq, Int.not_lt, Int.not_le] at c_42
          refine ev_aload_n d_M_door_45 rfl rfl ?_
          refine ev_getf (kf := 0) (T := F_M) (C := R_M) (N := 30) (v := .int (nI (1))) d_M_door_46 fl_M_76 rfl i_M (by decide) (by omega) (hM 0 _ rfl) rfl ?_
          refine ev_if_ne d_M_door_49 (fun c_49 => ?_) (fun c_49 => ?_)
          ·
            skip
            refine ev_iload_n d_M_door_86 rfl rfl ?_
            refine ev_if_eq d_M_door_87 (fun c_87 => ?_) (fun c_87 => ?_)
            ·
              skip
              refine ev_iload_n d_M_door_94 rfl rfl ?_
              refine ev_ireturn d_M_door_95 rfl rfl ?_
              exact ⟨rfl, rfl, hM, hF⟩
            ·
              skip
              exact absurd rfl c_87
          ·
            skip
            exact absurd c_49 (by decide)
      ·
        simp (disch := omega) only [nI_iI, iI_ltI, iI_leI, iI_eq, Int.not_lt, Int.not_le] at c_15
        refine ev_iload_n d_M_door_18 rfl rfl ?_
        refine ev_aload_n d_M_door_19 rfl rfl ?_
        refine ev_getf (kf := 1) (T := F_M) (C := R_M) (N := 30) (v := .int (nI (c.st))) d_M_door_20 fl_M_69 rfl i_M (by decide) (by omega) (hM 0 _ rfl) rfl ?_
        refine ev_icmp_le d_M_door_23 (fun c_23 => ?_) (fun c_23 => ?_)
        ·
          simp (disch := omega) only [nI_iI, iI_ltI, iI_leI, iI_eq, Int.not_lt, Int.not_le] at c_23
          omega
        ·
          simp (disch := omega) only [nI_iI, iI_ltI, iI_leI, iI_eq, Int.not_lt, Int.not_le] at c_23
          refine ev_iconst (v := (nI (1))) d_M_door_26 (by decide) ?_
          refine ev_goto d_M_door_27 ?_
          refine ev_putM (kf := 0) d_M_door_31 fl_M_76 (by decide) rfl rfl rfl rfl (by omega) hM rfl (Nat.le_of_ble_eq_true rfl) (fun ν hM hf => ?_)
          have hM : ML ν (mmL G c 1 hp tl pc pw pn bw bk me cl mt ts pit pat psz) := hM
          have hF := frT hf hF
          refine ev_iconst (v := (nI (0))) d_M_door_34 (by decide) ?_
          refine ev_istore_n (ls' := [_, _, _, _, none]) d_M_door_35 rfl (by decide) rfl rfl ?_
          refine ev_iload_n d_M_door_36 rfl rfl ?_
          refine ev_istore (ls' := [_, _, _, _, _]) d_M_door_37 (by decide) rfl rfl ?_
          refine ev_iload d_M_door_39 rfl ?_
          refine ev_iload_n d_M_door_41 rfl rfl ?_
          refine ev_icmp_ge d_M_door_42 (fun c_42 => ?_) (fun c_42 => ?_)
          ·
            simp (disch := omega) only [nI_iI, iI_ltI, iI_leI, iI_eq, Int.not_lt, Int.not_le] at c_42
            refine ev_iload_n d_M_door_86 rfl rfl ?_
            refine ev_if_eq d_M_door_87 (fun c_87 => ?_) (fun c_87 => ?_)
            ·
              skip
              refine ev_iload_n d_M_door_94 rfl rfl ?_
              refine ev_ireturn d_M_door_95 rfl rfl ?_
              exact ⟨rfl, rfl, hM, hF⟩
            ·
              skip
              exact absurd rfl c_87
          ·
            simp (disch := omega) only [nI_iI, iI_ltI, iI_leI, iI_eq, Int.not_lt, Int.not_le] at c_42
            refine ev_aload_n d_M_door_45 rfl rfl ?_
            refine ev_getf (kf := 0) (T := F_M) (C := R_M) (N := 30) (v := .int (nI (1))) d_M_door_46 fl_M_76 rfl i_M (by decide) (by omega) (hM 0 _ rfl) rfl ?_
            refine ev_if_ne d_M_door_49 (fun c_49 => ?_) (fun c_49 => ?_)
            ·
              skip
              refine ev_iload_n d_M_door_86 rfl rfl ?_
              refine ev_if_eq d_M_door_87 (fun c_87 => ?_) (fun c_87 => ?_)
              ·
                skip
                refine ev_iload_n d_M_door_94 rfl rfl ?_
                refine ev_ireturn d_M_door_95 rfl rfl ?_
                exact ⟨rfl, rfl, hM, hF⟩
              ·
                skip
                exact absurd rfl c_87
            ·
              skip
              exact absurd c_49 (by decide)
theorem lp_M_pipe {p : Nat} (hp0 : p < c.st) (hn : 41 ≤ n) (hc : CfOK c) {ν : Mem} (hM : ML ν (mmL G c 0 hp tl pc pw pn bw bk me cl mt ts pit pat psz)) (hF : FrM ν μ) : ∀ (m i : Nat) (op : Bool), i ≤ c.pn → c.pn < i + m → op = !(decide (c.pn < 8) && (List.range i).all (fun k => decide (c.pp k ≠ p))) → Ev G k_M_pipe (d + 1) 0 0 45 [some (.ref (G.1 + 20)), some (.int (nI (p))), some (.int (b2 (op))), some (.int (nI (i)))] [] n ν (MU G n μ (some (.int (b2 (pipeB c p)))) (mmL G (pipeC c p) 0 ((hp && !pipeB c p)) tl pc pw pn bw bk me cl mt ts pit pat psz)) := by
  obtain ⟨⟨hst1, hst2⟩, hfr, hpn, hpp, hmn, hwd, hnd, hpu, hnr, hbr, hle, hdef⟩ := id hc
  generalize hQ : (MU G n μ (some (.int (b2 (pipeB c p)))) (mmL G (pipeC c p) 0 ((hp && !pipeB c p)) tl pc pw pn bw bk me cl mt ts pit pat psz)) = Q
  intro m
  induction m with
  | zero =>
    intro i op h1 h2
    exact absurd h2 (by omega)
  | succ m ih =>
    intro i op hi him hop
    refine ev_iload_n d_M_pipe_45 rfl rfl ?_
    refine ev_aload_n d_M_pipe_46 rfl rfl ?_
    refine ev_getf (kf := 3) (T := F_M) (C := R_M) (N := 30) (v := .int (nI (c.pn))) d_M_pipe_47 fl_M_86 rfl i_M (by decide) (by omega) (hM 0 _ rfl) rfl ?_
    refine ev_icmp_ge d_M_pipe_50 (fun c_50 => ?_) (fun c_50 => ?_)
    ·
      simp (disch := omega) only [nI_ltI, nI_leI, nI_eq, Nat.not_lt, Nat.not_le] at c_50
      have hip : i = c.pn := by omega
      subst hip
      have hop2 : op = !pipeB c p := hop
      subst hop2
      refine ev_iload_n d_M_pipe_79 rfl rfl ?_
      refine ev_if_eq d_M_pipe_80 (fun c_80 => ?_) (fun c_80 => ?_)
      ·
        have c_80 := b2_f c_80
        have c_80 : pipeB c p = true := by simpa using c_80
        have hpn8 : c.pn < 8 := by
          have q := c_80
          simp only [pipeB, Bool.and_eq_true, decide_eq_true_eq] at q; exact q.1
        refine ev_aload_n d_M_pipe_85 rfl rfl ?_
        refine ev_getf (kf := 4) (T := F_M) (C := R_M) (N := 30) (v := .ref (G.1 + 22)) d_M_pipe_86 fl_M_13 rfl i_M (by decide) (by omega) (hM 0 _ rfl) rfl ?_
        refine ev_aload_n d_M_pipe_89 rfl rfl ?_
        refine ev_getf (kf := 3) (T := F_M) (C := R_M) (N := 30) (v := .int (nI (c.pn))) d_M_pipe_90 fl_M_86 rfl i_M (by decide) (by omega) (hM 0 _ rfl) rfl ?_
        refine ev_iload_n d_M_pipe_93 rfl rfl ?_
        refine ev_iastM (a := 2) (j := c.pn) d_M_pipe_94 (by decide) (by omega) hM rfl (by omega) (by decide) (upd_nI _ _ _) (fun ν hM hf => ?_)
        have hM : ML ν (mmL G (c.set_pp (fun j => if j = c.pn then p else c.pp j)) 0 hp tl pc pw pn bw bk me cl mt ts pit pat psz) := hM
        have hF := frT hf hF
        refine ev_aload_n d_M_pipe_95 rfl rfl ?_
        refine ev_dup d_M_pipe_96 rfl ?_
        refine ev_getf (kf := 3) (T := F_M) (C := R_M) (N := 30) (v := .int (nI (c.pn))) d_M_pipe_97 fl_M_86 rfl i_M (by decide) (by omega) (hM 0 _ rfl) rfl ?_
        refine ev_iconst (v := (nI (1))) d_M_pipe_100 (by decide) ?_
        refine ev_iadd d_M_pipe_101 ?_
        refine ev_topi (w := (nI (c.pn + 1))) (nI_add _ _) ?_
        refine ev_putM (kf := 3) d_M_pipe_102 fl_M_86 (by decide) rfl rfl rfl rfl (by omega) hM rfl (Nat.le_of_ble_eq_true rfl) (fun ν hM hf => ?_)
        have hM : ML ν (mmL G (Cf.set_pn (c.set_pp (fun j => if j = c.pn then p else c.pp j)) (c.pn + 1)) 0 hp tl pc pw pn bw bk me cl mt ts pit pat psz) := hM
        have hF := frT hf hF
        refine ev_aload_n d_M_pipe_105 rfl rfl ?_
        refine cv (mc' := 0) (ms' := 0) (k' := k_M_change) (As := []) (stk := []) d_M_pipe_106 ml_M_83 kk_M_change rfl rfl (Nat.le_of_ble_eq_true rfl) (by omega) (hM 0 _ rfl) rfl rfl (ct_M_change (d := d) hn hM) (af fun n1 ν hq => ?_)
        obtain ⟨hn1, hM, hf⟩ := hq
        subst n1
        have hM : ML ν (mmL G (Cf.set_pn (c.set_pp (fun j => if j = c.pn then p else c.pp j)) (c.pn + 1)) 0 false tl pc pw pn bw bk me cl mt ts pit pat psz) := hM
        have hF := frT hf hF
        refine ev_iconst (v := (nI (1))) d_M_pipe_109 (by decide) ?_
        refine ev_ireturn d_M_pipe_110 rfl rfl ?_
        subst hQ
        have e : pipeB c p = true := c_80
        have e2 : pipeC c p = (c.set_pp (fun j => if j = c.pn then p else c.pp j)).set_pn (c.pn + 1) := by unfold pipeC; rw [if_pos e]
        rw [e2, e]
        simp only [Bool.not_true, Bool.not_false, Bool.and_false, Bool.and_true]
        exact ⟨rfl, rfl, hM, hF⟩
      ·
        have c_80 := b2_t c_80
        refine ev_iconst (v := (nI (0))) d_M_pipe_83 (by decide) ?_
        refine ev_ireturn d_M_pipe_84 rfl rfl ?_
        subst hQ
        have e : pipeB c p = false := by simpa using c_80
        have e2 : pipeC c p = c := by unfold pipeC; rw [if_neg (by rw [e]; decide)]
        rw [e2, e]
        simp only [Bool.not_true, Bool.not_false, Bool.and_false, Bool.and_true]
        exact ⟨rfl, rfl, hM, hF⟩
    ·
      simp (disch := omega) only [nI_ltI, nI_leI, nI_eq, Nat.not_lt, Nat.not_le] at c_50
      have hpi := hpp i c_50
      have hJ_72 : ∀ b : Bool, b = (op || decide (c.pp i = p)) → Ev G k_M_pipe (d + 1) 0 0 72 [some (.ref (G.1 + 20)), some (.int (nI (p))), some (.int (b2 (op))), some (.int (nI (i)))] [.int (b2 (b))] n ν Q := by
        intro b hJ
        refine ev_istore_n (ls' := [_, _, _, _]) d_M_pipe_72 rfl (by decide) rfl rfl ?_
        refine ev_iinc (v := (nI (i + 1))) (ls' := [_, _, _, _]) d_M_pipe_73 rfl (nI_1 _) (by decide) rfl rfl ?_
        refine ev_goto d_M_pipe_76 ?_
        exact ih (i + 1) b (by omega) (by omega) (by rw [hJ, hop, all_succ]; cases decide (c.pn < 8) <;> cases (List.range i).all (fun k => decide (c.pp k ≠ p)) <;> by_cases q : c.pp i = p <;> simp [q])
      refine ev_iload_n d_M_pipe_53 rfl rfl ?_
      refine ev_if_ne d_M_pipe_54 (fun c_54 => ?_) (fun c_54 => ?_)
      ·
        have c_54 := b2_t c_54
        refine ev_iconst (v := (nI (1))) d_M_pipe_67 (by decide) ?_
        refine ev_goto d_M_pipe_68 ?_
        exact hJ_72 true (by rw [c_54]; simp)
      ·
        have c_54 := b2_f c_54
        refine ev_aload_n d_M_pipe_57 rfl rfl ?_
        refine ev_getf (kf := 4) (T := F_M) (C := R_M) (N := 30) (v := .ref (G.1 + 22)) d_M_pipe_58 fl_M_13 rfl i_M (by decide) (by omega) (hM 0 _ rfl) rfl ?_
        refine ev_iload_n d_M_pipe_61 rfl rfl ?_
        refine ev_iald (j := i) d_M_pipe_62 (by omega) (hM 2 _ rfl) (by omega) (by decide) ?_
        refine ev_iload_n d_M_pipe_63 rfl rfl ?_
        refine ev_icmp_ne d_M_pipe_64 (fun c_64 => ?_) (fun c_64 => ?_)
        ·
          simp (disch := omega) only [nI_ltI, nI_leI, nI_eq, Nat.not_lt, Nat.not_le] at c_64
          refine ev_iconst (v := (nI (0))) d_M_pipe_71 (by decide) ?_
          exact hJ_72 false (by rw [c_54]; simp; omega)
        ·
          simp (disch := omega) only [nI_ltI, nI_leI, nI_eq, Nat.not_lt, Nat.not_le] at c_64
          refine ev_iconst (v := (nI (1))) d_M_pipe_67 (by decide) ?_
          refine ev_goto d_M_pipe_68 ?_
          exact hJ_72 true (by rw [c_54]; simp; omega)
theorem ct_M_pipe_ok {p : Nat} (hp0 : p < c.st) (hn : 41 ≤ n) (hM : ML μ (mmL G c cd hp tl pc pw pn bw bk me cl mt ts pit pat psz)) (hc : CfOK c) : Ct G k_M_pipe (d + 1) 0 0 [.ref (G.1 + 20), .int (nI p)] n μ (MU G n μ (some (.int (b2 (pipeB c p)))) (mmL G (pipeC c p) 0 ((hp && !pipeB c p)) tl pc pw pn bw bk me cl mt ts pit pat psz)) := by
  obtain ⟨⟨hst1, hst2⟩, hfr, hpn, hpp, hmn, hwd, hnd, hpu, hnr, hbr, hle, hdef⟩ := id hc
  have hF : FrM μ μ := fun t _ => rfl
  generalize hQ : (MU G n μ (some (.int (b2 (pipeB c p)))) (mmL G (pipeC c p) 0 ((hp && !pipeB c p)) tl pc pw pn bw bk me cl mt ts pit pat psz)) = Q
  refine Ct.ofp (r := 2) (ls := [some (.ref (G.1 + 20)), some (.int (nI (p))), none, none]) rfl (Nat.le_of_ble_eq_true rfl) ?_
  refine ev_aload_n d_M_pipe_0 rfl rfl ?_
  refine ev_iload_n d_M_pipe_1 rfl rfl ?_
  refine ev_if_lt d_M_pipe_2 (fun c_2 => ?_) (fun c_2 => ?_)
  ·
    skip
    exact absurd c_2 (nI_pos (by omega))
  ·
    skip
    refine ev_iload_n d_M_pipe_5 rfl rfl ?_
    refine ev_aload_n d_M_pipe_6 rfl rfl ?_
    refine ev_getf (kf := 1) (T := F_M) (C := R_M) (N := 30) (v := .int (nI (c.st))) d_M_pipe_7 fl_M_69 rfl i_M (by decide) (by omega) (hM 0 _ rfl) rfl ?_
    refine ev_icmp_lt d_M_pipe_10 (fun c_10 => ?_) (fun c_10 => ?_)
    ·
      simp (disch := omega) only [nI_ltI, nI_leI, nI_eq, Nat.not_lt, Nat.not_le] at c_10
      refine ev_iconst (v := (nI (0))) d_M_pipe_17 (by decide) ?_
      refine ev_putM (kf := 0) d_M_pipe_18 fl_M_76 (by decide) rfl rfl rfl rfl (by omega) hM rfl (Nat.le_of_ble_eq_true rfl) (fun ν hM hf => ?_)
      have hM : ML ν (mmL G c 0 hp tl pc pw pn bw bk me cl mt ts pit pat psz) := hM
      have hF := frT hf hF
      have hJ_42 : ∀ b : Bool, b = !decide (c.pn < 8) → Ev G k_M_pipe (d + 1) 0 0 42 [some (.ref (G.1 + 20)), some (.int (nI (p))), none, none] [.int (b2 (b))] n ν Q := by
        intro b hJ
        refine ev_istore_n (ls' := [_, _, _, none]) d_M_pipe_42 rfl (by decide) rfl rfl ?_
        refine ev_iconst (v := (nI (0))) d_M_pipe_43 (by decide) ?_
        refine ev_istore_n (ls' := [_, _, _, _]) d_M_pipe_44 rfl (by decide) rfl rfl ?_
        subst hQ
        exact lp_M_pipe hp0 hn hc hM hF (c.pn + 1) 0 b (by omega) (by omega) (by rw [hJ]; simp)
      refine ev_aload_n d_M_pipe_21 rfl rfl ?_
      refine ev_getf (kf := 0) (T := F_M) (C := R_M) (N := 30) (v := .int (nI (0))) d_M_pipe_22 fl_M_76 rfl i_M (by decide) (by omega) (hM 0 _ rfl) rfl ?_
      refine ev_if_gt d_M_pipe_25 (fun c_25 => ?_) (fun c_25 => ?_)
      ·
        skip
        exact absurd c_25 (by decide)
      ·
        skip
        refine ev_aload_n d_M_pipe_28 rfl rfl ?_
        refine ev_getf (kf := 3) (T := F_M) (C := R_M) (N := 30) (v := .int (nI (c.pn))) d_M_pipe_29 fl_M_86 rfl i_M (by decide) (by omega) (hM 0 _ rfl) rfl ?_
        refine ev_bipush (v := (nI (8))) d_M_pipe_32 (by decide) ?_
        refine ev_icmp_ne d_M_pipe_34 (fun c_34 => ?_) (fun c_34 => ?_)
        ·
          simp (disch := omega) only [nI_ltI, nI_leI, nI_eq, Nat.not_lt, Nat.not_le] at c_34
          refine ev_iconst (v := (nI (0))) d_M_pipe_41 (by decide) ?_
          exact hJ_42 false (by simp; omega)
        ·
          simp (disch := omega) only [nI_ltI, nI_leI, nI_eq, Nat.not_lt, Nat.not_le] at c_34
          refine ev_iconst (v := (nI (1))) d_M_pipe_37 (by decide) ?_
          refine ev_goto d_M_pipe_38 ?_
          exact hJ_42 true (by simp; omega)
    ·
      simp (disch := omega) only [nI_ltI, nI_leI, nI_eq, Nat.not_lt, Nat.not_le] at c_10
      omega
theorem lp_M_pipeN {Q : Oc → Nat → Mem → Prop} {a : Int} (hn : 41 ≤ n) (hc : CfOK c) (hM : ML μ (mmL G c cd hp tl pc pw pn bw bk me cl mt ts pit pat psz)) (hK : Ev G k_M_pipe (d + 1) 0 0 79 [some (.ref (G.1 + 20)), some (.int (iI (a))), some (.int (b2 (true))), none] [] n μ Q) : ∀ (m i : Nat), i ≤ c.pn → c.pn < i + m → Ev G k_M_pipe (d + 1) 0 0 45 [some (.ref (G.1 + 20)), some (.int (iI (a))), some (.int (b2 (true))), some (.int (nI (i)))] [] n μ Q := by
  obtain ⟨⟨hst1, hst2⟩, hfr, hpn, hpp, hmn, hwd, hnd, hpu, hnr, hbr, hle, hdef⟩ := id hc
  intro m
  induction m with
  | zero =>
    intro i h1 h2
    exact absurd h2 (by omega)
  | succ m ih =>
    intro i hi him
    refine ev_iload_n d_M_pipe_45 rfl rfl ?_
    refine ev_aload_n d_M_pipe_46 rfl rfl ?_
    refine ev_getf (kf := 3) (T := F_M) (C := R_M) (N := 30) (v := .int (nI (c.pn))) d_M_pipe_47 fl_M_86 rfl i_M (by decide) (by omega) (hM 0 _ rfl) rfl ?_
    refine ev_icmp_ge d_M_pipe_50 (fun c_50 => ?_) (fun c_50 => ?_)
    ·
      simp (disch := omega) only [nI_ltI, nI_leI, nI_eq, Nat.not_lt, Nat.not_le] at c_50
      exact Ev.fg [true, true, true, false] rfl hK
    ·
      simp (disch := omega) only [nI_ltI, nI_leI, nI_eq, Nat.not_lt, Nat.not_le] at c_50
      refine ev_iload_n d_M_pipe_53 rfl rfl ?_
      refine ev_if_ne d_M_pipe_54 (fun c_54 => ?_) (fun c_54 => ?_)
      ·
        skip
        refine ev_iconst (v := (nI (1))) d_M_pipe_67 (by decide) ?_
        refine ev_goto d_M_pipe_68 ?_
        refine ev_istore_n (ls' := [_, _, _, _]) d_M_pipe_72 rfl (by decide) rfl rfl ?_
        refine ev_iinc (v := (nI (i + 1))) (ls' := [_, _, _, _]) d_M_pipe_73 rfl (nI_1 _) (by decide) rfl rfl ?_
        refine ev_goto d_M_pipe_76 ?_
        exact ih (i + 1) (by omega) (by omega)
      ·
        skip
        exact absurd c_54 (by decide)
theorem ct_M_pipe_no {a : Int} (ha1 : -2147483648 ≤ a) (ha2 : a < 2147483648) (hno : ¬ (0 ≤ a ∧ a < c.st)) (hn : 41 ≤ n) (hM : ML μ (mmL G c cd hp tl pc pw pn bw bk me cl mt ts pit pat psz)) (hc : CfOK c) : Ct G k_M_pipe (d + 1) 0 0 [.ref (G.1 + 20), .int (iI a)] n μ (MU G n μ (some (.int (nI 0))) (mmL G c 1 hp tl pc pw pn bw bk me cl mt ts pit pat psz)) := by
  obtain ⟨⟨hst1, hst2⟩, hfr, hpn, hpp, hmn, hwd, hnd, hpu, hnr, hbr, hle, hdef⟩ := id hc
  have hF : FrM μ μ := fun t _ => rfl
  refine Ct.ofp (r := 2) (ls := [some (.ref (G.1 + 20)), some (.int (iI (a))), none, none]) rfl (Nat.le_of_ble_eq_true rfl) ?_
  refine ev_aload_n d_M_pipe_0 rfl rfl ?_
  refine ev_iload_n d_M_pipe_1 rfl rfl ?_
  refine ev_if_lt d_M_pipe_2 (fun c_2 => ?_) (fun c_2 => ?_)
  ·
    have c_2 : a < 0 := (iI_ltI (b := 0) (by omega) (by omega) (by omega) (by omega)).mp c_2
    refine ev_iconst (v := (nI (1))) d_M_pipe_13 (by decide) ?_
    refine ev_goto d_M_pipe_14 ?_
    refine ev_putM (kf := 0) d_M_pipe_18 fl_M_76 (by decide) rfl rfl rfl rfl (by omega) hM rfl (Nat.le_of_ble_eq_true rfl) (fun ν hM hf => ?_)
    have hM : ML ν (mmL G c 1 hp tl pc pw pn bw bk me cl mt ts pit pat psz) := hM
    have hF := frT hf hF
    refine ev_aload_n d_M_pipe_21 rfl rfl ?_
    refine ev_getf (kf := 0) (T := F_M) (C := R_M) (N := 30) (v := .int (nI (1))) d_M_pipe_22 fl_M_76 rfl i_M (by decide) (by omega) (hM 0 _ rfl) rfl ?_
    refine ev_if_gt d_M_pipe_25 (fun c_25 => ?_) (fun c_25 => ?_)
    ·
      skip
      refine ev_iconst (v := (nI (1))) d_M_pipe_37 (by decide) ?_
      refine ev_goto d_M_pipe_38 ?_
      refine ev_istore_n (ls' := [_, _, _, none]) d_M_pipe_42 rfl (by decide) rfl rfl ?_
      refine ev_iconst (v := (nI (0))) d_M_pipe_43 (by decide) ?_
      refine ev_istore_n (ls' := [_, _, _, _]) d_M_pipe_44 rfl (by decide) rfl rfl ?_
      refine lp_M_pipeN hn hc hM ?_ (c.pn + 1) 0 (by omega) (by omega)
      refine ev_iload_n d_M_pipe_79 rfl rfl ?_
      refine ev_if_eq d_M_pipe_80 (fun c_80 => ?_) (fun c_80 => ?_)
      ·
        skip
        exact absurd c_80 (by decide)
      ·
        skip
        refine ev_iconst (v := (nI (0))) d_M_pipe_83 (by decide) ?_
        refine ev_ireturn d_M_pipe_84 rfl rfl ?_
        exact ⟨rfl, rfl, hM, hF⟩
    ·
      skip
      exact absurd (by decide) c_25
  ·
    have c_2 : ¬ a < 0 := fun q => c_2 ((iI_ltI (b := 0) (by omega) (by omega) (by omega) (by omega)).mpr q)
    refine ev_iload_n d_M_pipe_5 rfl rfl ?_
    refine ev_aload_n d_M_pipe_6 rfl rfl ?_
    refine ev_getf (kf := 1) (T := F_M) (C := R_M) (N := 30) (v := .int (nI (c.st))) d_M_pipe_7 fl_M_69 rfl i_M (by decide) (by omega) (hM 0 _ rfl) rfl ?_
    refine ev_icmp_lt d_M_pipe_10 (fun c_10 => ?_) (fun c_10 => ?_)
    ·
      simp (disch := omega) only [nI_iI, iI_ltI, iI_leI, iI_eq, Int.not_lt, Int.not_le] at c_10
      omega
    ·
      simp (disch := omega) only [nI_iI, iI_ltI, iI_leI, iI_eq, Int.not_lt, Int.not_le] at c_10
      refine ev_iconst (v := (nI (1))) d_M_pipe_13 (by decide) ?_
      refine ev_goto d_M_pipe_14 ?_
      refine ev_putM (kf := 0) d_M_pipe_18 fl_M_76 (by decide) rfl rfl rfl rfl (by omega) hM rfl (Nat.le_of_ble_eq_true rfl) (fun ν hM hf => ?_)
      have hM : ML ν (mmL G c 1 hp tl pc pw pn bw bk me cl mt ts pit pat psz) := hM
      have hF := frT hf hF
      refine ev_aload_n d_M_pipe_21 rfl rfl ?_
      refine ev_getf (kf := 0) (T := F_M) (C := R_M) (N := 30) (v := .int (nI (1))) d_M_pipe_22 fl_M_76 rfl i_M (by decide) (by omega) (hM 0 _ rfl) rfl ?_
      refine ev_if_gt d_M_pipe_25 (fun c_25 => ?_) (fun c_25 => ?_)
      ·
        skip
        refine ev_iconst (v := (nI (1))) d_M_pipe_37 (by decide) ?_
        refine ev_goto d_M_pipe_38 ?_
        refine ev_istore_n (ls' := [_, _, _, none]) d_M_pipe_42 rfl (by decide) rfl rfl ?_
        refine ev_iconst (v := (nI (0))) d_M_pipe_43 (by decide) ?_
        refine ev_istore_n (ls' := [_, _, _, _]) d_M_pipe_44 rfl (by decide) rfl rfl ?_
        refine lp_M_pipeN hn hc hM ?_ (c.pn + 1) 0 (by omega) (by omega)
        refine ev_iload_n d_M_pipe_79 rfl rfl ?_
        refine ev_if_eq d_M_pipe_80 (fun c_80 => ?_) (fun c_80 => ?_)
        ·
          skip
          exact absurd c_80 (by decide)
        ·
          skip
          refine ev_iconst (v := (nI (0))) d_M_pipe_83 (by decide) ?_
          refine ev_ireturn d_M_pipe_84 rfl rfl ?_
          exact ⟨rfl, rfl, hM, hF⟩
      ·
        skip
        exact absurd (by decide) c_25
end MTL
