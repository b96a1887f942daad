/-! ===== more of what is told to the model ===== -/
theorem near_upd1 (c : Cf) {a b w : Nat} (ha : a < 6) (hb : b < 6) : vp_updL (fun j => lN (c.nr (j / 6) (j % 6))) (6 * a + b) (lN w) = fun j => lN (if j / 6 = a ∧ j % 6 = b then w else c.nr (j / 6) (j % 6)) := by
  rw [updL_lN]
  funext j
  congr 1
  by_cases e : j = 6 * a + b
  · rw [if_pos e, if_pos (by omega)]
  · rw [if_neg e, if_neg (by omega)]
theorem near_upd2 (c : Cf) {a b w : Nat} (ha : a < 6) (hb : b < 6) : vp_updL (fun j => lN (if j / 6 = a ∧ j % 6 = b then w else c.nr (j / 6) (j % 6))) (6 * b + a) (lN w) = fun j => lN (if (j / 6 = a ∧ j % 6 = b) ∨ (j / 6 = b ∧ j % 6 = a) then w else c.nr (j / 6) (j % 6)) := by
  rw [updL_lN]
  funext j
  congr 1
  by_cases e : j = 6 * b + a
  · rw [if_pos e, if_pos (by omega)]
  · rw [if_neg e]
    by_cases e2 : j / 6 = a ∧ j % 6 = b
    · rw [if_pos e2, if_pos (Or.inl e2)]
    · rw [if_neg e2, if_neg (by omega)]
theorem bar_upd1 (c : Cf) {a b : Nat} (ha : a < 6) (hb : b < 6) : upd (fun j => b2 (c.br (j / 6) (j % 6))) (6 * a + b) (nI 1) = fun j => b2 (decide (j / 6 = a ∧ j % 6 = b) || c.br (j / 6) (j % 6)) := by
  rw [show nI 1 = b2 true from rfl, upd_b2]
  funext j
  congr 1
  by_cases e : j = 6 * a + b
  · rw [if_pos e, decide_eq_true (show j / 6 = a ∧ j % 6 = b by omega)]; rfl
  · rw [if_neg e, decide_eq_false (show ¬ (j / 6 = a ∧ j % 6 = b) by omega)]; rfl
theorem bar_upd2 (c : Cf) {a b : Nat} (ha : a < 6) (hb : b < 6) : upd (fun j => b2 (decide (j / 6 = a ∧ j % 6 = b) || c.br (j / 6) (j % 6))) (6 * b + a) (nI 1) = fun j => b2 (decide ((j / 6 = a ∧ j % 6 = b) ∨ (j / 6 = b ∧ j % 6 = a)) || c.br (j / 6) (j % 6)) := by
  rw [show nI 1 = b2 true from rfl, upd_b2]
  funext j
  congr 1
  by_cases e : j = 6 * b + a
  · rw [if_pos e, decide_eq_true (show (j / 6 = a ∧ j % 6 = b) ∨ (j / 6 = b ∧ j % 6 = a) by omega)]; rfl
  · rw [if_neg e]
    congr 1
    rw [decide_eq_decide]; omega
theorem upd_id {α : Type} {g : Nat → α} {k : Nat} {z : α} (h : g k = z) : (fun j => if j = k then z else g j) = g := by
  funext j
  by_cases e : j = k
  · rw [if_pos e, e, h]
  · rw [if_neg e]
theorem needC_id {c : Cf} {k : Nat} {z : Int} (h : c.nd k = z) : needC c k z = c := by unfold needC; rw [upd_id h]; rfl
theorem mustC_id {c : Cf} {k : Nat} {z : Bool} (h : c.ms k = z) : mustC c k z = c := by unfold mustC; rw [upd_id h]; rfl
theorem placeC_id {c : Cf} {k : Nat} {z : Int} (h : c.pu k = z) : placeC c k z = c := by unfold placeC; rw [upd_id h]; rfl
theorem nearC_id {c : Cf} (hc : CfOK c) {a b w : Nat} (h : c.nr a b = w) : nearC c a b w = c := by
  have h2 := (hc.2.2.2.2.2.2.2.2.1 a b).2
  unfold nearC
  have e : (fun x y => if (x = a ∧ y = b) ∨ (x = b ∧ y = a) then w else c.nr x y) = c.nr := by
    funext x y
    by_cases e : (x = a ∧ y = b) ∨ (x = b ∧ y = a)
    · rw [if_pos e]
      rcases e with ⟨rfl, rfl⟩ | ⟨rfl, rfl⟩
      · exact h.symm
      · rw [← h, h2]
    · rw [if_neg e]
  rw [e]; rfl
theorem barC_id {c : Cf} (hc : CfOK c) {a b : Nat} (h : c.br a b = true) : barC c a b = c := by
  have h2 := hc.2.2.2.2.2.2.2.2.2.1 a b
  unfold barC
  have e : (fun x y => decide ((x = a ∧ y = b) ∨ (x = b ∧ y = a)) || c.br x y) = c.br := by
    funext x y
    by_cases e : (x = a ∧ y = b) ∨ (x = b ∧ y = a)
    · rw [decide_eq_true e]
      rcases e with ⟨rfl, rfl⟩ | ⟨rfl, rfl⟩
      · exact h.symm
      · rw [← h2, h]; rfl
    · rw [decide_eq_false e, Bool.false_or]
  rw [e]; rfl
theorem fillC_id {c : Cf} : fillC c c.le c.mo = c := rfl
section MTL2
variable {G : Gm} {d n : Nat} {μ : Mem} {c : Cf} {cd : Nat} {hp : Bool} {tl pc : Nat} {pw pn : Int64} {bw bk : Nat → Int64} {me cl mt ts pit pat psz : Nat → Int32}
theorem ct_M_isItemN {k : Nat} (hk : k < c.mn) (hn : 41 ≤ n) (hM : ML μ (mmL G c cd hp tl pc pw pn bw bk me cl mt ts pit pat psz)) (hc : CfOK c) : Ct G k_M_isItem d 0 0 [.ref (G.1 + 20), .int (nI k)] n μ (Rd (some (.int (b2 true))) n μ) := by
  have hmn := hc.2.2.2.2.1
  have h := ct_M_isItem (d := d) (a := (k : Int)) (by omega) (by omega) hn hM hc
  rw [decide_eq_true (show (0 : Int) ≤ k ∧ (k : Int) < c.mn by omega), ← nI_iI] at h
  exact h
theorem ct_M_pairCodeN {a b : Nat} (ha : a < c.mn) (hb : b < c.mn) (hn : 41 ≤ n) (hM : ML μ (mmL G c cd hp tl pc pw pn bw bk me cl mt ts pit pat psz)) (hc : CfOK c) : Ct G k_M_pairCode (d + 1) 0 0 [.ref (G.1 + 20), .int (nI a), .int (nI b)] n μ (Rd (some (.int (nI (if a = b then 2 else 0)))) n μ) := by
  have hmn := hc.2.2.2.2.1
  have h := ct_M_pairCode (d := d) (a := (a : Int)) (b := (b : Int)) (by omega) (by omega) (by omega) (by omega) hn hM hc
  rw [if_pos (by omega), ← nI_iI, ← nI_iI] at h
  by_cases e : a = b
  · rw [if_pos (by omega)] at h; rw [if_pos e]; exact h
  · rw [if_neg (by omega)] at h; rw [if_neg e]; exact h
theorem ct_M_item_ok {w wo ce : Nat} (hm6 : c.mn < 6) (hw1 : 1 ≤ w) (hw2 : w ≤ 20) (hwo : wo ≤ 100000) (hce : ce ≤ 100000) (hn : 41 ≤ n) (hM : ML μ (mmL G c cd hp tl pc pw pn bw bk me cl mt ts pit pat psz)) (hc : CfOK c) : Ct G k_M_item (d + 1) 0 0 [.ref (G.1 + 20), .int (nI w), .long (lN wo), .long (lN ce)] n μ (MU G n μ (some (.int (nI c.mn))) (mmL G (itemC c w wo ce) 0 false tl pc pw pn bw bk me cl mt ts pit pat psz)) := by
  obtain ⟨⟨hst1, hst2⟩, hfr, hpn, hpp, hmn, hwd, hnd, hpu, hnr, hbr, hle, hdef⟩ := id hc
  have hF : FrM μ μ := fun t _ => rfl
  refine Ct.ofp (r := 1) (ls := [some (.ref (G.1 + 20)), some (.int (nI (w))), some (.long (lN (wo))), none, some (.long (lN (ce))), none, none]) rfl (Nat.le_of_ble_eq_true rfl) ?_
  refine ev_iload_n d_M_item_0 rfl rfl ?_
  refine ev_i2l d_M_item_1 ?_
  refine ev_topl (w := (lN (w))) (nI_l (by omega)) ?_
  refine ev_lconst (v := lN 1) d_M_item_2 (by decide) ?_
  refine ev_ldc2 (v := (20)) d_M_item_3 ck_M_89 ?_
  refine ev_topl (w := lN 20) (by decide) ?_
  refine cs (mc' := 0) (ms' := 0) (k' := k_M_isIn) (As := [.long (lN (w)), .long (lN (1)), .long (lN (20))]) (stk := []) d_M_item_6 ml_M_91 kk_M_isIn rfl rfl (Nat.le_of_ble_eq_true rfl) (ct_M_isInV (d := d) (LZ_n (by omega)) (LZ_n (by omega)) (LZ_n (by omega))) (rd ?_)
  refine ev_if_eq d_M_item_9 (fun c_9 => ?_) (fun c_9 => ?_)
  ·
    have c_9 := b2_f c_9
    exfalso; rw [decide_eq_false_iff_not] at c_9; omega
  ·
    have c_9 := b2_t c_9
    refine ev_lload_n d_M_item_12 rfl rfl ?_
    refine ev_lconst (v := lN 0) d_M_item_13 (by decide) ?_
    refine ev_ldc2 (v := (100000)) d_M_item_14 ck_M_95 ?_
    refine ev_topl (w := lN 100000) (by decide) ?_
    refine cs (mc' := 0) (ms' := 0) (k' := k_M_isIn) (As := [.long (lN (wo)), .long (lN (0)), .long (lN (100000))]) (stk := []) d_M_item_17 ml_M_91 kk_M_isIn rfl rfl (Nat.le_of_ble_eq_true rfl) (ct_M_isInV (d := d) (LZ_n (by omega)) (LZ_n (by omega)) (LZ_n (by omega))) (rd ?_)
    refine ev_if_eq d_M_item_20 (fun c_20 => ?_) (fun c_20 => ?_)
    ·
      have c_20 := b2_f c_20
      exfalso; rw [decide_eq_false_iff_not] at c_20; omega
    ·
      have c_20 := b2_t c_20
      refine ev_lload d_M_item_23 rfl ?_
      refine ev_lconst (v := lN 0) d_M_item_25 (by decide) ?_
      refine ev_ldc2 (v := (100000)) d_M_item_26 ck_M_95 ?_
      refine ev_topl (w := lN 100000) (by decide) ?_
      refine cs (mc' := 0) (ms' := 0) (k' := k_M_isIn) (As := [.long (lN (ce)), .long (lN (0)), .long (lN (100000))]) (stk := []) d_M_item_29 ml_M_91 kk_M_isIn rfl rfl (Nat.le_of_ble_eq_true rfl) (ct_M_isInV (d := d) (LZ_n (by omega)) (LZ_n (by omega)) (LZ_n (by omega))) (rd ?_)
      refine ev_if_eq d_M_item_32 (fun c_32 => ?_) (fun c_32 => ?_)
      ·
        have c_32 := b2_f c_32
        exfalso; rw [decide_eq_false_iff_not] at c_32; omega
      ·
        have c_32 := b2_t c_32
        refine ev_iconst (v := (nI (1))) d_M_item_35 (by decide) ?_
        refine ev_goto d_M_item_36 ?_
        refine ev_istore (ls' := [_, _, _, none, _, none, _]) d_M_item_40 (by decide) rfl rfl ?_
        refine ev_aload_n d_M_item_42 rfl rfl ?_
        refine ev_aload_n d_M_item_43 rfl rfl ?_
        refine ev_getf (kf := 5) (T := F_M) (C := R_M) (N := 30) (v := .int (nI (c.mn))) d_M_item_44 fl_M_97 rfl i_M (by decide) (by omega) (hM 0 _ rfl) rfl ?_
        refine ev_bipush (v := (nI (6))) d_M_item_47 (by decide) ?_
        refine ev_icmp_ne d_M_item_49 (fun c_49 => ?_) (fun c_49 => ?_)
        ·
          simp (disch := omega) only [nI_ltI, nI_leI, nI_eq, Nat.not_lt, Nat.not_le] at c_49
          refine ev_iload d_M_item_56 rfl ?_
          refine ev_if_eq d_M_item_58 (fun c_58 => ?_) (fun c_58 => ?_)
          ·
            skip
            exact absurd c_58 (by decide)
          ·
            skip
            refine ev_iconst (v := (nI (0))) d_M_item_61 (by decide) ?_
            refine ev_goto d_M_item_62 ?_
            refine ev_putM (kf := 0) d_M_item_66 fl_M_76 (by decide) rfl rfl rfl rfl (by omega) hM rfl (Nat.le_of_ble_eq_true rfl) (fun ν hM hf => ?_)
            have hM : ML ν (mmL G c 0 hp tl pc pw pn bw bk me cl mt ts pit pat psz) := hM
            have hF := frT hf hF
            refine ev_aload_n d_M_item_69 rfl rfl ?_
            refine ev_getf (kf := 0) (T := F_M) (C := R_M) (N := 30) (v := .int (nI (0))) d_M_item_70 fl_M_76 rfl i_M (by decide) (by omega) (hM 0 _ rfl) rfl ?_
            refine ev_if_le d_M_item_73 (fun c_73 => ?_) (fun c_73 => ?_)
            ·
              skip
              refine ev_aload_n d_M_item_78 rfl rfl ?_
              refine ev_getf (kf := 6) (T := F_M) (C := R_M) (N := 30) (v := .ref (G.1 + 23)) d_M_item_79 fl_M_17 rfl i_M (by decide) (by omega) (hM 0 _ rfl) rfl ?_
              refine ev_aload_n d_M_item_82 rfl rfl ?_
              refine ev_getf (kf := 5) (T := F_M) (C := R_M) (N := 30) (v := .int (nI (c.mn))) d_M_item_83 fl_M_97 rfl i_M (by decide) (by omega) (hM 0 _ rfl) rfl ?_
              refine ev_iload_n d_M_item_86 rfl rfl ?_
              refine ev_iastM (a := 3) (j := c.mn) d_M_item_87 (by decide) (by omega) hM rfl (by omega) (by decide) (upd_nI _ _ _) (fun ν hM hf => ?_)
              have hM : ML ν (mmL G (c.set_wd (fun j => if j = c.mn then w else c.wd j)) 0 hp tl pc pw pn bw bk me cl mt ts pit pat psz) := hM
              have hF := frT hf hF
              refine ev_aload_n d_M_item_88 rfl rfl ?_
              refine ev_getf (kf := 7) (T := F_M) (C := R_M) (N := 30) (v := .ref (G.1 + 24)) d_M_item_89 fl_M_20 rfl i_M (by decide) (by omega) (hM 0 _ rfl) rfl ?_
              refine ev_aload_n d_M_item_92 rfl rfl ?_
              refine ev_getf (kf := 5) (T := F_M) (C := R_M) (N := 30) (v := .int (nI (c.mn))) d_M_item_93 fl_M_97 rfl i_M (by decide) (by omega) (hM 0 _ rfl) rfl ?_
              refine ev_lload_n d_M_item_96 rfl rfl ?_
              refine ev_lastM (a := 4) (j := c.mn) d_M_item_97 (by decide) (by omega) hM rfl (by omega) (by decide) (updL_lN _ _ _) (fun ν hM hf => ?_)
              have hM : ML ν (mmL G ((c.set_wd (fun j => if j = c.mn then w else c.wd j)).set_wo (fun j => if j = c.mn then wo else c.wo j)) 0 hp tl pc pw pn bw bk me cl mt ts pit pat psz) := hM
              have hF := frT hf hF
              refine ev_aload_n d_M_item_98 rfl rfl ?_
              refine ev_getf (kf := 8) (T := F_M) (C := R_M) (N := 30) (v := .ref (G.1 + 25)) d_M_item_99 fl_M_24 rfl i_M (by decide) (by omega) (hM 0 _ rfl) rfl ?_
              refine ev_aload_n d_M_item_102 rfl rfl ?_
              refine ev_getf (kf := 5) (T := F_M) (C := R_M) (N := 30) (v := .int (nI (c.mn))) d_M_item_103 fl_M_97 rfl i_M (by decide) (by omega) (hM 0 _ rfl) rfl ?_
              refine ev_lload d_M_item_106 rfl ?_
              refine ev_lastM (a := 5) (j := c.mn) d_M_item_108 (by decide) (by omega) hM rfl (by omega) (by decide) (updL_lN _ _ _) (fun ν hM hf => ?_)
              have hM : ML ν (mmL G (((c.set_wd (fun j => if j = c.mn then w else c.wd j)).set_wo (fun j => if j = c.mn then wo else c.wo j)).set_ce (fun j => if j = c.mn then ce else c.ce j)) 0 hp tl pc pw pn bw bk me cl mt ts pit pat psz) := hM
              have hF := frT hf hF
              refine ev_aload_n d_M_item_109 rfl rfl ?_
              refine ev_dup d_M_item_110 rfl ?_
              refine ev_getf (kf := 5) (T := F_M) (C := R_M) (N := 30) (v := .int (nI (c.mn))) d_M_item_111 fl_M_97 rfl i_M (by decide) (by omega) (hM 0 _ rfl) rfl ?_
              refine ev_iconst (v := (nI (1))) d_M_item_114 (by decide) ?_
              refine ev_iadd d_M_item_115 ?_
              refine ev_topi (w := (nI (c.mn + 1))) (nI_add _ _) ?_
              refine ev_putM (kf := 5) d_M_item_116 fl_M_97 (by decide) rfl rfl rfl rfl (by omega) hM rfl (Nat.le_of_ble_eq_true rfl) (fun ν hM hf => ?_)
              have hM : ML ν (mmL G (Cf.set_mn (((c.set_wd (fun j => if j = c.mn then w else c.wd j)).set_wo (fun j => if j = c.mn then wo else c.wo j)).set_ce (fun j => if j = c.mn then ce else c.ce j)) (c.mn + 1)) 0 hp tl pc pw pn bw bk me cl mt ts pit pat psz) := hM
              have hF := frT hf hF
              refine ev_aload_n d_M_item_119 rfl rfl ?_
              refine cv (mc' := 0) (ms' := 0) (k' := k_M_change) (As := []) (stk := []) d_M_item_120 ml_M_83 kk_M_change rfl rfl (Nat.le_of_ble_eq_true rfl) (by omega) (hM 0 _ rfl) rfl rfl (ct_M_change (d := d) hn hM) (af fun n1 ν hq => ?_)
              obtain ⟨hn1, hM, hf⟩ := hq
              subst n1
              have hM : ML ν (mmL G (Cf.set_mn (((c.set_wd (fun j => if j = c.mn then w else c.wd j)).set_wo (fun j => if j = c.mn then wo else c.wo j)).set_ce (fun j => if j = c.mn then ce else c.ce j)) (c.mn + 1)) 0 false tl pc pw pn bw bk me cl mt ts pit pat psz) := hM
              have hF := frT hf hF
              refine ev_aload_n d_M_item_123 rfl rfl ?_
              refine ev_getf (kf := 5) (T := F_M) (C := R_M) (N := 30) (v := .int (nI (c.mn + 1))) d_M_item_124 fl_M_97 rfl i_M (by decide) (by omega) (hM 0 _ rfl) rfl ?_
              refine ev_iconst (v := (nI (1))) d_M_item_127 (by decide) ?_
              refine ev_isub d_M_item_128 ?_
              refine ev_topi (w := (nI (c.mn))) (by rw [nI_iI, nI_iI, iI_sub, nI_iI]; congr 1; omega) ?_
              refine ev_ireturn d_M_item_129 rfl rfl ?_
              exact ⟨rfl, rfl, hM, hF⟩
            ·
              skip
              exact absurd (by decide) c_73
        ·
          simp (disch := omega) only [nI_ltI, nI_leI, nI_eq, Nat.not_lt, Nat.not_le] at c_49
          omega
theorem ct_M_item_no1 {a : Int} {wo ce : Int64} (hm6 : ¬ c.mn < 6) (ha1 : -2147483648 ≤ a) (ha2 : a < 2147483648) (hn : 41 ≤ n) (hM : ML μ (mmL G c cd hp tl pc pw pn bw bk me cl mt ts pit pat psz)) (hc : CfOK c) : Ct G k_M_item (d + 1) 0 0 [.ref (G.1 + 20), .int (iI a), .long wo, .long ce] n μ (MU G n μ (some (.int (nI 0))) (mmL G c 1 hp tl pc pw pn bw bk me cl mt ts pit pat psz)) := by
  obtain ⟨⟨hst1, hst2⟩, hfr, hpn, hpp, hmn, hwd, hnd, hpu, hnr, hbr, hle, hdef⟩ := id hc
  have hF : FrM μ μ := fun t _ => rfl
  generalize hQ : (MU G n μ (some (.int (nI 0))) (mmL G c 1 hp tl pc pw pn bw bk me cl mt ts pit pat psz)) = Q
  refine Ct.ofp (r := 1) (ls := [some (.ref (G.1 + 20)), some (.int (iI (a))), some (.long (wo)), none, some (.long (ce)), none, none]) rfl (Nat.le_of_ble_eq_true rfl) ?_
  have hJ_40 : ∀ b : Bool, True → Ev G k_M_item (d + 1) 0 0 40 [some (.ref (G.1 + 20)), some (.int (iI (a))), some (.long (wo)), none, some (.long (ce)), none, none] [.int (b2 (b))] n μ Q := by
    intro b hJ
    refine ev_istore (ls' := [_, _, _, none, _, none, _]) d_M_item_40 (by decide) rfl rfl ?_
    refine ev_aload_n d_M_item_42 rfl rfl ?_
    refine ev_aload_n d_M_item_43 rfl rfl ?_
    refine ev_getf (kf := 5) (T := F_M) (C := R_M) (N := 30) (v := .int (nI (c.mn))) d_M_item_44 fl_M_97 rfl i_M (by decide) (by omega) (hM 0 _ rfl) rfl ?_
    refine ev_bipush (v := (nI (6))) d_M_item_47 (by decide) ?_
    refine ev_icmp_ne d_M_item_49 (fun c_49 => ?_) (fun c_49 => ?_)
    ·
      simp (disch := omega) only [nI_ltI, nI_leI, nI_eq, Nat.not_lt, Nat.not_le] at c_49
      omega
    ·
      simp (disch := omega) only [nI_ltI, nI_leI, nI_eq, Nat.not_lt, Nat.not_le] at c_49
      refine ev_iconst (v := (nI (1))) d_M_item_52 (by decide) ?_
      refine ev_goto d_M_item_53 ?_
      refine ev_putM (kf := 0) d_M_item_66 fl_M_76 (by decide) rfl rfl rfl rfl (by omega) hM rfl (Nat.le_of_ble_eq_true rfl) (fun ν hM hf => ?_)
      have hM : ML ν (mmL G c 1 hp tl pc pw pn bw bk me cl mt ts pit pat psz) := hM
      have hF := frT hf hF
      refine ev_aload_n d_M_item_69 rfl rfl ?_
      refine ev_getf (kf := 0) (T := F_M) (C := R_M) (N := 30) (v := .int (nI (1))) d_M_item_70 fl_M_76 rfl i_M (by decide) (by omega) (hM 0 _ rfl) rfl ?_
      refine ev_if_le d_M_item_73 (fun c_73 => ?_) (fun c_73 => ?_)
      ·
        skip
        exact absurd c_73 (by decide)
      ·
        skip
        refine ev_iconst (v := (nI (0))) d_M_item_76 (by decide) ?_
        refine ev_ireturn d_M_item_77 rfl rfl ?_
        subst hQ
        exact ⟨rfl, rfl, hM, hF⟩
  refine ev_iload_n d_M_item_0 rfl rfl ?_
  refine ev_i2l d_M_item_1 ?_
  refine ev_lconst (v := lN 1) d_M_item_2 (by decide) ?_
  refine ev_ldc2 (v := (20)) d_M_item_3 ck_M_89 ?_
  refine ev_topl (w := lN 20) (by decide) ?_
  refine cs (mc' := 0) (ms' := 0) (k' := k_M_isIn) (As := [.long (((iI (a))).toInt64), .long (lN (1)), .long (lN (20))]) (stk := []) d_M_item_6 ml_M_91 kk_M_isIn rfl rfl (Nat.le_of_ble_eq_true rfl) (ct_M_isInV (d := d) (LZ_z (by omega) (by omega)) (LZ_n (by omega)) (LZ_n (by omega))) (rd ?_)
  refine ev_if_eq d_M_item_9 (fun c_9 => ?_) (fun c_9 => ?_)
  ·
    have c_9 := b2_f c_9
    refine ev_iconst (v := (nI (0))) d_M_item_39 (by decide) ?_
    exact hJ_40 false trivial
  ·
    have c_9 := b2_t c_9
    refine ev_lload_n d_M_item_12 rfl rfl ?_
    refine ev_lconst (v := lN 0) d_M_item_13 (by decide) ?_
    refine ev_ldc2 (v := (100000)) d_M_item_14 ck_M_95 ?_
    refine ev_topl (w := lN 100000) (by decide) ?_
    refine cs (mc' := 0) (ms' := 0) (k' := k_M_isIn) (As := [.long (wo), .long (lN (0)), .long (lN (100000))]) (stk := []) d_M_item_17 ml_M_91 kk_M_isIn rfl rfl (Nat.le_of_ble_eq_true rfl) (ct_M_isInV (d := d) (LZ_of _) (LZ_n (by omega)) (LZ_n (by omega))) (rd ?_)
    refine ev_if_eq d_M_item_20 (fun c_20 => ?_) (fun c_20 => ?_)
    ·
      have c_20 := b2_f c_20
      refine ev_iconst (v := (nI (0))) d_M_item_39 (by decide) ?_
      exact hJ_40 false trivial
    ·
      have c_20 := b2_t c_20
      refine ev_lload d_M_item_23 rfl ?_
      refine ev_lconst (v := lN 0) d_M_item_25 (by decide) ?_
      refine ev_ldc2 (v := (100000)) d_M_item_26 ck_M_95 ?_
      refine ev_topl (w := lN 100000) (by decide) ?_
      refine cs (mc' := 0) (ms' := 0) (k' := k_M_isIn) (As := [.long (ce), .long (lN (0)), .long (lN (100000))]) (stk := []) d_M_item_29 ml_M_91 kk_M_isIn rfl rfl (Nat.le_of_ble_eq_true rfl) (ct_M_isInV (d := d) (LZ_of _) (LZ_n (by omega)) (LZ_n (by omega))) (rd ?_)
      refine ev_if_eq d_M_item_32 (fun c_32 => ?_) (fun c_32 => ?_)
      ·
        have c_32 := b2_f c_32
        refine ev_iconst (v := (nI (0))) d_M_item_39 (by decide) ?_
        exact hJ_40 false trivial
      ·
        have c_32 := b2_t c_32
        refine ev_iconst (v := (nI (1))) d_M_item_35 (by decide) ?_
        refine ev_goto d_M_item_36 ?_
        exact hJ_40 true trivial
theorem ct_M_item_no2 {a : Int} {wo ce : Int64} (hm6 : c.mn < 6) (hno : ¬ ((1 ≤ a ∧ a ≤ 20) ∧ (0 ≤ wo.toInt ∧ wo.toInt ≤ 100000) ∧ (0 ≤ ce.toInt ∧ ce.toInt ≤ 100000))) (ha1 : -2147483648 ≤ a) (ha2 : a < 2147483648) (hn : 41 ≤ n) (hM : ML μ (mmL G c cd hp tl pc pw pn bw bk me cl mt ts pit pat psz)) (hc : CfOK c) : Ct G k_M_item (d + 1) 0 0 [.ref (G.1 + 20), .int (iI a), .long wo, .long ce] n μ (MU G n μ (some (.int (nI 0))) (mmL G c 2 hp tl pc pw pn bw bk me cl mt ts pit pat psz)) := by
  obtain ⟨⟨hst1, hst2⟩, hfr, hpn, hpp, hmn, hwd, hnd, hpu, hnr, hbr, hle, hdef⟩ := id hc
  have hF : FrM μ μ := fun t _ => rfl
  generalize hQ : (MU G n μ (some (.int (nI 0))) (mmL G c 2 hp tl pc pw pn bw bk me cl mt ts pit pat psz)) = Q
  refine Ct.ofp (r := 1) (ls := [some (.ref (G.1 + 20)), some (.int (iI (a))), some (.long (wo)), none, some (.long (ce)), none, none]) rfl (Nat.le_of_ble_eq_true rfl) ?_
  have hJ_40 : ∀ b : Bool, b = false → Ev G k_M_item (d + 1) 0 0 40 [some (.ref (G.1 + 20)), some (.int (iI (a))), some (.long (wo)), none, some (.long (ce)), none, none] [.int (b2 (b))] n μ Q := by
    intro b hJ
    refine ev_istore (ls' := [_, _, _, none, _, none, _]) d_M_item_40 (by decide) rfl rfl ?_
    refine ev_aload_n d_M_item_42 rfl rfl ?_
    refine ev_aload_n d_M_item_43 rfl rfl ?_
    refine ev_getf (kf := 5) (T := F_M) (C := R_M) (N := 30) (v := .int (nI (c.mn))) d_M_item_44 fl_M_97 rfl i_M (by decide) (by omega) (hM 0 _ rfl) rfl ?_
    refine ev_bipush (v := (nI (6))) d_M_item_47 (by decide) ?_
    refine ev_icmp_ne d_M_item_49 (fun c_49 => ?_) (fun c_49 => ?_)
    ·
      simp (disch := omega) only [nI_ltI, nI_leI, nI_eq, Nat.not_lt, Nat.not_le] at c_49
      refine ev_iload d_M_item_56 rfl ?_
      refine ev_if_eq d_M_item_58 (fun c_58 => ?_) (fun c_58 => ?_)
      ·
        have c_58 := b2_f c_58
        refine ev_iconst (v := (nI (2))) d_M_item_65 (by decide) ?_
        refine ev_putM (kf := 0) d_M_item_66 fl_M_76 (by decide) rfl rfl rfl rfl (by omega) hM rfl (Nat.le_of_ble_eq_true rfl) (fun ν hM hf => ?_)
        have hM : ML ν (mmL G c 2 hp tl pc pw pn bw bk me cl mt ts pit pat psz) := hM
        have hF := frT hf hF
        refine ev_aload_n d_M_item_69 rfl rfl ?_
        refine ev_getf (kf := 0) (T := F_M) (C := R_M) (N := 30) (v := .int (nI (2))) d_M_item_70 fl_M_76 rfl i_M (by decide) (by omega) (hM 0 _ rfl) rfl ?_
        refine ev_if_le d_M_item_73 (fun c_73 => ?_) (fun c_73 => ?_)
        ·
          skip
          exact absurd c_73 (by decide)
        ·
          skip
          refine ev_iconst (v := (nI (0))) d_M_item_76 (by decide) ?_
          refine ev_ireturn d_M_item_77 rfl rfl ?_
          subst hQ
          exact ⟨rfl, rfl, hM, hF⟩
      ·
        have c_58 := b2_t c_58
        rw [hJ] at c_58; cases c_58
    ·
      simp (disch := omega) only [nI_ltI, nI_leI, nI_eq, Nat.not_lt, Nat.not_le] at c_49
      omega
  refine ev_iload_n d_M_item_0 rfl rfl ?_
  refine ev_i2l d_M_item_1 ?_
  refine ev_lconst (v := lN 1) d_M_item_2 (by decide) ?_
  refine ev_ldc2 (v := (20)) d_M_item_3 ck_M_89 ?_
  refine ev_topl (w := lN 20) (by decide) ?_
  refine cs (mc' := 0) (ms' := 0) (k' := k_M_isIn) (As := [.long (((iI (a))).toInt64), .long (lN (1)), .long (lN (20))]) (stk := []) d_M_item_6 ml_M_91 kk_M_isIn rfl rfl (Nat.le_of_ble_eq_true rfl) (ct_M_isInV (d := d) (LZ_z (by omega) (by omega)) (LZ_n (by omega)) (LZ_n (by omega))) (rd ?_)
  refine ev_if_eq d_M_item_9 (fun c_9 => ?_) (fun c_9 => ?_)
  ·
    have c_9 := b2_f c_9
    refine ev_iconst (v := (nI (0))) d_M_item_39 (by decide) ?_
    exact hJ_40 false rfl
  ·
    have c_9 := b2_t c_9
    refine ev_lload_n d_M_item_12 rfl rfl ?_
    refine ev_lconst (v := lN 0) d_M_item_13 (by decide) ?_
    refine ev_ldc2 (v := (100000)) d_M_item_14 ck_M_95 ?_
    refine ev_topl (w := lN 100000) (by decide) ?_
    refine cs (mc' := 0) (ms' := 0) (k' := k_M_isIn) (As := [.long (wo), .long (lN (0)), .long (lN (100000))]) (stk := []) d_M_item_17 ml_M_91 kk_M_isIn rfl rfl (Nat.le_of_ble_eq_true rfl) (ct_M_isInV (d := d) (LZ_of _) (LZ_n (by omega)) (LZ_n (by omega))) (rd ?_)
    refine ev_if_eq d_M_item_20 (fun c_20 => ?_) (fun c_20 => ?_)
    ·
      have c_20 := b2_f c_20
      refine ev_iconst (v := (nI (0))) d_M_item_39 (by decide) ?_
      exact hJ_40 false rfl
    ·
      have c_20 := b2_t c_20
      refine ev_lload d_M_item_23 rfl ?_
      refine ev_lconst (v := lN 0) d_M_item_25 (by decide) ?_
      refine ev_ldc2 (v := (100000)) d_M_item_26 ck_M_95 ?_
      refine ev_topl (w := lN 100000) (by decide) ?_
      refine cs (mc' := 0) (ms' := 0) (k' := k_M_isIn) (As := [.long (ce), .long (lN (0)), .long (lN (100000))]) (stk := []) d_M_item_29 ml_M_91 kk_M_isIn rfl rfl (Nat.le_of_ble_eq_true rfl) (ct_M_isInV (d := d) (LZ_of _) (LZ_n (by omega)) (LZ_n (by omega))) (rd ?_)
      refine ev_if_eq d_M_item_32 (fun c_32 => ?_) (fun c_32 => ?_)
      ·
        have c_32 := b2_f c_32
        refine ev_iconst (v := (nI (0))) d_M_item_39 (by decide) ?_
        exact hJ_40 false rfl
      ·
        have c_32 := b2_t c_32
        refine ev_iconst (v := (nI (1))) d_M_item_35 (by decide) ?_
        refine ev_goto d_M_item_36 ?_
        exfalso; have := of_decide_eq_true c_9; have := of_decide_eq_true c_20; have := of_decide_eq_true c_32; omega
theorem ct_M_need_ok {k : Nat} {z : Int} (hk : k < c.mn) (hz1 : -1 ≤ z) (hz2 : z ≤ 40) (hn : 41 ≤ n) (hM : ML μ (mmL G c cd hp tl pc pw pn bw bk me cl mt ts pit pat psz)) (hc : CfOK c) : Ct G k_M_need (d + 1) 0 0 [.ref (G.1 + 20), .int (nI k), .int (iI z)] n μ (MU G n μ (some (.int (b2 (decide (c.nd k ≠ z))))) (mmL G (needC c k z) 0 ((hp && !decide (c.nd k ≠ z))) tl pc pw pn bw bk me cl mt ts pit pat psz)) := by
  obtain ⟨⟨hst1, hst2⟩, hfr, hpn, hpp, hmn, hwd, hnd, hpu, hnr, hbr, hle, hdef⟩ := id hc
  have hF : FrM μ μ := fun t _ => rfl
  have hndk := hnd k
  have hpuk := hpu k
  refine Ct.ofp (r := 0) (ls := [some (.ref (G.1 + 20)), some (.int (nI (k))), some (.int (iI (z)))]) rfl (Nat.le_of_ble_eq_true rfl) ?_
  refine ev_aload_n d_M_need_0 rfl rfl ?_
  refine ev_aload_n d_M_need_1 rfl rfl ?_
  refine ev_iload_n d_M_need_2 rfl rfl ?_
  refine cv (mc' := 0) (ms' := 0) (k' := k_M_isItem) (As := [.int (nI (k))]) (stk := [.ref (G.1 + 20)]) d_M_need_3 ml_M_100 kk_M_isItem rfl rfl (Nat.le_of_ble_eq_true rfl) (by omega) (hM 0 _ rfl) rfl rfl (ct_M_isItemN (d := d) hk hn hM hc) (rd ?_)
  refine ev_if_ne d_M_need_6 (fun c_6 => ?_) (fun c_6 => ?_)
  ·
    have c_6 := b2_t c_6
    refine ev_iload_n d_M_need_13 rfl rfl ?_
    refine ev_i2l d_M_need_14 ?_
    refine ev_ldc2 (v := (-1)) d_M_need_15 ck_M_104 ?_
    refine ev_ldc2 (v := (40)) d_M_need_18 ck_M_106 ?_
    refine ev_topl (w := lN 40) (by decide) ?_
    refine cs (mc' := 0) (ms' := 0) (k' := k_M_isIn) (As := [.long (((iI (z))).toInt64), .long ((-1)), .long (lN (40))]) (stk := [.ref (G.1 + 20)]) d_M_need_21 ml_M_91 kk_M_isIn rfl rfl (Nat.le_of_ble_eq_true rfl) (ct_M_isInV (d := d) (LZ_z (by omega) (by omega)) (show Int64.toInt (-1) = (-1) from by decide) (LZ_n (by omega))) (rd ?_)
    refine ev_if_eq d_M_need_24 (fun c_24 => ?_) (fun c_24 => ?_)
    ·
      have c_24 := b2_f c_24
      exfalso; rw [decide_eq_false_iff_not] at c_24; omega
    ·
      have c_24 := b2_t c_24
      refine ev_iconst (v := (nI (0))) d_M_need_27 (by decide) ?_
      refine ev_goto d_M_need_28 ?_
      refine ev_putM (kf := 0) d_M_need_32 fl_M_76 (by decide) rfl rfl rfl rfl (by omega) hM rfl (Nat.le_of_ble_eq_true rfl) (fun ν hM hf => ?_)
      have hM : ML ν (mmL G c 0 hp tl pc pw pn bw bk me cl mt ts pit pat psz) := hM
      have hF := frT hf hF
      refine ev_aload_n d_M_need_35 rfl rfl ?_
      refine ev_getf (kf := 0) (T := F_M) (C := R_M) (N := 30) (v := .int (nI (0))) d_M_need_36 fl_M_76 rfl i_M (by decide) (by omega) (hM 0 _ rfl) rfl ?_
      refine ev_if_gt d_M_need_39 (fun c_39 => ?_) (fun c_39 => ?_)
      ·
        skip
        exact absurd c_39 (by decide)
      ·
        skip
        refine ev_aload_n d_M_need_42 rfl rfl ?_
        refine ev_getf (kf := 9) (T := F_M) (C := R_M) (N := 30) (v := .ref (G.1 + 26)) d_M_need_43 fl_M_27 rfl i_M (by decide) (by omega) (hM 0 _ rfl) rfl ?_
        refine ev_iload_n d_M_need_46 rfl rfl ?_
        refine ev_iald (j := k) d_M_need_47 (by omega) (hM 6 _ rfl) (by omega) (by decide) ?_
        refine ev_iload_n d_M_need_48 rfl rfl ?_
        refine ev_icmp_ne d_M_need_49 (fun c_49 => ?_) (fun c_49 => ?_)
        ·
          simp (disch := omega) only [nI_iI, iI_ltI, iI_leI, iI_eq, Int.not_lt, Int.not_le] at c_49
          refine ev_aload_n d_M_need_54 rfl rfl ?_
          refine ev_getf (kf := 9) (T := F_M) (C := R_M) (N := 30) (v := .ref (G.1 + 26)) d_M_need_55 fl_M_27 rfl i_M (by decide) (by omega) (hM 0 _ rfl) rfl ?_
          refine ev_iload_n d_M_need_58 rfl rfl ?_
          refine ev_iload_n d_M_need_59 rfl rfl ?_
          refine ev_iastM (a := 6) (j := k) d_M_need_60 (by decide) (by omega) hM rfl (by omega) (by decide) (upd_iI _ _ _) (fun ν hM hf => ?_)
          have hM : ML ν (mmL G (needC c k z) 0 hp tl pc pw pn bw bk me cl mt ts pit pat psz) := hM
          have hF := frT hf hF
          refine ev_aload_n d_M_need_61 rfl rfl ?_
          refine cv (mc' := 0) (ms' := 0) (k' := k_M_change) (As := []) (stk := []) d_M_need_62 ml_M_83 kk_M_change rfl rfl (Nat.le_of_ble_eq_true rfl) (by omega) (hM 0 _ rfl) rfl rfl (ct_M_change (d := d) hn hM) (af fun n1 ν hq => ?_)
          obtain ⟨hn1, hM, hf⟩ := hq
          subst n1
          have hM : ML ν (mmL G (needC c k z) 0 false tl pc pw pn bw bk me cl mt ts pit pat psz) := hM
          have hF := frT hf hF
          refine ev_iconst (v := (nI (1))) d_M_need_65 (by decide) ?_
          refine ev_ireturn d_M_need_66 rfl rfl ?_
          rw [show decide (c.nd k ≠ z) = true from by simp [c_49]]
          simp only [Bool.not_true, Bool.not_false, Bool.and_false, Bool.and_true]
          exact ⟨rfl, rfl, hM, hF⟩
        ·
          simp (disch := omega) only [nI_iI, iI_ltI, iI_leI, iI_eq, Int.not_lt, Int.not_le] at c_49
          refine ev_iconst (v := (nI (0))) d_M_need_52 (by decide) ?_
          refine ev_ireturn d_M_need_53 rfl rfl ?_
          rw [needC_id c_49, show decide (c.nd k ≠ z) = false from by simp [c_49]]
          simp only [Bool.not_true, Bool.not_false, Bool.and_false, Bool.and_true]
          exact ⟨rfl, rfl, hM, hF⟩
  ·
    have c_6 := b2_f c_6
    cases c_6
theorem ct_M_need_no1 {a z : Int} (ha1 : -2147483648 ≤ a) (ha2 : a < 2147483648) (hz1 : -2147483648 ≤ z) (hz2 : z < 2147483648) (hno : ¬ (0 ≤ a ∧ a < c.mn)) (hn : 41 ≤ n) (hM : ML μ (mmL G c cd hp tl pc pw pn bw bk me cl mt ts pit pat psz)) (hc : CfOK c) : Ct G k_M_need (d + 1) 0 0 [.ref (G.1 + 20), .int (iI a), .int (iI z)] n μ (MU G n μ (some (.int (nI 0))) (mmL G c 1 hp tl pc pw pn bw bk me cl mt ts pit pat psz)) := by
  obtain ⟨⟨hst1, hst2⟩, hfr, hpn, hpp, hmn, hwd, hnd, hpu, hnr, hbr, hle, hdef⟩ := id hc
  have hF : FrM μ μ := fun t _ => rfl
  refine Ct.ofp (r := 0) (ls := [some (.ref (G.1 + 20)), some (.int (iI (a))), some (.int (iI (z)))]) rfl (Nat.le_of_ble_eq_true rfl) ?_
  refine ev_aload_n d_M_need_0 rfl rfl ?_
  refine ev_aload_n d_M_need_1 rfl rfl ?_
  refine ev_iload_n d_M_need_2 rfl rfl ?_
  refine cv (mc' := 0) (ms' := 0) (k' := k_M_isItem) (As := [.int (iI (a))]) (stk := [.ref (G.1 + 20)]) d_M_need_3 ml_M_100 kk_M_isItem rfl rfl (Nat.le_of_ble_eq_true rfl) (by omega) (hM 0 _ rfl) rfl rfl (ct_M_isItem (d := d) ha1 ha2 hn hM hc) (rd ?_)
  refine ev_if_ne d_M_need_6 (fun c_6 => ?_) (fun c_6 => ?_)
  ·
    have c_6 := b2_t c_6
    exact absurd (of_decide_eq_true c_6) hno
  ·
    have c_6 := b2_f c_6
    refine ev_iconst (v := (nI (1))) d_M_need_9 (by decide) ?_
    refine ev_goto d_M_need_10 ?_
    refine ev_putM (kf := 0) d_M_need_32 fl_M_76 (by decide) rfl rfl rfl rfl (by omega) hM rfl (Nat.le_of_ble_eq_true rfl) (fun ν hM hf => ?_)
    have hM : ML ν (mmL G c 1 hp tl pc pw pn bw bk me cl mt ts pit pat psz) := hM
    have hF := frT hf hF
    refine ev_aload_n d_M_need_35 rfl rfl ?_
    refine ev_getf (kf := 0) (T := F_M) (C := R_M) (N := 30) (v := .int (nI (1))) d_M_need_36 fl_M_76 rfl i_M (by decide) (by omega) (hM 0 _ rfl) rfl ?_
    refine ev_if_gt d_M_need_39 (fun c_39 => ?_) (fun c_39 => ?_)
    ·
      skip
      refine ev_iconst (v := (nI (0))) d_M_need_52 (by decide) ?_
      refine ev_ireturn d_M_need_53 rfl rfl ?_
      exact ⟨rfl, rfl, hM, hF⟩
    ·
      skip
      exact absurd (by decide) c_39
theorem ct_M_need_no2 {k : Nat} {z : Int} (hk : k < c.mn) (hz1 : -2147483648 ≤ z) (hz2 : z < 2147483648) (hno : ¬ (-1 ≤ z ∧ z ≤ 40)) (hn : 41 ≤ n) (hM : ML μ (mmL G c cd hp tl pc pw pn bw bk me cl mt ts pit pat psz)) (hc : CfOK c) : Ct G k_M_need (d + 1) 0 0 [.ref (G.1 + 20), .int (nI k), .int (iI z)] n μ (MU G n μ (some (.int (nI 0))) (mmL G c 2 hp tl pc pw pn bw bk me cl mt ts pit pat psz)) := by
  obtain ⟨⟨hst1, hst2⟩, hfr, hpn, hpp, hmn, hwd, hnd, hpu, hnr, hbr, hle, hdef⟩ := id hc
  have hF : FrM μ μ := fun t _ => rfl
  refine Ct.ofp (r := 0) (ls := [some (.ref (G.1 + 20)), some (.int (nI (k))), some (.int (iI (z)))]) rfl (Nat.le_of_ble_eq_true rfl) ?_
  refine ev_aload_n d_M_need_0 rfl rfl ?_
  refine ev_aload_n d_M_need_1 rfl rfl ?_
  refine ev_iload_n d_M_need_2 rfl rfl ?_
  refine cv (mc' := 0) (ms' := 0) (k' := k_M_isItem) (As := [.int (nI (k))]) (stk := [.ref (G.1 + 20)]) d_M_need_3 ml_M_100 kk_M_isItem rfl rfl (Nat.le_of_ble_eq_true rfl) (by omega) (hM 0 _ rfl) rfl rfl (ct_M_isItemN (d := d) hk hn hM hc) (rd ?_)
  refine ev_if_ne d_M_need_6 (fun c_6 => ?_) (fun c_6 => ?_)
  ·
    have c_6 := b2_t c_6
    refine ev_iload_n d_M_need_13 rfl rfl ?_
    refine ev_i2l d_M_need_14 ?_
    refine ev_ldc2 (v := (-1)) d_M_need_15 ck_M_104 ?_
    refine ev_ldc2 (v := (40)) d_M_need_18 ck_M_106 ?_
    refine ev_topl (w := lN 40) (by decide) ?_
    refine cs (mc' := 0) (ms' := 0) (k' := k_M_isIn) (As := [.long (((iI (z))).toInt64), .long ((-1)), .long (lN (40))]) (stk := [.ref (G.1 + 20)]) d_M_need_21 ml_M_91 kk_M_isIn rfl rfl (Nat.le_of_ble_eq_true rfl) (ct_M_isInV (d := d) (LZ_z (by omega) (by omega)) (show Int64.toInt (-1) = (-1) from by decide) (LZ_n (by omega))) (rd ?_)
    refine ev_if_eq d_M_need_24 (fun c_24 => ?_) (fun c_24 => ?_)
    ·
      have c_24 := b2_f c_24
      refine ev_iconst (v := (nI (2))) d_M_need_31 (by decide) ?_
      refine ev_putM (kf := 0) d_M_need_32 fl_M_76 (by decide) rfl rfl rfl rfl (by omega) hM rfl (Nat.le_of_ble_eq_true rfl) (fun ν hM hf => ?_)
      have hM : ML ν (mmL G c 2 hp tl pc pw pn bw bk me cl mt ts pit pat psz) := hM
      have hF := frT hf hF
      refine ev_aload_n d_M_need_35 rfl rfl ?_
      refine ev_getf (kf := 0) (T := F_M) (C := R_M) (N := 30) (v := .int (nI (2))) d_M_need_36 fl_M_76 rfl i_M (by decide) (by omega) (hM 0 _ rfl) rfl ?_
      refine ev_if_gt d_M_need_39 (fun c_39 => ?_) (fun c_39 => ?_)
      ·
        skip
        refine ev_iconst (v := (nI (0))) d_M_need_52 (by decide) ?_
        refine ev_ireturn d_M_need_53 rfl rfl ?_
        exact ⟨rfl, rfl, hM, hF⟩
      ·
        skip
        exact absurd (by decide) c_39
    ·
      have c_24 := b2_t c_24
      exact absurd (of_decide_eq_true c_24) hno
  ·
    have c_6 := b2_f c_6
    cases c_6
theorem ct_M_place_ok {k : Nat} {z : Int} (hk : k < c.mn) (hz1 : -101 ≤ z) (hz2 : z ≤ 100) (hn : 41 ≤ n) (hM : ML μ (mmL G c cd hp tl pc pw pn bw bk me cl mt ts pit pat psz)) (hc : CfOK c) : Ct G k_M_place (d + 1) 0 0 [.ref (G.1 + 20), .int (nI k), .int (iI z)] n μ (MU G n μ (some (.int (b2 (decide (c.pu k ≠ z))))) (mmL G (placeC c k z) 0 hp tl pc pw pn bw bk me cl mt ts pit pat psz)) := by
  obtain ⟨⟨hst1, hst2⟩, hfr, hpn, hpp, hmn, hwd, hnd, hpu, hnr, hbr, hle, hdef⟩ := id hc
  have hF : FrM μ μ := fun t _ => rfl
  have hndk := hnd k
  have hpuk := hpu k
  refine Ct.ofp (r := 0) (ls := [some (.ref (G.1 + 20)), some (.int (nI (k))), some (.int (iI (z)))]) rfl (Nat.le_of_ble_eq_true rfl) ?_
  refine ev_aload_n d_M_place_0 rfl rfl ?_
  refine ev_aload_n d_M_place_1 rfl rfl ?_
  refine ev_iload_n d_M_place_2 rfl rfl ?_
  refine cv (mc' := 0) (ms' := 0) (k' := k_M_isItem) (As := [.int (nI (k))]) (stk := [.ref (G.1 + 20)]) d_M_place_3 ml_M_100 kk_M_isItem rfl rfl (Nat.le_of_ble_eq_true rfl) (by omega) (hM 0 _ rfl) rfl rfl (ct_M_isItemN (d := d) hk hn hM hc) (rd ?_)
  refine ev_if_ne d_M_place_6 (fun c_6 => ?_) (fun c_6 => ?_)
  ·
    have c_6 := b2_t c_6
    refine ev_iload_n d_M_place_13 rfl rfl ?_
    refine ev_i2l d_M_place_14 ?_
    refine ev_ldc2 (v := (-101)) d_M_place_15 ck_M_193 ?_
    refine ev_ldc2 (v := (100)) d_M_place_18 ck_M_195 ?_
    refine ev_topl (w := lN 100) (by decide) ?_
    refine cs (mc' := 0) (ms' := 0) (k' := k_M_isIn) (As := [.long (((iI (z))).toInt64), .long ((-101)), .long (lN (100))]) (stk := [.ref (G.1 + 20)]) d_M_place_21 ml_M_91 kk_M_isIn rfl rfl (Nat.le_of_ble_eq_true rfl) (ct_M_isInV (d := d) (LZ_z (by omega) (by omega)) (show Int64.toInt (-101) = (-101) from by decide) (LZ_n (by omega))) (rd ?_)
    refine ev_if_eq d_M_place_24 (fun c_24 => ?_) (fun c_24 => ?_)
    ·
      have c_24 := b2_f c_24
      exfalso; rw [decide_eq_false_iff_not] at c_24; omega
    ·
      have c_24 := b2_t c_24
      refine ev_iconst (v := (nI (0))) d_M_place_27 (by decide) ?_
      refine ev_goto d_M_place_28 ?_
      refine ev_putM (kf := 0) d_M_place_32 fl_M_76 (by decide) rfl rfl rfl rfl (by omega) hM rfl (Nat.le_of_ble_eq_true rfl) (fun ν hM hf => ?_)
      have hM : ML ν (mmL G c 0 hp tl pc pw pn bw bk me cl mt ts pit pat psz) := hM
      have hF := frT hf hF
      refine ev_aload_n d_M_place_35 rfl rfl ?_
      refine ev_getf (kf := 0) (T := F_M) (C := R_M) (N := 30) (v := .int (nI (0))) d_M_place_36 fl_M_76 rfl i_M (by decide) (by omega) (hM 0 _ rfl) rfl ?_
      refine ev_if_gt d_M_place_39 (fun c_39 => ?_) (fun c_39 => ?_)
      ·
        skip
        exact absurd c_39 (by decide)
      ·
        skip
        refine ev_aload_n d_M_place_42 rfl rfl ?_
        refine ev_getf (kf := 15) (T := F_M) (C := R_M) (N := 30) (v := .ref (G.1 + 30)) d_M_place_43 fl_M_39 rfl i_M (by decide) (by omega) (hM 0 _ rfl) rfl ?_
        refine ev_iload_n d_M_place_46 rfl rfl ?_
        refine ev_iald (j := k) d_M_place_47 (by omega) (hM 10 _ rfl) (by omega) (by decide) ?_
        refine ev_iload_n d_M_place_48 rfl rfl ?_
        refine ev_icmp_ne d_M_place_49 (fun c_49 => ?_) (fun c_49 => ?_)
        ·
          simp (disch := omega) only [nI_iI, iI_ltI, iI_leI, iI_eq, Int.not_lt, Int.not_le] at c_49
          refine ev_aload_n d_M_place_54 rfl rfl ?_
          refine ev_getf (kf := 15) (T := F_M) (C := R_M) (N := 30) (v := .ref (G.1 + 30)) d_M_place_55 fl_M_39 rfl i_M (by decide) (by omega) (hM 0 _ rfl) rfl ?_
          refine ev_iload_n d_M_place_58 rfl rfl ?_
          refine ev_iload_n d_M_place_59 rfl rfl ?_
          refine ev_iastM (a := 10) (j := k) d_M_place_60 (by decide) (by omega) hM rfl (by omega) (by decide) (upd_iI _ _ _) (fun ν hM hf => ?_)
          have hM : ML ν (mmL G (placeC c k z) 0 hp tl pc pw pn bw bk me cl mt ts pit pat psz) := hM
          have hF := frT hf hF
          refine ev_iconst (v := (nI (1))) d_M_place_61 (by decide) ?_
          refine ev_ireturn d_M_place_62 rfl rfl ?_
          rw [show decide (c.pu k ≠ z) = true from by simp [c_49]]
          exact ⟨rfl, rfl, hM, hF⟩
        ·
          simp (disch := omega) only [nI_iI, iI_ltI, iI_leI, iI_eq, Int.not_lt, Int.not_le] at c_49
          refine ev_iconst (v := (nI (0))) d_M_place_52 (by decide) ?_
          refine ev_ireturn d_M_place_53 rfl rfl ?_
          rw [placeC_id c_49, show decide (c.pu k ≠ z) = false from by simp [c_49]]
          exact ⟨rfl, rfl, hM, hF⟩
  ·
    have c_6 := b2_f c_6
    cases c_6
theorem ct_M_place_no1 {a z : Int} (ha1 : -2147483648 ≤ a) (ha2 : a < 2147483648) (hz1 : -2147483648 ≤ z) (hz2 : z < 2147483648) (hno : ¬ (0 ≤ a ∧ a < c.mn)) (hn : 41 ≤ n) (hM : ML μ (mmL G c cd hp tl pc pw pn bw bk me cl mt ts pit pat psz)) (hc : CfOK c) : Ct G k_M_place (d + 1) 0 0 [.ref (G.1 + 20), .int (iI a), .int (iI z)] n μ (MU G n μ (some (.int (nI 0))) (mmL G c 1 hp tl pc pw pn bw bk me cl mt ts pit pat psz)) := by
  obtain ⟨⟨hst1, hst2⟩, hfr, hpn, hpp, hmn, hwd, hnd, hpu, hnr, hbr, hle, hdef⟩ := id hc
  have hF : FrM μ μ := fun t _ => rfl
  refine Ct.ofp (r := 0) (ls := [some (.ref (G.1 + 20)), some (.int (iI (a))), some (.int (iI (z)))]) rfl (Nat.le_of_ble_eq_true rfl) ?_
  refine ev_aload_n d_M_place_0 rfl rfl ?_
  refine ev_aload_n d_M_place_1 rfl rfl ?_
  refine ev_iload_n d_M_place_2 rfl rfl ?_
  refine cv (mc' := 0) (ms' := 0) (k' := k_M_isItem) (As := [.int (iI (a))]) (stk := [.ref (G.1 + 20)]) d_M_place_3 ml_M_100 kk_M_isItem rfl rfl (Nat.le_of_ble_eq_true rfl) (by omega) (hM 0 _ rfl) rfl rfl (ct_M_isItem (d := d) ha1 ha2 hn hM hc) (rd ?_)
  refine ev_if_ne d_M_place_6 (fun c_6 => ?_) (fun c_6 => ?_)
  ·
    have c_6 := b2_t c_6
    exact absurd (of_decide_eq_true c_6) hno
  ·
    have c_6 := b2_f c_6
    refine ev_iconst (v := (nI (1))) d_M_place_9 (by decide) ?_
    refine ev_goto d_M_place_10 ?_
    refine ev_putM (kf := 0) d_M_place_32 fl_M_76 (by decide) rfl rfl rfl rfl (by omega) hM rfl (Nat.le_of_ble_eq_true rfl) (fun ν hM hf => ?_)
    have hM : ML ν (mmL G c 1 hp tl pc pw pn bw bk me cl mt ts pit pat psz) := hM
    have hF := frT hf hF
    refine ev_aload_n d_M_place_35 rfl rfl ?_
    refine ev_getf (kf := 0) (T := F_M) (C := R_M) (N := 30) (v := .int (nI (1))) d_M_place_36 fl_M_76 rfl i_M (by decide) (by omega) (hM 0 _ rfl) rfl ?_
    refine ev_if_gt d_M_place_39 (fun c_39 => ?_) (fun c_39 => ?_)
    ·
      skip
      refine ev_iconst (v := (nI (0))) d_M_place_52 (by decide) ?_
      refine ev_ireturn d_M_place_53 rfl rfl ?_
      exact ⟨rfl, rfl, hM, hF⟩
    ·
      skip
      exact absurd (by decide) c_39
theorem ct_M_place_no2 {k : Nat} {z : Int} (hk : k < c.mn) (hz1 : -2147483648 ≤ z) (hz2 : z < 2147483648) (hno : ¬ (-101 ≤ z ∧ z ≤ 100)) (hn : 41 ≤ n) (hM : ML μ (mmL G c cd hp tl pc pw pn bw bk me cl mt ts pit pat psz)) (hc : CfOK c) : Ct G k_M_place (d + 1) 0 0 [.ref (G.1 + 20), .int (nI k), .int (iI z)] n μ (MU G n μ (some (.int (nI 0))) (mmL G c 2 hp tl pc pw pn bw bk me cl mt ts pit pat psz)) := by
  obtain ⟨⟨hst1, hst2⟩, hfr, hpn, hpp, hmn, hwd, hnd, hpu, hnr, hbr, hle, hdef⟩ := id hc
  have hF : FrM μ μ := fun t _ => rfl
  refine Ct.ofp (r := 0) (ls := [some (.ref (G.1 + 20)), some (.int (nI (k))), some (.int (iI (z)))]) rfl (Nat.le_of_ble_eq_true rfl) ?_
  refine ev_aload_n d_M_place_0 rfl rfl ?_
  refine ev_aload_n d_M_place_1 rfl rfl ?_
  refine ev_iload_n d_M_place_2 rfl rfl ?_
  refine cv (mc' := 0) (ms' := 0) (k' := k_M_isItem) (As := [.int (nI (k))]) (stk := [.ref (G.1 + 20)]) d_M_place_3 ml_M_100 kk_M_isItem rfl rfl (Nat.le_of_ble_eq_true rfl) (by omega) (hM 0 _ rfl) rfl rfl (ct_M_isItemN (d := d) hk hn hM hc) (rd ?_)
  refine ev_if_ne d_M_place_6 (fun c_6 => ?_) (fun c_6 => ?_)
  ·
    have c_6 := b2_t c_6
    refine ev_iload_n d_M_place_13 rfl rfl ?_
    refine ev_i2l d_M_place_14 ?_
    refine ev_ldc2 (v := (-101)) d_M_place_15 ck_M_193 ?_
    refine ev_ldc2 (v := (100)) d_M_place_18 ck_M_195 ?_
    refine ev_topl (w := lN 100) (by decide) ?_
    refine cs (mc' := 0) (ms' := 0) (k' := k_M_isIn) (As := [.long (((iI (z))).toInt64), .long ((-101)), .long (lN (100))]) (stk := [.ref (G.1 + 20)]) d_M_place_21 ml_M_91 kk_M_isIn rfl rfl (Nat.le_of_ble_eq_true rfl) (ct_M_isInV (d := d) (LZ_z (by omega) (by omega)) (show Int64.toInt (-101) = (-101) from by decide) (LZ_n (by omega))) (rd ?_)
    refine ev_if_eq d_M_place_24 (fun c_24 => ?_) (fun c_24 => ?_)
    ·
      have c_24 := b2_f c_24
      refine ev_iconst (v := (nI (2))) d_M_place_31 (by decide) ?_
      refine ev_putM (kf := 0) d_M_place_32 fl_M_76 (by decide) rfl rfl rfl rfl (by omega) hM rfl (Nat.le_of_ble_eq_true rfl) (fun ν hM hf => ?_)
      have hM : ML ν (mmL G c 2 hp tl pc pw pn bw bk me cl mt ts pit pat psz) := hM
      have hF := frT hf hF
      refine ev_aload_n d_M_place_35 rfl rfl ?_
      refine ev_getf (kf := 0) (T := F_M) (C := R_M) (N := 30) (v := .int (nI (2))) d_M_place_36 fl_M_76 rfl i_M (by decide) (by omega) (hM 0 _ rfl) rfl ?_
      refine ev_if_gt d_M_place_39 (fun c_39 => ?_) (fun c_39 => ?_)
      ·
        skip
        refine ev_iconst (v := (nI (0))) d_M_place_52 (by decide) ?_
        refine ev_ireturn d_M_place_53 rfl rfl ?_
        exact ⟨rfl, rfl, hM, hF⟩
      ·
        skip
        exact absurd (by decide) c_39
    ·
      have c_24 := b2_t c_24
      exact absurd (of_decide_eq_true c_24) hno
  ·
    have c_6 := b2_f c_6
    cases c_6
theorem ct_M_must_ok {k : Nat} {on : Bool} (hk : k < c.mn) (hn : 41 ≤ n) (hM : ML μ (mmL G c cd hp tl pc pw pn bw bk me cl mt ts pit pat psz)) (hc : CfOK c) : Ct G k_M_must (d + 1) 0 0 [.ref (G.1 + 20), .int (nI k), .int (b2 on)] n μ (MU G n μ (some (.int (b2 (c.ms k != on)))) (mmL G (mustC c k on) 0 ((hp && !(c.ms k != on))) tl pc pw pn bw bk me cl mt ts pit pat psz)) := by
  obtain ⟨⟨hst1, hst2⟩, hfr, hpn, hpp, hmn, hwd, hnd, hpu, hnr, hbr, hle, hdef⟩ := id hc
  have hF : FrM μ μ := fun t _ => rfl
  refine Ct.ofp (r := 0) (ls := [some (.ref (G.1 + 20)), some (.int (nI (k))), some (.int (b2 (on)))]) rfl (Nat.le_of_ble_eq_true rfl) ?_
  refine ev_aload_n d_M_must_0 rfl rfl ?_
  refine ev_aload_n d_M_must_1 rfl rfl ?_
  refine ev_iload_n d_M_must_2 rfl rfl ?_
  refine cv (mc' := 0) (ms' := 0) (k' := k_M_isItem) (As := [.int (nI (k))]) (stk := [.ref (G.1 + 20)]) d_M_must_3 ml_M_100 kk_M_isItem rfl rfl (Nat.le_of_ble_eq_true rfl) (by omega) (hM 0 _ rfl) rfl rfl (ct_M_isItemN (d := d) hk hn hM hc) (rd ?_)
  refine ev_if_eq d_M_must_6 (fun c_6 => ?_) (fun c_6 => ?_)
  ·
    have c_6 := b2_f c_6
    cases c_6
  ·
    have c_6 := b2_t c_6
    refine ev_iconst (v := (nI (0))) d_M_must_9 (by decide) ?_
    refine ev_goto d_M_must_10 ?_
    refine ev_putM (kf := 0) d_M_must_14 fl_M_76 (by decide) rfl rfl rfl rfl (by omega) hM rfl (Nat.le_of_ble_eq_true rfl) (fun ν hM hf => ?_)
    have hM : ML ν (mmL G c 0 hp tl pc pw pn bw bk me cl mt ts pit pat psz) := hM
    have hF := frT hf hF
    refine ev_aload_n d_M_must_17 rfl rfl ?_
    refine ev_getf (kf := 0) (T := F_M) (C := R_M) (N := 30) (v := .int (nI (0))) d_M_must_18 fl_M_76 rfl i_M (by decide) (by omega) (hM 0 _ rfl) rfl ?_
    refine ev_if_gt d_M_must_21 (fun c_21 => ?_) (fun c_21 => ?_)
    ·
      skip
      exact absurd c_21 (by decide)
    ·
      skip
      refine ev_aload_n d_M_must_24 rfl rfl ?_
      refine ev_getf (kf := 10) (T := F_M) (C := R_M) (N := 30) (v := .ref (G.1 + 27)) d_M_must_25 fl_M_30 rfl i_M (by decide) (by omega) (hM 0 _ rfl) rfl ?_
      refine ev_iload_n d_M_must_28 rfl rfl ?_
      refine ev_zald (j := k) d_M_must_29 (by omega) (hM 7 _ rfl) (by omega) (by decide) ?_
      refine ev_iload_n d_M_must_30 rfl rfl ?_
      refine ev_icmp_ne d_M_must_31 (fun c_31 => ?_) (fun c_31 => ?_)
      ·
        have c_31 : c.ms k ≠ on := fun q => c_31 (by rw [q])
        refine ev_aload_n d_M_must_36 rfl rfl ?_
        refine ev_getf (kf := 10) (T := F_M) (C := R_M) (N := 30) (v := .ref (G.1 + 27)) d_M_must_37 fl_M_30 rfl i_M (by decide) (by omega) (hM 0 _ rfl) rfl ?_
        refine ev_iload_n d_M_must_40 rfl rfl ?_
        refine ev_iload_n d_M_must_41 rfl rfl ?_
        refine ev_zastM (a := 7) (j := k) d_M_must_42 (by decide) (by omega) hM rfl (b2_nar _) (by omega) (by decide) (upd_b2 _ _ _) (fun ν hM hf => ?_)
        have hM : ML ν (mmL G (mustC c k on) 0 hp tl pc pw pn bw bk me cl mt ts pit pat psz) := hM
        have hF := frT hf hF
        refine ev_aload_n d_M_must_43 rfl rfl ?_
        refine cv (mc' := 0) (ms' := 0) (k' := k_M_change) (As := []) (stk := []) d_M_must_44 ml_M_83 kk_M_change rfl rfl (Nat.le_of_ble_eq_true rfl) (by omega) (hM 0 _ rfl) rfl rfl (ct_M_change (d := d) hn hM) (af fun n1 ν hq => ?_)
        obtain ⟨hn1, hM, hf⟩ := hq
        subst n1
        have hM : ML ν (mmL G (mustC c k on) 0 false tl pc pw pn bw bk me cl mt ts pit pat psz) := hM
        have hF := frT hf hF
        refine ev_iconst (v := (nI (1))) d_M_must_47 (by decide) ?_
        refine ev_ireturn d_M_must_48 rfl rfl ?_
        rw [show (c.ms k != on) = true from by simp [c_31]]
        simp only [Bool.not_true, Bool.not_false, Bool.and_false, Bool.and_true]
        exact ⟨rfl, rfl, hM, hF⟩
      ·
        have c_31 : c.ms k = on := by cases h1 : c.ms k <;> cases h2 : on <;> rw [h1, h2] at c_31 <;> first | rfl | exact absurd c_31 (by decide)
        refine ev_iconst (v := (nI (0))) d_M_must_34 (by decide) ?_
        refine ev_ireturn d_M_must_35 rfl rfl ?_
        rw [mustC_id c_31, show (c.ms k != on) = false from by simp [c_31]]
        simp only [Bool.not_true, Bool.not_false, Bool.and_false, Bool.and_true]
        exact ⟨rfl, rfl, hM, hF⟩
theorem ct_M_must_no1 {a : Int} {on : Bool} (ha1 : -2147483648 ≤ a) (ha2 : a < 2147483648) (hno : ¬ (0 ≤ a ∧ a < c.mn)) (hn : 41 ≤ n) (hM : ML μ (mmL G c cd hp tl pc pw pn bw bk me cl mt ts pit pat psz)) (hc : CfOK c) : Ct G k_M_must (d + 1) 0 0 [.ref (G.1 + 20), .int (iI a), .int (b2 on)] n μ (MU G n μ (some (.int (nI 0))) (mmL G c 1 hp tl pc pw pn bw bk me cl mt ts pit pat psz)) := by
  obtain ⟨⟨hst1, hst2⟩, hfr, hpn, hpp, hmn, hwd, hnd, hpu, hnr, hbr, hle, hdef⟩ := id hc
  have hF : FrM μ μ := fun t _ => rfl
  refine Ct.ofp (r := 0) (ls := [some (.ref (G.1 + 20)), some (.int (iI (a))), some (.int (b2 (on)))]) rfl (Nat.le_of_ble_eq_true rfl) ?_
  refine ev_aload_n d_M_must_0 rfl rfl ?_
  refine ev_aload_n d_M_must_1 rfl rfl ?_
  refine ev_iload_n d_M_must_2 rfl rfl ?_
  refine cv (mc' := 0) (ms' := 0) (k' := k_M_isItem) (As := [.int (iI (a))]) (stk := [.ref (G.1 + 20)]) d_M_must_3 ml_M_100 kk_M_isItem rfl rfl (Nat.le_of_ble_eq_true rfl) (by omega) (hM 0 _ rfl) rfl rfl (ct_M_isItem (d := d) ha1 ha2 hn hM hc) (rd ?_)
  refine ev_if_eq d_M_must_6 (fun c_6 => ?_) (fun c_6 => ?_)
  ·
    have c_6 := b2_f c_6
    refine ev_iconst (v := (nI (1))) d_M_must_13 (by decide) ?_
    refine ev_putM (kf := 0) d_M_must_14 fl_M_76 (by decide) rfl rfl rfl rfl (by omega) hM rfl (Nat.le_of_ble_eq_true rfl) (fun ν hM hf => ?_)
    have hM : ML ν (mmL G c 1 hp tl pc pw pn bw bk me cl mt ts pit pat psz) := hM
    have hF := frT hf hF
    refine ev_aload_n d_M_must_17 rfl rfl ?_
    refine ev_getf (kf := 0) (T := F_M) (C := R_M) (N := 30) (v := .int (nI (1))) d_M_must_18 fl_M_76 rfl i_M (by decide) (by omega) (hM 0 _ rfl) rfl ?_
    refine ev_if_gt d_M_must_21 (fun c_21 => ?_) (fun c_21 => ?_)
    ·
      skip
      refine ev_iconst (v := (nI (0))) d_M_must_34 (by decide) ?_
      refine ev_ireturn d_M_must_35 rfl rfl ?_
      exact ⟨rfl, rfl, hM, hF⟩
    ·
      skip
      exact absurd (by decide) c_21
  ·
    have c_6 := b2_t c_6
    exact absurd (of_decide_eq_true c_6) hno
theorem ct_M_filler_ok {l m : Nat} (hl1 : 1 ≤ l) (hlm : l ≤ m) (hm4 : m ≤ 40) (hn : 41 ≤ n) (hM : ML μ (mmL G c cd hp tl pc pw pn bw bk me cl mt ts pit pat psz)) (hc : CfOK c) : Ct G k_M_filler (d + 1) 0 0 [.ref (G.1 + 20), .int (nI l), .int (nI m)] n μ (MU G n μ (some (.int (b2 (decide (c.le ≠ l ∨ c.mo ≠ m))))) (mmL G (fillC c l m) 0 ((hp && !decide (c.le ≠ l ∨ c.mo ≠ m))) tl pc pw pn bw bk me cl mt ts pit pat psz)) := by
  obtain ⟨⟨hst1, hst2⟩, hfr, hpn, hpp, hmn, hwd, hnd, hpu, hnr, hbr, hle, hdef⟩ := id hc
  have hF : FrM μ μ := fun t _ => rfl
  refine Ct.ofp (r := 0) (ls := [some (.ref (G.1 + 20)), some (.int (nI (l))), some (.int (nI (m)))]) rfl (Nat.le_of_ble_eq_true rfl) ?_
  refine ev_aload_n d_M_filler_0 rfl rfl ?_
  refine ev_iload_n d_M_filler_1 rfl rfl ?_
  refine ev_i2l d_M_filler_2 ?_
  refine ev_topl (w := (lN (l))) (nI_l (by omega)) ?_
  refine ev_lconst (v := lN 1) d_M_filler_3 (by decide) ?_
  refine ev_ldc2 (v := (40)) d_M_filler_4 ck_M_106 ?_
  refine ev_topl (w := lN 40) (by decide) ?_
  refine cs (mc' := 0) (ms' := 0) (k' := k_M_isIn) (As := [.long (lN (l)), .long (lN (1)), .long (lN (40))]) (stk := [.ref (G.1 + 20)]) d_M_filler_7 ml_M_91 kk_M_isIn rfl rfl (Nat.le_of_ble_eq_true rfl) (ct_M_isInV (d := d) (LZ_n (by omega)) (LZ_n (by omega)) (LZ_n (by omega))) (rd ?_)
  refine ev_if_eq d_M_filler_10 (fun c_10 => ?_) (fun c_10 => ?_)
  ·
    have c_10 := b2_f c_10
    exfalso; rw [decide_eq_false_iff_not] at c_10; omega
  ·
    have c_10 := b2_t c_10
    refine ev_iload_n d_M_filler_13 rfl rfl ?_
    refine ev_i2l d_M_filler_14 ?_
    refine ev_topl (w := (lN (m))) (nI_l (by omega)) ?_
    refine ev_iload_n d_M_filler_15 rfl rfl ?_
    refine ev_i2l d_M_filler_16 ?_
    refine ev_topl (w := (lN (l))) (nI_l (by omega)) ?_
    refine ev_ldc2 (v := (40)) d_M_filler_17 ck_M_106 ?_
    refine ev_topl (w := lN 40) (by decide) ?_
    refine cs (mc' := 0) (ms' := 0) (k' := k_M_isIn) (As := [.long (lN (m)), .long (lN (l)), .long (lN (40))]) (stk := [.ref (G.1 + 20)]) d_M_filler_20 ml_M_91 kk_M_isIn rfl rfl (Nat.le_of_ble_eq_true rfl) (ct_M_isInV (d := d) (LZ_n (by omega)) (LZ_n (by omega)) (LZ_n (by omega))) (rd ?_)
    refine ev_if_eq d_M_filler_23 (fun c_23 => ?_) (fun c_23 => ?_)
    ·
      have c_23 := b2_f c_23
      exfalso; rw [decide_eq_false_iff_not] at c_23; omega
    ·
      have c_23 := b2_t c_23
      refine ev_iconst (v := (nI (0))) d_M_filler_26 (by decide) ?_
      refine ev_goto d_M_filler_27 ?_
      refine ev_putM (kf := 0) d_M_filler_31 fl_M_76 (by decide) rfl rfl rfl rfl (by omega) hM rfl (Nat.le_of_ble_eq_true rfl) (fun ν hM hf => ?_)
      have hM : ML ν (mmL G c 0 hp tl pc pw pn bw bk me cl mt ts pit pat psz) := hM
      have hF := frT hf hF
      refine ev_aload_n d_M_filler_34 rfl rfl ?_
      refine ev_getf (kf := 0) (T := F_M) (C := R_M) (N := 30) (v := .int (nI (0))) d_M_filler_35 fl_M_76 rfl i_M (by decide) (by omega) (hM 0 _ rfl) rfl ?_
      refine ev_if_gt d_M_filler_38 (fun c_38 => ?_) (fun c_38 => ?_)
      ·
        skip
        exact absurd c_38 (by decide)
      ·
        skip
        refine ev_aload_n d_M_filler_41 rfl rfl ?_
        refine ev_getf (kf := 13) (T := F_M) (C := R_M) (N := 30) (v := .int (nI (c.le))) d_M_filler_42 fl_M_73 rfl i_M (by decide) (by omega) (hM 0 _ rfl) rfl ?_
        refine ev_iload_n d_M_filler_45 rfl rfl ?_
        refine ev_icmp_ne d_M_filler_46 (fun c_46 => ?_) (fun c_46 => ?_)
        ·
          simp (disch := omega) only [nI_ltI, nI_leI, nI_eq, Nat.not_lt, Nat.not_le] at c_46
          refine ev_aload_n d_M_filler_59 rfl rfl ?_
          refine ev_iload_n d_M_filler_60 rfl rfl ?_
          refine ev_putM (kf := 13) d_M_filler_61 fl_M_73 (by decide) rfl rfl rfl rfl (by omega) hM rfl (Nat.le_of_ble_eq_true rfl) (fun ν hM hf => ?_)
          have hM : ML ν (mmL G (Cf.set_le c (l)) 0 hp tl pc pw pn bw bk me cl mt ts pit pat psz) := hM
          have hF := frT hf hF
          refine ev_aload_n d_M_filler_64 rfl rfl ?_
          refine ev_iload_n d_M_filler_65 rfl rfl ?_
          refine ev_putM (kf := 14) d_M_filler_66 fl_M_112 (by decide) rfl rfl rfl rfl (by omega) hM rfl (Nat.le_of_ble_eq_true rfl) (fun ν hM hf => ?_)
          have hM : ML ν (mmL G (Cf.set_mo (Cf.set_le c (l)) (m)) 0 hp tl pc pw pn bw bk me cl mt ts pit pat psz) := hM
          have hF := frT hf hF
          refine ev_aload_n d_M_filler_69 rfl rfl ?_
          refine cv (mc' := 0) (ms' := 0) (k' := k_M_change) (As := []) (stk := []) d_M_filler_70 ml_M_83 kk_M_change rfl rfl (Nat.le_of_ble_eq_true rfl) (by omega) (hM 0 _ rfl) rfl rfl (ct_M_change (d := d) hn hM) (af fun n1 ν hq => ?_)
          obtain ⟨hn1, hM, hf⟩ := hq
          subst n1
          have hM : ML ν (mmL G (Cf.set_mo (Cf.set_le c (l)) (m)) 0 false tl pc pw pn bw bk me cl mt ts pit pat psz) := hM
          have hF := frT hf hF
          refine ev_iconst (v := (nI (1))) d_M_filler_73 (by decide) ?_
          refine ev_ireturn d_M_filler_74 rfl rfl ?_
          rw [show decide (c.le ≠ l ∨ c.mo ≠ m) = true from by simp; omega]
          simp only [Bool.not_true, Bool.not_false, Bool.and_false, Bool.and_true]
          exact ⟨rfl, rfl, hM, hF⟩
        ·
          simp (disch := omega) only [nI_ltI, nI_leI, nI_eq, Nat.not_lt, Nat.not_le] at c_46
          refine ev_aload_n d_M_filler_49 rfl rfl ?_
          refine ev_getf (kf := 14) (T := F_M) (C := R_M) (N := 30) (v := .int (nI (c.mo))) d_M_filler_50 fl_M_112 rfl i_M (by decide) (by omega) (hM 0 _ rfl) rfl ?_
          refine ev_iload_n d_M_filler_53 rfl rfl ?_
          refine ev_icmp_ne d_M_filler_54 (fun c_54 => ?_) (fun c_54 => ?_)
          ·
            simp (disch := omega) only [nI_ltI, nI_leI, nI_eq, Nat.not_lt, Nat.not_le] at c_54
            refine ev_aload_n d_M_filler_59 rfl rfl ?_
            refine ev_iload_n d_M_filler_60 rfl rfl ?_
            refine ev_putM (kf := 13) d_M_filler_61 fl_M_73 (by decide) rfl rfl rfl rfl (by omega) hM rfl (Nat.le_of_ble_eq_true rfl) (fun ν hM hf => ?_)
            have hM : ML ν (mmL G (Cf.set_le c (l)) 0 hp tl pc pw pn bw bk me cl mt ts pit pat psz) := hM
            have hF := frT hf hF
            refine ev_aload_n d_M_filler_64 rfl rfl ?_
            refine ev_iload_n d_M_filler_65 rfl rfl ?_
            refine ev_putM (kf := 14) d_M_filler_66 fl_M_112 (by decide) rfl rfl rfl rfl (by omega) hM rfl (Nat.le_of_ble_eq_true rfl) (fun ν hM hf => ?_)
            have hM : ML ν (mmL G (Cf.set_mo (Cf.set_le c (l)) (m)) 0 hp tl pc pw pn bw bk me cl mt ts pit pat psz) := hM
            have hF := frT hf hF
            refine ev_aload_n d_M_filler_69 rfl rfl ?_
            refine cv (mc' := 0) (ms' := 0) (k' := k_M_change) (As := []) (stk := []) d_M_filler_70 ml_M_83 kk_M_change rfl rfl (Nat.le_of_ble_eq_true rfl) (by omega) (hM 0 _ rfl) rfl rfl (ct_M_change (d := d) hn hM) (af fun n1 ν hq => ?_)
            obtain ⟨hn1, hM, hf⟩ := hq
            subst n1
            have hM : ML ν (mmL G (Cf.set_mo (Cf.set_le c (l)) (m)) 0 false tl pc pw pn bw bk me cl mt ts pit pat psz) := hM
            have hF := frT hf hF
            refine ev_iconst (v := (nI (1))) d_M_filler_73 (by decide) ?_
            refine ev_ireturn d_M_filler_74 rfl rfl ?_
            rw [show decide (c.le ≠ l ∨ c.mo ≠ m) = true from by simp; omega]
            simp only [Bool.not_true, Bool.not_false, Bool.and_false, Bool.and_true]
            exact ⟨rfl, rfl, hM, hF⟩
          ·
            simp (disch := omega) only [nI_ltI, nI_leI, nI_eq, Nat.not_lt, Nat.not_le] at c_54
            refine ev_iconst (v := (nI (0))) d_M_filler_57 (by decide) ?_
            refine ev_ireturn d_M_filler_58 rfl rfl ?_
            subst c_46
            subst c_54
            rw [show decide (c.le ≠ c.le ∨ c.mo ≠ c.mo) = false from by simp]
            simp only [Bool.not_true, Bool.not_false, Bool.and_false, Bool.and_true]
            exact ⟨rfl, rfl, hM, hF⟩
theorem ct_M_filler_no {a b : Int} (ha1 : -2147483648 ≤ a) (ha2 : a < 2147483648) (hb1 : -2147483648 ≤ b) (hb2 : b < 2147483648) (hno : ¬ (1 ≤ a ∧ a ≤ b ∧ b ≤ 40)) (hn : 41 ≤ n) (hM : ML μ (mmL G c cd hp tl pc pw pn bw bk me cl mt ts pit pat psz)) (hc : CfOK c) : Ct G k_M_filler (d + 1) 0 0 [.ref (G.1 + 20), .int (iI a), .int (iI b)] n μ (MU G n μ (some (.int (nI 0))) (mmL G c 1 hp tl pc pw pn bw bk me cl mt ts pit pat psz)) := by
  obtain ⟨⟨hst1, hst2⟩, hfr, hpn, hpp, hmn, hwd, hnd, hpu, hnr, hbr, hle, hdef⟩ := id hc
  have hF : FrM μ μ := fun t _ => rfl
  refine Ct.ofp (r := 0) (ls := [some (.ref (G.1 + 20)), some (.int (iI (a))), some (.int (iI (b)))]) rfl (Nat.le_of_ble_eq_true rfl) ?_
  refine ev_aload_n d_M_filler_0 rfl rfl ?_
  refine ev_iload_n d_M_filler_1 rfl rfl ?_
  refine ev_i2l d_M_filler_2 ?_
  refine ev_lconst (v := lN 1) d_M_filler_3 (by decide) ?_
  refine ev_ldc2 (v := (40)) d_M_filler_4 ck_M_106 ?_
  refine ev_topl (w := lN 40) (by decide) ?_
  refine cs (mc' := 0) (ms' := 0) (k' := k_M_isIn) (As := [.long (((iI (a))).toInt64), .long (lN (1)), .long (lN (40))]) (stk := [.ref (G.1 + 20)]) d_M_filler_7 ml_M_91 kk_M_isIn rfl rfl (Nat.le_of_ble_eq_true rfl) (ct_M_isInV (d := d) (LZ_z (by omega) (by omega)) (LZ_n (by omega)) (LZ_n (by omega))) (rd ?_)
  refine ev_if_eq d_M_filler_10 (fun c_10 => ?_) (fun c_10 => ?_)
  ·
    have c_10 := b2_f c_10
    refine ev_iconst (v := (nI (1))) d_M_filler_30 (by decide) ?_
    refine ev_putM (kf := 0) d_M_filler_31 fl_M_76 (by decide) rfl rfl rfl rfl (by omega) hM rfl (Nat.le_of_ble_eq_true rfl) (fun ν hM hf => ?_)
    have hM : ML ν (mmL G c 1 hp tl pc pw pn bw bk me cl mt ts pit pat psz) := hM
    have hF := frT hf hF
    refine ev_aload_n d_M_filler_34 rfl rfl ?_
    refine ev_getf (kf := 0) (T := F_M) (C := R_M) (N := 30) (v := .int (nI (1))) d_M_filler_35 fl_M_76 rfl i_M (by decide) (by omega) (hM 0 _ rfl) rfl ?_
    refine ev_if_gt d_M_filler_38 (fun c_38 => ?_) (fun c_38 => ?_)
    ·
      skip
      refine ev_iconst (v := (nI (0))) d_M_filler_57 (by decide) ?_
      refine ev_ireturn d_M_filler_58 rfl rfl ?_
      exact ⟨rfl, rfl, hM, hF⟩
    ·
      skip
      exact absurd (by decide) c_38
  ·
    have c_10 := b2_t c_10
    refine ev_iload_n d_M_filler_13 rfl rfl ?_
    refine ev_i2l d_M_filler_14 ?_
    refine ev_iload_n d_M_filler_15 rfl rfl ?_
    refine ev_i2l d_M_filler_16 ?_
    refine ev_ldc2 (v := (40)) d_M_filler_17 ck_M_106 ?_
    refine ev_topl (w := lN 40) (by decide) ?_
    refine cs (mc' := 0) (ms' := 0) (k' := k_M_isIn) (As := [.long (((iI (b))).toInt64), .long (((iI (a))).toInt64), .long (lN (40))]) (stk := [.ref (G.1 + 20)]) d_M_filler_20 ml_M_91 kk_M_isIn rfl rfl (Nat.le_of_ble_eq_true rfl) (ct_M_isInV (d := d) (LZ_z (by omega) (by omega)) (LZ_z (by omega) (by omega)) (LZ_n (by omega))) (rd ?_)
    refine ev_if_eq d_M_filler_23 (fun c_23 => ?_) (fun c_23 => ?_)
    ·
      have c_23 := b2_f c_23
      refine ev_iconst (v := (nI (1))) d_M_filler_30 (by decide) ?_
      refine ev_putM (kf := 0) d_M_filler_31 fl_M_76 (by decide) rfl rfl rfl rfl (by omega) hM rfl (Nat.le_of_ble_eq_true rfl) (fun ν hM hf => ?_)
      have hM : ML ν (mmL G c 1 hp tl pc pw pn bw bk me cl mt ts pit pat psz) := hM
      have hF := frT hf hF
      refine ev_aload_n d_M_filler_34 rfl rfl ?_
      refine ev_getf (kf := 0) (T := F_M) (C := R_M) (N := 30) (v := .int (nI (1))) d_M_filler_35 fl_M_76 rfl i_M (by decide) (by omega) (hM 0 _ rfl) rfl ?_
      refine ev_if_gt d_M_filler_38 (fun c_38 => ?_) (fun c_38 => ?_)
      ·
        skip
        refine ev_iconst (v := (nI (0))) d_M_filler_57 (by decide) ?_
        refine ev_ireturn d_M_filler_58 rfl rfl ?_
        exact ⟨rfl, rfl, hM, hF⟩
      ·
        skip
        exact absurd (by decide) c_38
    ·
      have c_23 := b2_t c_23
      exfalso; have := of_decide_eq_true c_10; have := of_decide_eq_true c_23; omega
theorem ct_M_near_ok {a b w : Nat} (ha : a < c.mn) (hb : b < c.mn) (hab : a ≠ b) (hw : w ≤ 100000) (hn : 41 ≤ n) (hM : ML μ (mmL G c cd hp tl pc pw pn bw bk me cl mt ts pit pat psz)) (hc : CfOK c) : Ct G k_M_near (d + 2) 0 0 [.ref (G.1 + 20), .int (nI a), .int (nI b), .long (lN w)] n μ (MU G n μ (some (.int (b2 (decide (c.nr a b ≠ w))))) (mmL G (nearC c a b w) 0 ((hp && !decide (c.nr a b ≠ w))) tl pc pw pn bw bk me cl mt ts pit pat psz)) := by
  obtain ⟨⟨hst1, hst2⟩, hfr, hpn, hpp, hmn, hwd, hnd, hpu, hnr, hbr, hle, hdef⟩ := id hc
  have hF : FrM μ μ := fun t _ => rfl
  have hnab := hnr a b
  refine Ct.ofp (r := 0) (ls := [some (.ref (G.1 + 20)), some (.int (nI (a))), some (.int (nI (b))), some (.long (lN (w))), none]) rfl (Nat.le_of_ble_eq_true rfl) ?_
  refine ev_aload_n d_M_near_0 rfl rfl ?_
  refine ev_aload_n d_M_near_1 rfl rfl ?_
  refine ev_iload_n d_M_near_2 rfl rfl ?_
  refine ev_iload_n d_M_near_3 rfl rfl ?_
  refine cv (mc' := 0) (ms' := 0) (k' := k_M_pairCode) (As := [.int (nI (a)), .int (nI (b))]) (stk := [.ref (G.1 + 20)]) d_M_near_4 ml_M_108 kk_M_pairCode rfl rfl (Nat.le_of_ble_eq_true rfl) (by omega) (hM 0 _ rfl) rfl rfl (ct_M_pairCodeN (d := d) ha hb hn hM hc) (rd ?_)
  rw [if_neg hab]
  refine ev_putM (kf := 0) d_M_near_7 fl_M_76 (by decide) rfl rfl rfl rfl (by omega) hM rfl (Nat.le_of_ble_eq_true rfl) (fun ν hM hf => ?_)
  have hM : ML ν (mmL G c 0 hp tl pc pw pn bw bk me cl mt ts pit pat psz) := hM
  have hF := frT hf hF
  refine ev_aload_n d_M_near_10 rfl rfl ?_
  refine ev_aload_n d_M_near_11 rfl rfl ?_
  refine ev_getf (kf := 0) (T := F_M) (C := R_M) (N := 30) (v := .int (nI (0))) d_M_near_12 fl_M_76 rfl i_M (by decide) (by omega) (hM 0 _ rfl) rfl ?_
  refine ev_if_ne d_M_near_15 (fun c_15 => ?_) (fun c_15 => ?_)
  ·
    skip
    exact absurd rfl c_15
  ·
    skip
    refine ev_lload_n d_M_near_18 rfl rfl ?_
    refine ev_lconst (v := lN 0) d_M_near_19 (by decide) ?_
    refine ev_ldc2 (v := (100000)) d_M_near_20 ck_M_95 ?_
    refine ev_topl (w := lN 100000) (by decide) ?_
    refine cs (mc' := 0) (ms' := 0) (k' := k_M_isIn) (As := [.long (lN (w)), .long (lN (0)), .long (lN (100000))]) (stk := [.ref (G.1 + 20)]) d_M_near_23 ml_M_91 kk_M_isIn rfl rfl (Nat.le_of_ble_eq_true rfl) (ct_M_isInV (d := d + 1) (LZ_n (by omega)) (LZ_n (by omega)) (LZ_n (by omega))) (rd ?_)
    refine ev_if_ne d_M_near_26 (fun c_26 => ?_) (fun c_26 => ?_)
    ·
      have c_26 := b2_t c_26
      refine ev_aload_n d_M_near_33 rfl rfl ?_
      refine ev_getf (kf := 0) (T := F_M) (C := R_M) (N := 30) (v := .int (nI (0))) d_M_near_34 fl_M_76 rfl i_M (by decide) (by omega) (hM 0 _ rfl) rfl ?_
      refine ev_putM (kf := 0) d_M_near_37 fl_M_76 (by decide) rfl rfl rfl rfl (by omega) hM rfl (Nat.le_of_ble_eq_true rfl) (fun ν hM hf => ?_)
      have hM : ML ν (mmL G c 0 hp tl pc pw pn bw bk me cl mt ts pit pat psz) := hM
      have hF := frT hf hF
      refine ev_aload_n d_M_near_40 rfl rfl ?_
      refine ev_getf (kf := 0) (T := F_M) (C := R_M) (N := 30) (v := .int (nI (0))) d_M_near_41 fl_M_76 rfl i_M (by decide) (by omega) (hM 0 _ rfl) rfl ?_
      refine ev_if_gt d_M_near_44 (fun c_44 => ?_) (fun c_44 => ?_)
      ·
        skip
        exact absurd c_44 (by decide)
      ·
        skip
        refine ev_aload_n d_M_near_47 rfl rfl ?_
        refine ev_getf (kf := 11) (T := F_M) (C := R_M) (N := 30) (v := .ref (G.1 + 28)) d_M_near_48 fl_M_33 rfl i_M (by decide) (by omega) (hM 0 _ rfl) rfl ?_
        refine ev_bipush (v := (nI (6))) d_M_near_51 (by decide) ?_
        refine ev_iload_n d_M_near_53 rfl rfl ?_
        refine ev_imul d_M_near_54 ?_
        refine ev_topi (w := (nI (6 * a))) (pk_mul _ _) ?_
        refine ev_iload_n d_M_near_55 rfl rfl ?_
        refine ev_iadd d_M_near_56 ?_
        refine ev_topi (w := (nI ((6 * a) + b))) (nI_add _ _) ?_
        refine ev_lald (j := (6 * a) + b) d_M_near_57 (by omega) (hM 8 _ rfl) (by omega) (by decide) ?_
        refine ev_topl (w := lN (c.nr a b)) (by show lN (c.nr ((6 * a + b) / 6) ((6 * a + b) % 6)) = _; rw [dv6 (show b < 6 by omega), md6 (show b < 6 by omega)]) ?_
        refine ev_lload_n d_M_near_58 rfl rfl ?_
        refine ev_lcmp d_M_near_59 ?_
        refine ev_if_ne d_M_near_60 (fun c_60 => ?_) (fun c_60 => ?_)
        ·
          simp (disch := omega) only [lc_eq, lN_eq] at c_60
          refine ev_aload_n d_M_near_65 rfl rfl ?_
          refine ev_getf (kf := 11) (T := F_M) (C := R_M) (N := 30) (v := .ref (G.1 + 28)) d_M_near_66 fl_M_33 rfl i_M (by decide) (by omega) (hM 0 _ rfl) rfl ?_
          refine ev_bipush (v := (nI (6))) d_M_near_69 (by decide) ?_
          refine ev_iload_n d_M_near_71 rfl rfl ?_
          refine ev_imul d_M_near_72 ?_
          refine ev_topi (w := (nI (6 * a))) (pk_mul _ _) ?_
          refine ev_iload_n d_M_near_73 rfl rfl ?_
          refine ev_iadd d_M_near_74 ?_
          refine ev_topi (w := (nI ((6 * a) + b))) (nI_add _ _) ?_
          refine ev_lload_n d_M_near_75 rfl rfl ?_
          refine ev_lastM (a := 8) (j := (6 * a) + b) d_M_near_76 (by decide) (by omega) hM rfl (by omega) (by decide) (near_upd1 c (by omega) (by omega)) (fun ν hM hf => ?_)
          have hM : ML ν (mmL G (c.set_nr (fun x y => if x = a ∧ y = b then w else c.nr x y)) 0 hp tl pc pw pn bw bk me cl mt ts pit pat psz) := hM
          have hF := frT hf hF
          refine ev_aload_n d_M_near_77 rfl rfl ?_
          refine ev_getf (kf := 11) (T := F_M) (C := R_M) (N := 30) (v := .ref (G.1 + 28)) d_M_near_78 fl_M_33 rfl i_M (by decide) (by omega) (hM 0 _ rfl) rfl ?_
          refine ev_bipush (v := (nI (6))) d_M_near_81 (by decide) ?_
          refine ev_iload_n d_M_near_83 rfl rfl ?_
          refine ev_imul d_M_near_84 ?_
          refine ev_topi (w := (nI (6 * b))) (pk_mul _ _) ?_
          refine ev_iload_n d_M_near_85 rfl rfl ?_
          refine ev_iadd d_M_near_86 ?_
          refine ev_topi (w := (nI ((6 * b) + a))) (nI_add _ _) ?_
          refine ev_lload_n d_M_near_87 rfl rfl ?_
          refine ev_lastM (a := 8) (j := (6 * b) + a) d_M_near_88 (by decide) (by omega) hM rfl (by omega) (by decide) (near_upd2 c (by omega) (by omega)) (fun ν hM hf => ?_)
          have hM : ML ν (mmL G (nearC c a b w) 0 hp tl pc pw pn bw bk me cl mt ts pit pat psz) := hM
          have hF := frT hf hF
          refine ev_aload_n d_M_near_89 rfl rfl ?_
          refine cv (mc' := 0) (ms' := 0) (k' := k_M_change) (As := []) (stk := []) d_M_near_90 ml_M_83 kk_M_change rfl rfl (Nat.le_of_ble_eq_true rfl) (by omega) (hM 0 _ rfl) rfl rfl (ct_M_change (d := d + 1) hn hM) (af fun n1 ν hq => ?_)
          obtain ⟨hn1, hM, hf⟩ := hq
          subst n1
          have hM : ML ν (mmL G (nearC c a b w) 0 false tl pc pw pn bw bk me cl mt ts pit pat psz) := hM
          have hF := frT hf hF
          refine ev_iconst (v := (nI (1))) d_M_near_93 (by decide) ?_
          refine ev_ireturn d_M_near_94 rfl rfl ?_
          rw [show decide (c.nr a b ≠ w) = true from by simp [c_60]]
          simp only [Bool.not_true, Bool.not_false, Bool.and_false, Bool.and_true]
          exact ⟨rfl, rfl, hM, hF⟩
        ·
          simp (disch := omega) only [lc_eq, lN_eq] at c_60
          refine ev_iconst (v := (nI (0))) d_M_near_63 (by decide) ?_
          refine ev_ireturn d_M_near_64 rfl rfl ?_
          rw [nearC_id hc c_60, show decide (c.nr a b ≠ w) = false from by simp [c_60]]
          simp only [Bool.not_true, Bool.not_false, Bool.and_false, Bool.and_true]
          exact ⟨rfl, rfl, hM, hF⟩
    ·
      have c_26 := b2_f c_26
      exfalso; rw [decide_eq_false_iff_not] at c_26; omega
theorem ct_M_bar_ok {a b : Nat} (ha : a < c.mn) (hb : b < c.mn) (hab : a ≠ b) (hn : 41 ≤ n) (hM : ML μ (mmL G c cd hp tl pc pw pn bw bk me cl mt ts pit pat psz)) (hc : CfOK c) : Ct G k_M_bar (d + 2) 0 0 [.ref (G.1 + 20), .int (nI a), .int (nI b)] n μ (MU G n μ (some (.int (b2 (!c.br a b)))) (mmL G (barC c a b) 0 ((hp && !(!c.br a b))) tl pc pw pn bw bk me cl mt ts pit pat psz)) := by
  obtain ⟨⟨hst1, hst2⟩, hfr, hpn, hpp, hmn, hwd, hnd, hpu, hnr, hbr, hle, hdef⟩ := id hc
  have hF : FrM μ μ := fun t _ => rfl
  refine Ct.ofp (r := 0) (ls := [some (.ref (G.1 + 20)), some (.int (nI (a))), some (.int (nI (b)))]) rfl (Nat.le_of_ble_eq_true rfl) ?_
  refine ev_aload_n d_M_bar_0 rfl rfl ?_
  refine ev_aload_n d_M_bar_1 rfl rfl ?_
  refine ev_iload_n d_M_bar_2 rfl rfl ?_
  refine ev_iload_n d_M_bar_3 rfl rfl ?_
  refine cv (mc' := 0) (ms' := 0) (k' := k_M_pairCode) (As := [.int (nI (a)), .int (nI (b))]) (stk := [.ref (G.1 + 20)]) d_M_bar_4 ml_M_108 kk_M_pairCode rfl rfl (Nat.le_of_ble_eq_true rfl) (by omega) (hM 0 _ rfl) rfl rfl (ct_M_pairCodeN (d := d) ha hb hn hM hc) (rd ?_)
  rw [if_neg hab]
  refine ev_putM (kf := 0) d_M_bar_7 fl_M_76 (by decide) rfl rfl rfl rfl (by omega) hM rfl (Nat.le_of_ble_eq_true rfl) (fun ν hM hf => ?_)
  have hM : ML ν (mmL G c 0 hp tl pc pw pn bw bk me cl mt ts pit pat psz) := hM
  have hF := frT hf hF
  refine ev_aload_n d_M_bar_10 rfl rfl ?_
  refine ev_getf (kf := 0) (T := F_M) (C := R_M) (N := 30) (v := .int (nI (0))) d_M_bar_11 fl_M_76 rfl i_M (by decide) (by omega) (hM 0 _ rfl) rfl ?_
  refine ev_if_gt d_M_bar_14 (fun c_14 => ?_) (fun c_14 => ?_)
  ·
    skip
    exact absurd c_14 (by decide)
  ·
    skip
    refine ev_aload_n d_M_bar_17 rfl rfl ?_
    refine ev_getf (kf := 12) (T := F_M) (C := R_M) (N := 30) (v := .ref (G.1 + 29)) d_M_bar_18 fl_M_36 rfl i_M (by decide) (by omega) (hM 0 _ rfl) rfl ?_
    refine ev_bipush (v := (nI (6))) d_M_bar_21 (by decide) ?_
    refine ev_iload_n d_M_bar_23 rfl rfl ?_
    refine ev_imul d_M_bar_24 ?_
    refine ev_topi (w := (nI (6 * a))) (pk_mul _ _) ?_
    refine ev_iload_n d_M_bar_25 rfl rfl ?_
    refine ev_iadd d_M_bar_26 ?_
    refine ev_topi (w := (nI ((6 * a) + b))) (nI_add _ _) ?_
    refine ev_zald (j := (6 * a) + b) d_M_bar_27 (by omega) (hM 9 _ rfl) (by omega) (by decide) ?_
    refine ev_topi (w := b2 (c.br a b)) (by show b2 (c.br ((6 * a + b) / 6) ((6 * a + b) % 6)) = _; rw [dv6 (show b < 6 by omega), md6 (show b < 6 by omega)]) ?_
    refine ev_if_eq d_M_bar_28 (fun c_28 => ?_) (fun c_28 => ?_)
    ·
      have c_28 := b2_f c_28
      refine ev_aload_n d_M_bar_33 rfl rfl ?_
      refine ev_getf (kf := 12) (T := F_M) (C := R_M) (N := 30) (v := .ref (G.1 + 29)) d_M_bar_34 fl_M_36 rfl i_M (by decide) (by omega) (hM 0 _ rfl) rfl ?_
      refine ev_bipush (v := (nI (6))) d_M_bar_37 (by decide) ?_
      refine ev_iload_n d_M_bar_39 rfl rfl ?_
      refine ev_imul d_M_bar_40 ?_
      refine ev_topi (w := (nI (6 * a))) (pk_mul _ _) ?_
      refine ev_iload_n d_M_bar_41 rfl rfl ?_
      refine ev_iadd d_M_bar_42 ?_
      refine ev_topi (w := (nI ((6 * a) + b))) (nI_add _ _) ?_
      refine ev_iconst (v := (nI (1))) d_M_bar_43 (by decide) ?_
      refine ev_zastM (a := 9) (j := (6 * a) + b) d_M_bar_44 (by decide) (by omega) hM rfl rfl (by omega) (by decide) (bar_upd1 c (by omega) (by omega)) (fun ν hM hf => ?_)
      have hM : ML ν (mmL G (c.set_br (fun x y => decide (x = a ∧ y = b) || c.br x y)) 0 hp tl pc pw pn bw bk me cl mt ts pit pat psz) := hM
      have hF := frT hf hF
      refine ev_aload_n d_M_bar_45 rfl rfl ?_
      refine ev_getf (kf := 12) (T := F_M) (C := R_M) (N := 30) (v := .ref (G.1 + 29)) d_M_bar_46 fl_M_36 rfl i_M (by decide) (by omega) (hM 0 _ rfl) rfl ?_
      refine ev_bipush (v := (nI (6))) d_M_bar_49 (by decide) ?_
      refine ev_iload_n d_M_bar_51 rfl rfl ?_
      refine ev_imul d_M_bar_52 ?_
      refine ev_topi (w := (nI (6 * b))) (pk_mul _ _) ?_
      refine ev_iload_n d_M_bar_53 rfl rfl ?_
      refine ev_iadd d_M_bar_54 ?_
      refine ev_topi (w := (nI ((6 * b) + a))) (nI_add _ _) ?_
      refine ev_iconst (v := (nI (1))) d_M_bar_55 (by decide) ?_
      refine ev_zastM (a := 9) (j := (6 * b) + a) d_M_bar_56 (by decide) (by omega) hM rfl rfl (by omega) (by decide) (bar_upd2 c (by omega) (by omega)) (fun ν hM hf => ?_)
      have hM : ML ν (mmL G (barC c a b) 0 hp tl pc pw pn bw bk me cl mt ts pit pat psz) := hM
      have hF := frT hf hF
      refine ev_aload_n d_M_bar_57 rfl rfl ?_
      refine cv (mc' := 0) (ms' := 0) (k' := k_M_change) (As := []) (stk := []) d_M_bar_58 ml_M_83 kk_M_change rfl rfl (Nat.le_of_ble_eq_true rfl) (by omega) (hM 0 _ rfl) rfl rfl (ct_M_change (d := d + 1) hn hM) (af fun n1 ν hq => ?_)
      obtain ⟨hn1, hM, hf⟩ := hq
      subst n1
      have hM : ML ν (mmL G (barC c a b) 0 false tl pc pw pn bw bk me cl mt ts pit pat psz) := hM
      have hF := frT hf hF
      refine ev_iconst (v := (nI (1))) d_M_bar_61 (by decide) ?_
      refine ev_ireturn d_M_bar_62 rfl rfl ?_
      rw [c_28]
      simp only [Bool.not_true, Bool.not_false, Bool.and_false, Bool.and_true]
      exact ⟨rfl, rfl, hM, hF⟩
    ·
      have c_28 := b2_t c_28
      refine ev_iconst (v := (nI (0))) d_M_bar_31 (by decide) ?_
      refine ev_ireturn d_M_bar_32 rfl rfl ?_
      rw [barC_id hc c_28, c_28]
      simp only [Bool.not_true, Bool.not_false, Bool.and_false, Bool.and_true]
      exact ⟨rfl, rfl, hM, hF⟩
theorem ct_M_near_no2 {a b : Nat} {w : Int64} (ha : a < c.mn) (hb : b < c.mn) (hno : ¬ (a ≠ b ∧ 0 ≤ w.toInt ∧ w.toInt ≤ 100000)) (hn : 41 ≤ n) (hM : ML μ (mmL G c cd hp tl pc pw pn bw bk me cl mt ts pit pat psz)) (hc : CfOK c) : Ct G k_M_near (d + 2) 0 0 [.ref (G.1 + 20), .int (nI a), .int (nI b), .long w] n μ (MU G n μ (some (.int (nI 0))) (mmL G c 2 hp tl pc pw pn bw bk me cl mt ts pit pat psz)) := by
  obtain ⟨⟨hst1, hst2⟩, hfr, hpn, hpp, hmn, hwd, hnd, hpu, hnr, hbr, hle, hdef⟩ := id hc
  have hF : FrM μ μ := fun t _ => rfl
  refine Ct.ofp (r := 0) (ls := [some (.ref (G.1 + 20)), some (.int (nI (a))), some (.int (nI (b))), some (.long (w)), none]) rfl (Nat.le_of_ble_eq_true rfl) ?_
  by_cases hab : a = b
  ·
    refine ev_aload_n d_M_near_0 rfl rfl ?_
    refine ev_aload_n d_M_near_1 rfl rfl ?_
    refine ev_iload_n d_M_near_2 rfl rfl ?_
    refine ev_iload_n d_M_near_3 rfl rfl ?_
    refine cv (mc' := 0) (ms' := 0) (k' := k_M_pairCode) (As := [.int (nI (a)), .int (nI (b))]) (stk := [.ref (G.1 + 20)]) d_M_near_4 ml_M_108 kk_M_pairCode rfl rfl (Nat.le_of_ble_eq_true rfl) (by omega) (hM 0 _ rfl) rfl rfl (ct_M_pairCodeN (d := d) ha hb hn hM hc) (rd ?_)
    rw [if_pos hab]
    refine ev_putM (kf := 0) d_M_near_7 fl_M_76 (by decide) rfl rfl rfl rfl (by omega) hM rfl (Nat.le_of_ble_eq_true rfl) (fun ν hM hf => ?_)
    have hM : ML ν (mmL G c 2 hp tl pc pw pn bw bk me cl mt ts pit pat psz) := hM
    have hF := frT hf hF
    refine ev_aload_n d_M_near_10 rfl rfl ?_
    refine ev_aload_n d_M_near_11 rfl rfl ?_
    refine ev_getf (kf := 0) (T := F_M) (C := R_M) (N := 30) (v := .int (nI (2))) d_M_near_12 fl_M_76 rfl i_M (by decide) (by omega) (hM 0 _ rfl) rfl ?_
    refine ev_if_ne d_M_near_15 (fun c_15 => ?_) (fun c_15 => ?_)
    ·
      skip
      refine ev_aload_n d_M_near_33 rfl rfl ?_
      refine ev_getf (kf := 0) (T := F_M) (C := R_M) (N := 30) (v := .int (nI (2))) d_M_near_34 fl_M_76 rfl i_M (by decide) (by omega) (hM 0 _ rfl) rfl ?_
      refine ev_putM (kf := 0) d_M_near_37 fl_M_76 (by decide) rfl rfl rfl rfl (by omega) hM rfl (Nat.le_of_ble_eq_true rfl) (fun ν hM hf => ?_)
      have hM : ML ν (mmL G c 2 hp tl pc pw pn bw bk me cl mt ts pit pat psz) := hM
      have hF := frT hf hF
      refine ev_aload_n d_M_near_40 rfl rfl ?_
      refine ev_getf (kf := 0) (T := F_M) (C := R_M) (N := 30) (v := .int (nI (2))) d_M_near_41 fl_M_76 rfl i_M (by decide) (by omega) (hM 0 _ rfl) rfl ?_
      refine ev_if_gt d_M_near_44 (fun c_44 => ?_) (fun c_44 => ?_)
      ·
        skip
        refine ev_iconst (v := (nI (0))) d_M_near_63 (by decide) ?_
        refine ev_ireturn d_M_near_64 rfl rfl ?_
        exact ⟨rfl, rfl, hM, hF⟩
      ·
        skip
        exact absurd (by decide) c_44
    ·
      skip
      exact absurd c_15 (by decide)
  ·
    refine ev_aload_n d_M_near_0 rfl rfl ?_
    refine ev_aload_n d_M_near_1 rfl rfl ?_
    refine ev_iload_n d_M_near_2 rfl rfl ?_
    refine ev_iload_n d_M_near_3 rfl rfl ?_
    refine cv (mc' := 0) (ms' := 0) (k' := k_M_pairCode) (As := [.int (nI (a)), .int (nI (b))]) (stk := [.ref (G.1 + 20)]) d_M_near_4 ml_M_108 kk_M_pairCode rfl rfl (Nat.le_of_ble_eq_true rfl) (by omega) (hM 0 _ rfl) rfl rfl (ct_M_pairCodeN (d := d) ha hb hn hM hc) (rd ?_)
    rw [if_neg hab]
    refine ev_putM (kf := 0) d_M_near_7 fl_M_76 (by decide) rfl rfl rfl rfl (by omega) hM rfl (Nat.le_of_ble_eq_true rfl) (fun ν hM hf => ?_)
    have hM : ML ν (mmL G c 0 hp tl pc pw pn bw bk me cl mt ts pit pat psz) := hM
    have hF := frT hf hF
    refine ev_aload_n d_M_near_10 rfl rfl ?_
    refine ev_aload_n d_M_near_11 rfl rfl ?_
    refine ev_getf (kf := 0) (T := F_M) (C := R_M) (N := 30) (v := .int (nI (0))) d_M_near_12 fl_M_76 rfl i_M (by decide) (by omega) (hM 0 _ rfl) rfl ?_
    refine ev_if_ne d_M_near_15 (fun c_15 => ?_) (fun c_15 => ?_)
    ·
      skip
      exact absurd rfl c_15
    ·
      skip
      refine ev_lload_n d_M_near_18 rfl rfl ?_
      refine ev_lconst (v := lN 0) d_M_near_19 (by decide) ?_
      refine ev_ldc2 (v := (100000)) d_M_near_20 ck_M_95 ?_
      refine ev_topl (w := lN 100000) (by decide) ?_
      refine cs (mc' := 0) (ms' := 0) (k' := k_M_isIn) (As := [.long (w), .long (lN (0)), .long (lN (100000))]) (stk := [.ref (G.1 + 20)]) d_M_near_23 ml_M_91 kk_M_isIn rfl rfl (Nat.le_of_ble_eq_true rfl) (ct_M_isInV (d := d + 1) (LZ_of _) (LZ_n (by omega)) (LZ_n (by omega))) (rd ?_)
      refine ev_if_ne d_M_near_26 (fun c_26 => ?_) (fun c_26 => ?_)
      ·
        have c_26 := b2_t c_26
        exact absurd ⟨hab, of_decide_eq_true c_26⟩ hno
      ·
        have c_26 := b2_f c_26
        refine ev_iconst (v := (nI (2))) d_M_near_29 (by decide) ?_
        refine ev_goto d_M_near_30 ?_
        refine ev_putM (kf := 0) d_M_near_37 fl_M_76 (by decide) rfl rfl rfl rfl (by omega) hM rfl (Nat.le_of_ble_eq_true rfl) (fun ν hM hf => ?_)
        have hM : ML ν (mmL G c 2 hp tl pc pw pn bw bk me cl mt ts pit pat psz) := hM
        have hF := frT hf hF
        refine ev_aload_n d_M_near_40 rfl rfl ?_
        refine ev_getf (kf := 0) (T := F_M) (C := R_M) (N := 30) (v := .int (nI (2))) d_M_near_41 fl_M_76 rfl i_M (by decide) (by omega) (hM 0 _ rfl) rfl ?_
        refine ev_if_gt d_M_near_44 (fun c_44 => ?_) (fun c_44 => ?_)
        ·
          skip
          refine ev_iconst (v := (nI (0))) d_M_near_63 (by decide) ?_
          refine ev_ireturn d_M_near_64 rfl rfl ?_
          exact ⟨rfl, rfl, hM, hF⟩
        ·
          skip
          exact absurd (by decide) c_44
theorem ct_M_near_no1 {a b : Int} {w : Int64} (ha1 : -2147483648 ≤ a) (ha2 : a < 2147483648) (hb1 : -2147483648 ≤ b) (hb2 : b < 2147483648) (hno : ¬ ((0 ≤ a ∧ a < c.mn) ∧ (0 ≤ b ∧ b < c.mn))) (hn : 41 ≤ n) (hM : ML μ (mmL G c cd hp tl pc pw pn bw bk me cl mt ts pit pat psz)) (hc : CfOK c) : Ct G k_M_near (d + 2) 0 0 [.ref (G.1 + 20), .int (iI a), .int (iI b), .long w] n μ (MU G n μ (some (.int (nI 0))) (mmL G c 1 hp tl pc pw pn bw bk me cl mt ts pit pat psz)) := by
  obtain ⟨⟨hst1, hst2⟩, hfr, hpn, hpp, hmn, hwd, hnd, hpu, hnr, hbr, hle, hdef⟩ := id hc
  have hF : FrM μ μ := fun t _ => rfl
  refine Ct.ofp (r := 0) (ls := [some (.ref (G.1 + 20)), some (.int (iI (a))), some (.int (iI (b))), some (.long (w)), none]) rfl (Nat.le_of_ble_eq_true rfl) ?_
  refine ev_aload_n d_M_near_0 rfl rfl ?_
  refine ev_aload_n d_M_near_1 rfl rfl ?_
  refine ev_iload_n d_M_near_2 rfl rfl ?_
  refine ev_iload_n d_M_near_3 rfl rfl ?_
  refine cv (mc' := 0) (ms' := 0) (k' := k_M_pairCode) (As := [.int (iI (a)), .int (iI (b))]) (stk := [.ref (G.1 + 20)]) d_M_near_4 ml_M_108 kk_M_pairCode rfl rfl (Nat.le_of_ble_eq_true rfl) (by omega) (hM 0 _ rfl) rfl rfl (ct_M_pairCode (d := d) ha1 ha2 hb1 hb2 hn hM hc) (rd ?_)
  rw [if_neg hno]
  refine ev_putM (kf := 0) d_M_near_7 fl_M_76 (by decide) rfl rfl rfl rfl (by omega) hM rfl (Nat.le_of_ble_eq_true rfl) (fun ν hM hf => ?_)
  have hM : ML ν (mmL G c 1 hp tl pc pw pn bw bk me cl mt ts pit pat psz) := hM
  have hF := frT hf hF
  refine ev_aload_n d_M_near_10 rfl rfl ?_
  refine ev_aload_n d_M_near_11 rfl rfl ?_
  refine ev_getf (kf := 0) (T := F_M) (C := R_M) (N := 30) (v := .int (nI (1))) d_M_near_12 fl_M_76 rfl i_M (by decide) (by omega) (hM 0 _ rfl) rfl ?_
  refine ev_if_ne d_M_near_15 (fun c_15 => ?_) (fun c_15 => ?_)
  ·
    skip
    refine ev_aload_n d_M_near_33 rfl rfl ?_
    refine ev_getf (kf := 0) (T := F_M) (C := R_M) (N := 30) (v := .int (nI (1))) d_M_near_34 fl_M_76 rfl i_M (by decide) (by omega) (hM 0 _ rfl) rfl ?_
    refine ev_putM (kf := 0) d_M_near_37 fl_M_76 (by decide) rfl rfl rfl rfl (by omega) hM rfl (Nat.le_of_ble_eq_true rfl) (fun ν hM hf => ?_)
    have hM : ML ν (mmL G c 1 hp tl pc pw pn bw bk me cl mt ts pit pat psz) := hM
    have hF := frT hf hF
    refine ev_aload_n d_M_near_40 rfl rfl ?_
    refine ev_getf (kf := 0) (T := F_M) (C := R_M) (N := 30) (v := .int (nI (1))) d_M_near_41 fl_M_76 rfl i_M (by decide) (by omega) (hM 0 _ rfl) rfl ?_
    refine ev_if_gt d_M_near_44 (fun c_44 => ?_) (fun c_44 => ?_)
    ·
      skip
      refine ev_iconst (v := (nI (0))) d_M_near_63 (by decide) ?_
      refine ev_ireturn d_M_near_64 rfl rfl ?_
      exact ⟨rfl, rfl, hM, hF⟩
    ·
      skip
      exact absurd (by decide) c_44
  ·
    skip
    exact absurd c_15 (by decide)
theorem ct_M_bar_no2 {a b : Nat} (ha : a < c.mn) (hb : b < c.mn) (hno : ¬ (a ≠ b)) (hn : 41 ≤ n) (hM : ML μ (mmL G c cd hp tl pc pw pn bw bk me cl mt ts pit pat psz)) (hc : CfOK c) : Ct G k_M_bar (d + 2) 0 0 [.ref (G.1 + 20), .int (nI a), .int (nI b)] n μ (MU G n μ (some (.int (nI 0))) (mmL G c 2 hp tl pc pw pn bw bk me cl mt ts pit pat psz)) := by
  obtain ⟨⟨hst1, hst2⟩, hfr, hpn, hpp, hmn, hwd, hnd, hpu, hnr, hbr, hle, hdef⟩ := id hc
  have hF : FrM μ μ := fun t _ => rfl
  have hab : a = b := Decidable.not_not.mp hno
  refine Ct.ofp (r := 0) (ls := [some (.ref (G.1 + 20)), some (.int (nI (a))), some (.int (nI (b)))]) rfl (Nat.le_of_ble_eq_true rfl) ?_
  refine ev_aload_n d_M_bar_0 rfl rfl ?_
  refine ev_aload_n d_M_bar_1 rfl rfl ?_
  refine ev_iload_n d_M_bar_2 rfl rfl ?_
  refine ev_iload_n d_M_bar_3 rfl rfl ?_
  refine cv (mc' := 0) (ms' := 0) (k' := k_M_pairCode) (As := [.int (nI (a)), .int (nI (b))]) (stk := [.ref (G.1 + 20)]) d_M_bar_4 ml_M_108 kk_M_pairCode rfl rfl (Nat.le_of_ble_eq_true rfl) (by omega) (hM 0 _ rfl) rfl rfl (ct_M_pairCodeN (d := d) ha hb hn hM hc) (rd ?_)
  rw [if_pos hab]
  refine ev_putM (kf := 0) d_M_bar_7 fl_M_76 (by decide) rfl rfl rfl rfl (by omega) hM rfl (Nat.le_of_ble_eq_true rfl) (fun ν hM hf => ?_)
  have hM : ML ν (mmL G c 2 hp tl pc pw pn bw bk me cl mt ts pit pat psz) := hM
  have hF := frT hf hF
  refine ev_aload_n d_M_bar_10 rfl rfl ?_
  refine ev_getf (kf := 0) (T := F_M) (C := R_M) (N := 30) (v := .int (nI (2))) d_M_bar_11 fl_M_76 rfl i_M (by decide) (by omega) (hM 0 _ rfl) rfl ?_
  refine ev_if_gt d_M_bar_14 (fun c_14 => ?_) (fun c_14 => ?_)
  ·
    skip
    refine ev_iconst (v := (nI (0))) d_M_bar_31 (by decide) ?_
    refine ev_ireturn d_M_bar_32 rfl rfl ?_
    exact ⟨rfl, rfl, hM, hF⟩
  ·
    skip
    exact absurd (by decide) c_14
theorem ct_M_bar_no1 {a b : Int} (ha1 : -2147483648 ≤ a) (ha2 : a < 2147483648) (hb1 : -2147483648 ≤ b) (hb2 : b < 2147483648) (hno : ¬ ((0 ≤ a ∧ a < c.mn) ∧ (0 ≤ b ∧ b < c.mn))) (hn : 41 ≤ n) (hM : ML μ (mmL G c cd hp tl pc pw pn bw bk me cl mt ts pit pat psz)) (hc : CfOK c) : Ct G k_M_bar (d + 2) 0 0 [.ref (G.1 + 20), .int (iI a), .int (iI b)] n μ (MU G n μ (some (.int (nI 0))) (mmL G c 1 hp tl pc pw pn bw bk me cl mt ts pit pat psz)) := by
  obtain ⟨⟨hst1, hst2⟩, hfr, hpn, hpp, hmn, hwd, hnd, hpu, hnr, hbr, hle, hdef⟩ := id hc
  have hF : FrM μ μ := fun t _ => rfl
  refine Ct.ofp (r := 0) (ls := [some (.ref (G.1 + 20)), some (.int (iI (a))), some (.int (iI (b)))]) rfl (Nat.le_of_ble_eq_true rfl) ?_
  refine ev_aload_n d_M_bar_0 rfl rfl ?_
  refine ev_aload_n d_M_bar_1 rfl rfl ?_
  refine ev_iload_n d_M_bar_2 rfl rfl ?_
  refine ev_iload_n d_M_bar_3 rfl rfl ?_
  refine cv (mc' := 0) (ms' := 0) (k' := k_M_pairCode) (As := [.int (iI (a)), .int (iI (b))]) (stk := [.ref (G.1 + 20)]) d_M_bar_4 ml_M_108 kk_M_pairCode rfl rfl (Nat.le_of_ble_eq_true rfl) (by omega) (hM 0 _ rfl) rfl rfl (ct_M_pairCode (d := d) ha1 ha2 hb1 hb2 hn hM hc) (rd ?_)
  rw [if_neg hno]
  refine ev_putM (kf := 0) d_M_bar_7 fl_M_76 (by decide) rfl rfl rfl rfl (by omega) hM rfl (Nat.le_of_ble_eq_true rfl) (fun ν hM hf => ?_)
  have hM : ML ν (mmL G c 1 hp tl pc pw pn bw bk me cl mt ts pit pat psz) := hM
  have hF := frT hf hF
  refine ev_aload_n d_M_bar_10 rfl rfl ?_
  refine ev_getf (kf := 0) (T := F_M) (C := R_M) (N := 30) (v := .int (nI (1))) d_M_bar_11 fl_M_76 rfl i_M (by decide) (by omega) (hM 0 _ rfl) rfl ?_
  refine ev_if_gt d_M_bar_14 (fun c_14 => ?_) (fun c_14 => ?_)
  ·
    skip
    refine ev_iconst (v := (nI (0))) d_M_bar_31 (by decide) ?_
    refine ev_ireturn d_M_bar_32 rfl rfl ?_
    exact ⟨rfl, rfl, hM, hF⟩
  ·
    skip
    exact absurd (by decide) c_14
end MTL2
