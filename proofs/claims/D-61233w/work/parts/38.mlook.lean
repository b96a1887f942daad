/-! ===== looking at the model's plan ===== -/
def MPc (c : Cf) (l : List (Nat × Nat)) (pit pat psz : Nat → Int32) : Prop := ∀ k, k < l.length → pit k = iI (plF c (gN l k) 0) ∧ pat k = nI (gN l k).2 ∧ psz k = nI (wdt c (gN l k))
theorem gN_pair {l : List (Nat × Nat)} {P : Nat × Nat → Nat × Nat → Prop} (h : l.Pairwise P) {i j : Nat} (hij : i < j) (hj : j < l.length) : P (gN l i) (gN l j) := by
  have := List.pairwise_iff_getElem.mp h i j (by omega) hj hij
  have e1 := gN_some (show i < l.length by omega)
  have e2 := gN_some hj
  rw [List.getElem?_eq_getElem (by omega)] at e1
  rw [List.getElem?_eq_getElem hj] at e2
  rw [Option.some.inj e1, Option.some.inj e2] at this
  exact this
theorem atF_hit {l : List (Nat × Nat)} (h : l.Pairwise (fun x y => x.1 < 6 → x.1 ≠ y.1)) {k i : Nat} (hk : k < 6) (he : (gN l i).1 = k) : ∀ j, i < j → j ≤ l.length → atF l k j = ((gN l i).2 : Int)
  | 0, h1, _ => by omega
  | j + 1, h1, h2 => by
    simp only [atF]
    by_cases e : i = j
    · subst e; rw [if_pos he]
    · rw [if_neg, atF_hit h hk he j (by omega) (by omega)]
      intro q
      exact gN_pair h (show i < j by omega) (by omega) (by omega) (he.trans q.symm)
theorem atF_none {l : List (Nat × Nat)} {k : Nat} : ∀ j, (∀ i, i < j → (gN l i).1 ≠ k) → atF l k j = -1
  | 0, _ => rfl
  | j + 1, h => by
    simp only [atF]
    rw [if_neg (h j (by omega)), atF_none j (fun i hi => h i (by omega))]
def bgM (c : Cf) (l : List (Nat × Nat)) (z : Int) : Nat → Int
  | 0 => 0
  | p + 1 => if bgB c l p then (if (tpN c l p : Int) = z then ((gN l p).2 : Int) else bgM c l z p) else bgM c l z p
theorem tpN_pos (c : Cf) (l : List (Nat × Nat)) : ∀ p, 1 ≤ tpN c l (p + 1)
  | 0 => by simp [tpN, bgB]
  | p + 1 => by have := tpN_pos c l p; simp only [tpN] at this ⊢; omega
theorem top_rel (c : Cf) (l : List (Nat × Nat)) (z : Int) : ∀ p, (z < 0 → frZ c l z p = -1) ∧ (0 ≤ z → z < tpN c l p → frZ c l z p = bgM c l z p ∧ frZ c l z p ≠ -1) ∧ ((tpN c l p : Int) ≤ z → frZ c l z p = -1)
  | 0 => ⟨fun _ => rfl, fun h1 h2 => by simp [tpN] at h2; omega, fun _ => rfl⟩
  | p + 1 => by
    obtain ⟨h1, h2, h3⟩ := top_rel c l z p
    have hp := tpN_pos c l p
    have hb : ((gN l p).2 : Int) ≠ -1 := by omega
    refine ⟨fun hz => ?_, fun hz hlt => ?_, fun hle => ?_⟩
    · simp only [frZ]
      rw [if_neg (by omega)]; exact h1 hz
    · cases hq : bgB c l p with
      | true =>
        have e : tpN c l (p + 1) = tpN c l p + 1 := by simp only [tpN]; rw [if_pos hq]
        simp only [frZ, bgM]
        rw [if_pos hq]
        by_cases hk : (tpN c l p : Int) = z
        · rw [if_pos (by omega), if_pos hk, if_pos (h3 (by omega))]; exact ⟨rfl, hb⟩
        · rw [if_neg (by omega), if_neg hk]; exact h2 hz (by omega)
      | false =>
        have e : tpN c l (p + 1) = tpN c l p := by simp only [tpN]; rw [if_neg (by rw [hq]; decide)]; rfl
        have h4 := h2 hz (by omega)
        simp only [frZ, bgM]
        rw [hq, if_neg h4.2]
        simp only [Bool.false_eq_true, if_false, ite_self]
        exact h4
    · have e : tpN c l p ≤ tpN c l (p + 1) := by simp only [tpN]; omega
      simp only [frZ]
      rw [if_neg (by omega)]; exact h3 (by omega)
theorem bgM_bd {c : Cf} {l : List (Nat × Nat)} (h : PcOK c l) (z : Int) : ∀ p, p ≤ l.length → 0 ≤ bgM c l z p ∧ bgM c l z p ≤ 40
  | 0, _ => by simp [bgM]
  | p + 1, hp => by
    have ih := bgM_bd h z p (by omega)
    have := (h.2 p (by omega)).2
    simp only [bgM]
    split
    · split <;> omega
    · exact ih
section MLK
variable {G : Gm} {d n : Nat} {μ : Mem} {c : Cf} {cd : Nat} {hp : Bool} {tl pc : Nat} {pw pn : Int64} {bw bk : Nat → Int64} {me cl mt ts pit pat psz : Nat → Int32} {l : List (Nat × Nat)} {w ct : Nat}
theorem ct_M_noneT (hn : 41 ≤ n) (hM : ML μ (mmL G c cd true tl pc pw pn bw bk me cl mt ts pit pat psz)) (hc : CfOK c) : Ct G k_M_none d 0 0 [.ref (G.1 + 20)] n μ (MU G n μ (some (.int (b2 false))) (mmL G c 0 true tl pc pw pn bw bk me cl mt ts pit pat psz)) := by
  obtain ⟨⟨hst1, hst2⟩, hfr, hpn, hpp, hmn, hwd, hnd, hpu, hnr, hbr, hle, hdef⟩ := id hc
  have hF : FrM μ μ := fun t _ => rfl
  refine Ct.ofp (r := 0) (ls := [some (.ref (G.1 + 20))]) rfl (Nat.le_of_ble_eq_true rfl) ?_
  refine ev_aload_n d_M_none_0 rfl rfl ?_
  refine ev_aload_n d_M_none_1 rfl rfl ?_
  refine ev_getf (kf := 21) (T := F_M) (C := R_M) (N := 30) (v := .int (b2 (true))) d_M_none_2 fl_M_79 rfl i_M (by decide) (by omega) (hM 0 _ rfl) rfl ?_
  refine ev_if_eq d_M_none_5 (fun c_5 => ?_) (fun c_5 => ?_)
  ·
    have c_5 := b2_f c_5
    cases c_5
  ·
    have c_5 := b2_t c_5
    refine ev_iconst (v := (nI (0))) d_M_none_8 (by decide) ?_
    refine ev_goto d_M_none_9 ?_
    refine ev_putM (kf := 0) d_M_none_13 fl_M_76 (by decide) rfl rfl rfl rfl (by omega) hM rfl (Nat.le_of_ble_eq_true rfl) (fun ν hM hf => ?_)
    have hM : ML ν (mmL G c 0 true tl pc pw pn bw bk me cl mt ts pit pat psz) := hM
    have hF := frT hf hF
    refine ev_aload_n d_M_none_16 rfl rfl ?_
    refine ev_getf (kf := 0) (T := F_M) (C := R_M) (N := 30) (v := .int (nI (0))) d_M_none_17 fl_M_76 rfl i_M (by decide) (by omega) (hM 0 _ rfl) rfl ?_
    refine ev_if_le d_M_none_20 (fun c_20 => ?_) (fun c_20 => ?_)
    ·
      skip
      refine ev_iconst (v := (nI (0))) d_M_none_27 (by decide) ?_
      refine ev_ireturn d_M_none_28 rfl rfl ?_
      exact ⟨rfl, rfl, hM, hF⟩
    ·
      skip
      exact absurd (by decide) c_20
theorem ct_M_noneF (hn : 41 ≤ n) (hM : ML μ (mmL G c cd false tl pc pw pn bw bk me cl mt ts pit pat psz)) (hc : CfOK c) : Ct G k_M_none d 0 0 [.ref (G.1 + 20)] n μ (MU G n μ (some (.int (b2 true))) (mmL G c 1 false tl pc pw pn bw bk me cl mt ts pit pat psz)) := by
  obtain ⟨⟨hst1, hst2⟩, hfr, hpn, hpp, hmn, hwd, hnd, hpu, hnr, hbr, hle, hdef⟩ := id hc
  have hF : FrM μ μ := fun t _ => rfl
  refine Ct.ofp (r := 0) (ls := [some (.ref (G.1 + 20))]) rfl (Nat.le_of_ble_eq_true rfl) ?_
  refine ev_aload_n d_M_none_0 rfl rfl ?_
  refine ev_aload_n d_M_none_1 rfl rfl ?_
  refine ev_getf (kf := 21) (T := F_M) (C := R_M) (N := 30) (v := .int (b2 (false))) d_M_none_2 fl_M_79 rfl i_M (by decide) (by omega) (hM 0 _ rfl) rfl ?_
  refine ev_if_eq d_M_none_5 (fun c_5 => ?_) (fun c_5 => ?_)
  ·
    have c_5 := b2_f c_5
    refine ev_iconst (v := (nI (1))) d_M_none_12 (by decide) ?_
    refine ev_putM (kf := 0) d_M_none_13 fl_M_76 (by decide) rfl rfl rfl rfl (by omega) hM rfl (Nat.le_of_ble_eq_true rfl) (fun ν hM hf => ?_)
    have hM : ML ν (mmL G c 1 false tl pc pw pn bw bk me cl mt ts pit pat psz) := hM
    have hF := frT hf hF
    refine ev_aload_n d_M_none_16 rfl rfl ?_
    refine ev_getf (kf := 0) (T := F_M) (C := R_M) (N := 30) (v := .int (nI (1))) d_M_none_17 fl_M_76 rfl i_M (by decide) (by omega) (hM 0 _ rfl) rfl ?_
    refine ev_if_le d_M_none_20 (fun c_20 => ?_) (fun c_20 => ?_)
    ·
      skip
      exact absurd c_20 (by decide)
    ·
      skip
      refine ev_iconst (v := (nI (1))) d_M_none_23 (by decide) ?_
      refine ev_goto d_M_none_24 ?_
      refine ev_ireturn d_M_none_28 rfl rfl ?_
      exact ⟨rfl, rfl, hM, hF⟩
  ·
    have c_5 := b2_t c_5
    cases c_5
theorem ct_M_at_no1 {a : Int} (hn : 41 ≤ n) (hM : ML μ (mmL G c cd false tl pc pw pn bw bk me cl mt ts pit pat psz)) (hc : CfOK c) : Ct G k_M_at (d + 1) 0 0 [.ref (G.1 + 20), .int (iI a)] n μ (MU G n μ (some (.int (nI 0))) (mmL G c 1 false tl pc pw pn bw bk me cl mt ts pit pat psz)) := by
  obtain ⟨⟨hst1, hst2⟩, hfr, hpn, hpp, hmn, hwd, hnd, hpu, hnr, hbr, hle, hdef⟩ := id hc
  have hF : FrM μ μ := fun t _ => rfl
  refine Ct.ofp (r := 1) (ls := [some (.ref (G.1 + 20)), some (.int (iI (a))), none]) rfl (Nat.le_of_ble_eq_true rfl) ?_
  refine ev_aload_n d_M_at_0 rfl rfl ?_
  refine cv (mc' := 0) (ms' := 0) (k' := k_M_none) (As := []) (stk := []) d_M_at_1 ml_M_184 kk_M_none rfl rfl (Nat.le_of_ble_eq_true rfl) (by omega) (hM 0 _ rfl) rfl rfl (ct_M_noneF (d := d) hn hM hc) (af fun n1 ν hq => ?_)
  obtain ⟨hn1, hM, hf⟩ := hq
  subst n1
  have hM : ML ν (mmL G c 1 false tl pc pw pn bw bk me cl mt ts pit pat psz) := hM
  have hF := frT hf hF
  refine ev_if_eq d_M_at_4 (fun c_4 => ?_) (fun c_4 => ?_)
  ·
    have c_4 := b2_f c_4
    cases c_4
  ·
    have c_4 := b2_t c_4
    refine ev_iconst (v := (nI (0))) d_M_at_7 (by decide) ?_
    refine ev_ireturn d_M_at_8 rfl rfl ?_
    exact ⟨rfl, rfl, hM, hF⟩
theorem ct_M_plan_no1 {a b : Int} (hn : 41 ≤ n) (hM : ML μ (mmL G c cd false tl pc pw pn bw bk me cl mt ts pit pat psz)) (hc : CfOK c) : Ct G k_M_plan (d + 1) 0 0 [.ref (G.1 + 20), .int (iI a), .int (iI b)] n μ (MU G n μ (some (.int (nI 0))) (mmL G c 1 false tl pc pw pn bw bk me cl mt ts pit pat psz)) := by
  obtain ⟨⟨hst1, hst2⟩, hfr, hpn, hpp, hmn, hwd, hnd, hpu, hnr, hbr, hle, hdef⟩ := id hc
  have hF : FrM μ μ := fun t _ => rfl
  refine Ct.ofp (r := 0) (ls := [some (.ref (G.1 + 20)), some (.int (iI (a))), some (.int (iI (b)))]) rfl (Nat.le_of_ble_eq_true rfl) ?_
  refine ev_aload_n d_M_plan_0 rfl rfl ?_
  refine cv (mc' := 0) (ms' := 0) (k' := k_M_none) (As := []) (stk := []) d_M_plan_1 ml_M_184 kk_M_none rfl rfl (Nat.le_of_ble_eq_true rfl) (by omega) (hM 0 _ rfl) rfl rfl (ct_M_noneF (d := d) hn hM hc) (af fun n1 ν hq => ?_)
  obtain ⟨hn1, hM, hf⟩ := hq
  subst n1
  have hM : ML ν (mmL G c 1 false tl pc pw pn bw bk me cl mt ts pit pat psz) := hM
  have hF := frT hf hF
  refine ev_if_eq d_M_plan_4 (fun c_4 => ?_) (fun c_4 => ?_)
  ·
    have c_4 := b2_f c_4
    cases c_4
  ·
    have c_4 := b2_t c_4
    refine ev_iconst (v := (nI (0))) d_M_plan_7 (by decide) ?_
    refine ev_ireturn d_M_plan_8 rfl rfl ?_
    exact ⟨rfl, rfl, hM, hF⟩
theorem ct_M_worth_no1 {a : Int} (hn : 41 ≤ n) (hM : ML μ (mmL G c cd false tl pc pw pn bw bk me cl mt ts pit pat psz)) (hc : CfOK c) : Ct G k_M_worth (d + 1) 0 0 [.ref (G.1 + 20), .int (iI a)] n μ (MU G n μ (some (.long (lN 0))) (mmL G c 1 false tl pc pw pn bw bk me cl mt ts pit pat psz)) := by
  obtain ⟨⟨hst1, hst2⟩, hfr, hpn, hpp, hmn, hwd, hnd, hpu, hnr, hbr, hle, hdef⟩ := id hc
  have hF : FrM μ μ := fun t _ => rfl
  refine Ct.ofp (r := 0) (ls := [some (.ref (G.1 + 20)), some (.int (iI (a)))]) rfl (Nat.le_of_ble_eq_true rfl) ?_
  refine ev_aload_n d_M_worth_0 rfl rfl ?_
  refine cv (mc' := 0) (ms' := 0) (k' := k_M_none) (As := []) (stk := []) d_M_worth_1 ml_M_184 kk_M_none rfl rfl (Nat.le_of_ble_eq_true rfl) (by omega) (hM 0 _ rfl) rfl rfl (ct_M_noneF (d := d) hn hM hc) (af fun n1 ν hq => ?_)
  obtain ⟨hn1, hM, hf⟩ := hq
  subst n1
  have hM : ML ν (mmL G c 1 false tl pc pw pn bw bk me cl mt ts pit pat psz) := hM
  have hF := frT hf hF
  refine ev_if_eq d_M_worth_4 (fun c_4 => ?_) (fun c_4 => ?_)
  ·
    have c_4 := b2_f c_4
    cases c_4
  ·
    have c_4 := b2_t c_4
    refine ev_lconst (v := lN 0) d_M_worth_7 (by decide) ?_
    refine ev_lreturn d_M_worth_8 rfl ?_
    exact ⟨rfl, rfl, hM, hF⟩
theorem ct_M_top_no1 {a b : Int} (hn : 41 ≤ n) (hM : ML μ (mmL G c cd false tl pc pw pn bw bk me cl mt ts pit pat psz)) (hc : CfOK c) : Ct G k_M_top (d + 1) 0 0 [.ref (G.1 + 20), .int (iI a), .int (iI b)] n μ (MU G n μ (some (.int (nI 0))) (mmL G c 1 false tl pc pw pn bw bk me cl mt ts pit pat psz)) := by
  obtain ⟨⟨hst1, hst2⟩, hfr, hpn, hpp, hmn, hwd, hnd, hpu, hnr, hbr, hle, hdef⟩ := id hc
  have hF : FrM μ μ := fun t _ => rfl
  refine Ct.ofp (r := 4) (ls := [some (.ref (G.1 + 20)), some (.int (iI (a))), some (.int (iI (b))), none, none, none, none]) rfl (Nat.le_of_ble_eq_true rfl) ?_
  refine ev_aload_n d_M_top_0 rfl rfl ?_
  refine cv (mc' := 0) (ms' := 0) (k' := k_M_none) (As := []) (stk := []) d_M_top_1 ml_M_184 kk_M_none rfl rfl (Nat.le_of_ble_eq_true rfl) (by omega) (hM 0 _ rfl) rfl rfl (ct_M_noneF (d := d) hn hM hc) (af fun n1 ν hq => ?_)
  obtain ⟨hn1, hM, hf⟩ := hq
  subst n1
  have hM : ML ν (mmL G c 1 false tl pc pw pn bw bk me cl mt ts pit pat psz) := hM
  have hF := frT hf hF
  refine ev_if_eq d_M_top_4 (fun c_4 => ?_) (fun c_4 => ?_)
  ·
    have c_4 := b2_f c_4
    cases c_4
  ·
    have c_4 := b2_t c_4
    refine ev_iconst (v := (nI (0))) d_M_top_7 (by decide) ?_
    refine ev_ireturn d_M_top_8 rfl rfl ?_
    exact ⟨rfl, rfl, hM, hF⟩
theorem lp_M_at {k : Nat} (hk : k < c.mn) (hK : PcOK c l) (hP : MPc c l pit pat psz) (hw : l.Pairwise (fun x y => x.1 < 6 → x.1 ≠ y.1)) (hn : 41 ≤ n) (hc : CfOK c) {ν : Mem} (hM : ML ν (mmL G c 0 true tl l.length (lN w) (lN ct) bw bk me cl mt ts pit pat psz)) (hF : FrM ν μ) : ∀ (m i : Nat), i ≤ l.length → l.length < i + m → (∀ j, j < i → (gN l j).1 ≠ k) → Ev G k_M_at (d + 1) 0 0 28 [some (.ref (G.1 + 20)), some (.int (nI (k))), some (.int (nI (i)))] [] n ν (MU G n μ (some (.int (iI (atF l k l.length)))) (mmL G c 0 true tl l.length (lN w) (lN ct) bw bk me cl mt ts pit pat psz)) := by
  obtain ⟨⟨hst1, hst2⟩, hfr, hpn, hpp, hmn, hwd, hnd, hpu, hnr, hbr, hle, hdef⟩ := id hc
  generalize hQ : (MU G n μ (some (.int (iI (atF l k l.length)))) (mmL G c 0 true tl l.length (lN w) (lN ct) bw bk me cl mt ts pit pat psz)) = Q
  obtain ⟨hk1, hk2⟩ := id hK
  intro m
  induction m with
  | zero =>
    intro i h1 h2
    exact absurd h2 (by omega)
  | succ m ih =>
    intro i hi him hno
    refine ev_iload_n d_M_at_28 rfl rfl ?_
    refine ev_aload_n d_M_at_29 rfl rfl ?_
    refine ev_getf (kf := 24) (T := F_M) (C := R_M) (N := 30) (v := .int (nI (l.length))) d_M_at_30 fl_M_149 rfl i_M (by decide) (by omega) (hM 0 _ rfl) rfl ?_
    refine ev_icmp_ge d_M_at_33 (fun c_33 => ?_) (fun c_33 => ?_)
    ·
      simp (disch := omega) only [nI_ltI, nI_leI, nI_eq, Nat.not_lt, Nat.not_le] at c_33
      refine ev_aload_n d_M_at_66 rfl rfl ?_
      refine ev_getf (kf := 0) (T := F_M) (C := R_M) (N := 30) (v := .int (nI (0))) d_M_at_67 fl_M_76 rfl i_M (by decide) (by omega) (hM 0 _ rfl) rfl ?_
      refine ev_if_le d_M_at_70 (fun c_70 => ?_) (fun c_70 => ?_)
      ·
        skip
        refine ev_iconst (v := (iI ((-1)))) d_M_at_77 (by decide) ?_
        refine ev_ireturn d_M_at_78 rfl rfl ?_
        subst hQ
        rw [atF_none l.length (fun j hj => hno j (by omega))]
        exact ⟨rfl, rfl, hM, hF⟩
      ·
        skip
        exact absurd (by decide) c_70
    ·
      simp (disch := omega) only [nI_ltI, nI_leI, nI_eq, Nat.not_lt, Nat.not_le] at c_33
      refine ev_aload_n d_M_at_36 rfl rfl ?_
      refine ev_getf (kf := 0) (T := F_M) (C := R_M) (N := 30) (v := .int (nI (0))) d_M_at_37 fl_M_76 rfl i_M (by decide) (by omega) (hM 0 _ rfl) rfl ?_
      refine ev_if_ne d_M_at_40 (fun c_40 => ?_) (fun c_40 => ?_)
      ·
        skip
        exact absurd rfl c_40
      ·
        skip
        have hpi := hP i c_33
        have hki := hk2 i c_33
        have hpz : plF c (gN l i) 0 = if 100 ≤ (gN l i).1 then -1 else ((gN l i).1 : Int) := rfl
        refine ev_aload_n d_M_at_43 rfl rfl ?_
        refine ev_getf (kf := 25) (T := F_M) (C := R_M) (N := 30) (v := .ref (G.1 + 37)) d_M_at_44 fl_M_60 rfl i_M (by decide) (by omega) (hM 0 _ rfl) rfl ?_
        refine ev_iload_n d_M_at_47 rfl rfl ?_
        refine ev_iald (j := i) d_M_at_48 (by omega) (hM 17 _ rfl) (by omega) (by decide) ?_
        refine ev_topi (w := iI (plF c (gN l i) 0)) hpi.1 ?_
        refine ev_iload_n d_M_at_49 rfl rfl ?_
        refine ev_icmp_ne d_M_at_50 (fun c_50 => ?_) (fun c_50 => ?_)
        ·
          have hpb : -1 ≤ plF c (gN l i) 0 ∧ plF c (gN l i) 0 ≤ 140 := by rw [hpz]; split <;> omega
          simp (disch := omega) only [nI_iI, iI_eq] at c_50
          have c_50 : (gN l i).1 ≠ k := by rw [hpz] at c_50; split at c_50 <;> omega
          refine ev_iinc (v := (nI (i + 1))) (ls' := [_, _, _]) d_M_at_60 rfl (nI_1 _) (by decide) rfl rfl ?_
          refine ev_goto d_M_at_63 ?_
          refine ih (i + 1) (by omega) (by omega) (fun j hj => ?_)
          by_cases e : j = i
          · subst e; exact c_50
          · exact hno j (by omega)
        ·
          have hpb : -1 ≤ plF c (gN l i) 0 ∧ plF c (gN l i) 0 ≤ 140 := by rw [hpz]; split <;> omega
          simp (disch := omega) only [nI_iI, iI_eq] at c_50
          have c_50 : (gN l i).1 = k := by rw [hpz] at c_50; split at c_50 <;> omega
          refine ev_aload_n d_M_at_53 rfl rfl ?_
          refine ev_getf (kf := 26) (T := F_M) (C := R_M) (N := 30) (v := .ref (G.1 + 38)) d_M_at_54 fl_M_63 rfl i_M (by decide) (by omega) (hM 0 _ rfl) rfl ?_
          refine ev_iload_n d_M_at_57 rfl rfl ?_
          refine ev_iald (j := i) d_M_at_58 (by omega) (hM 18 _ rfl) (by omega) (by decide) ?_
          refine ev_topi (w := nI (gN l i).2) hpi.2.1 ?_
          refine ev_ireturn d_M_at_59 rfl rfl ?_
          subst hQ
          rw [atF_hit hw (show k < 6 by omega) c_50 l.length c_33 (Nat.le_refl _), ← nI_iI]
          exact ⟨rfl, rfl, hM, hF⟩
theorem ct_M_at_ok {k : Nat} (hk : k < c.mn) (hK : PcOK c l) (hP : MPc c l pit pat psz) (hw : l.Pairwise (fun x y => x.1 < 6 → x.1 ≠ y.1)) (hn : 41 ≤ n) (hM : ML μ (mmL G c cd true tl l.length (lN w) (lN ct) bw bk me cl mt ts pit pat psz)) (hc : CfOK c) : Ct G k_M_at (d + 1) 0 0 [.ref (G.1 + 20), .int (nI k)] n μ (MU G n μ (some (.int (iI (atF l k l.length)))) (mmL G c 0 true tl l.length (lN w) (lN ct) bw bk me cl mt ts pit pat psz)) := by
  obtain ⟨⟨hst1, hst2⟩, hfr, hpn, hpp, hmn, hwd, hnd, hpu, hnr, hbr, hle, hdef⟩ := id hc
  have hF : FrM μ μ := fun t _ => rfl
  refine Ct.ofp (r := 1) (ls := [some (.ref (G.1 + 20)), some (.int (nI (k))), none]) rfl (Nat.le_of_ble_eq_true rfl) ?_
  refine ev_aload_n d_M_at_0 rfl rfl ?_
  refine cv (mc' := 0) (ms' := 0) (k' := k_M_none) (As := []) (stk := []) d_M_at_1 ml_M_184 kk_M_none rfl rfl (Nat.le_of_ble_eq_true rfl) (by omega) (hM 0 _ rfl) rfl rfl (ct_M_noneT (d := d) hn hM hc) (af fun n1 ν hq => ?_)
  obtain ⟨hn1, hM, hf⟩ := hq
  subst n1
  have hM : ML ν (mmL G c 0 true tl l.length (lN w) (lN ct) bw bk me cl mt ts pit pat psz) := hM
  have hF := frT hf hF
  refine ev_if_eq d_M_at_4 (fun c_4 => ?_) (fun c_4 => ?_)
  ·
    have c_4 := b2_f c_4
    refine ev_aload_n d_M_at_9 rfl rfl ?_
    refine ev_aload_n d_M_at_10 rfl rfl ?_
    refine ev_iload_n d_M_at_11 rfl rfl ?_
    refine cv (mc' := 0) (ms' := 0) (k' := k_M_isItem) (As := [.int (nI (k))]) (stk := [.ref (G.1 + 20)]) d_M_at_12 ml_M_100 kk_M_isItem rfl rfl (Nat.le_of_ble_eq_true rfl) (by omega) (hM 0 _ rfl) rfl rfl (ct_M_isItemN (d := d) hk hn hM hc) (rd ?_)
    refine ev_if_eq d_M_at_15 (fun c_15 => ?_) (fun c_15 => ?_)
    ·
      have c_15 := b2_f c_15
      cases c_15
    ·
      have c_15 := b2_t c_15
      refine ev_iconst (v := (nI (0))) d_M_at_18 (by decide) ?_
      refine ev_goto d_M_at_19 ?_
      refine ev_putM (kf := 0) d_M_at_23 fl_M_76 (by decide) rfl rfl rfl rfl (by omega) hM rfl (Nat.le_of_ble_eq_true rfl) (fun ν hM hf => ?_)
      have hM : ML ν (mmL G c 0 true tl l.length (lN w) (lN ct) bw bk me cl mt ts pit pat psz) := hM
      have hF := frT hf hF
      refine ev_iconst (v := (nI (0))) d_M_at_26 (by decide) ?_
      refine ev_istore_n (ls' := [_, _, _]) d_M_at_27 rfl (by decide) rfl rfl ?_
      exact lp_M_at hk hK hP hw hn hc hM hF (l.length + 1) 0 (by omega) (by omega) (fun j hj => by omega)
  ·
    have c_4 := b2_t c_4
    cases c_4
theorem ct_M_at_no2 {a : Int} (ha1 : -2147483648 ≤ a) (ha2 : a < 2147483648) (hno : ¬ (0 ≤ a ∧ a < c.mn)) (hK : PcOK c l) (hn : 41 ≤ n) (hM : ML μ (mmL G c cd true tl l.length (lN w) (lN ct) bw bk me cl mt ts pit pat psz)) (hc : CfOK c) : Ct G k_M_at (d + 1) 0 0 [.ref (G.1 + 20), .int (iI a)] n μ (MU G n μ (some (.int (nI 0))) (mmL G c 2 true tl l.length (lN w) (lN ct) bw bk me cl mt ts pit pat psz)) := by
  obtain ⟨⟨hst1, hst2⟩, hfr, hpn, hpp, hmn, hwd, hnd, hpu, hnr, hbr, hle, hdef⟩ := id hc
  have hF : FrM μ μ := fun t _ => rfl
  obtain ⟨hk1, hk2⟩ := id hK
  refine Ct.ofp (r := 1) (ls := [some (.ref (G.1 + 20)), some (.int (iI (a))), none]) rfl (Nat.le_of_ble_eq_true rfl) ?_
  refine ev_aload_n d_M_at_0 rfl rfl ?_
  refine cv (mc' := 0) (ms' := 0) (k' := k_M_none) (As := []) (stk := []) d_M_at_1 ml_M_184 kk_M_none rfl rfl (Nat.le_of_ble_eq_true rfl) (by omega) (hM 0 _ rfl) rfl rfl (ct_M_noneT (d := d) hn hM hc) (af fun n1 ν hq => ?_)
  obtain ⟨hn1, hM, hf⟩ := hq
  subst n1
  have hM : ML ν (mmL G c 0 true tl l.length (lN w) (lN ct) bw bk me cl mt ts pit pat psz) := hM
  have hF := frT hf hF
  refine ev_if_eq d_M_at_4 (fun c_4 => ?_) (fun c_4 => ?_)
  ·
    have c_4 := b2_f c_4
    refine ev_aload_n d_M_at_9 rfl rfl ?_
    refine ev_aload_n d_M_at_10 rfl rfl ?_
    refine ev_iload_n d_M_at_11 rfl rfl ?_
    refine cv (mc' := 0) (ms' := 0) (k' := k_M_isItem) (As := [.int (iI (a))]) (stk := [.ref (G.1 + 20)]) d_M_at_12 ml_M_100 kk_M_isItem rfl rfl (Nat.le_of_ble_eq_true rfl) (by omega) (hM 0 _ rfl) rfl rfl (ct_M_isItem (d := d) ha1 ha2 hn hM hc) (rd ?_)
    refine ev_if_eq d_M_at_15 (fun c_15 => ?_) (fun c_15 => ?_)
    ·
      have c_15 := b2_f c_15
      refine ev_iconst (v := (nI (2))) d_M_at_22 (by decide) ?_
      refine ev_putM (kf := 0) d_M_at_23 fl_M_76 (by decide) rfl rfl rfl rfl (by omega) hM rfl (Nat.le_of_ble_eq_true rfl) (fun ν hM hf => ?_)
      have hM : ML ν (mmL G c 2 true tl l.length (lN w) (lN ct) bw bk me cl mt ts pit pat psz) := hM
      have hF := frT hf hF
      refine ev_iconst (v := (nI (0))) d_M_at_26 (by decide) ?_
      refine ev_istore_n (ls' := [_, _, _]) d_M_at_27 rfl (by decide) rfl rfl ?_
      refine ev_iload_n d_M_at_28 rfl rfl ?_
      refine ev_aload_n d_M_at_29 rfl rfl ?_
      refine ev_getf (kf := 24) (T := F_M) (C := R_M) (N := 30) (v := .int (nI (l.length))) d_M_at_30 fl_M_149 rfl i_M (by decide) (by omega) (hM 0 _ rfl) rfl ?_
      refine ev_icmp_ge d_M_at_33 (fun c_33 => ?_) (fun c_33 => ?_)
      ·
        simp (disch := omega) only [nI_ltI, nI_leI, nI_eq, Nat.not_lt, Nat.not_le] at c_33
        refine ev_aload_n d_M_at_66 rfl rfl ?_
        refine ev_getf (kf := 0) (T := F_M) (C := R_M) (N := 30) (v := .int (nI (2))) d_M_at_67 fl_M_76 rfl i_M (by decide) (by omega) (hM 0 _ rfl) rfl ?_
        refine ev_if_le d_M_at_70 (fun c_70 => ?_) (fun c_70 => ?_)
        ·
          skip
          exact absurd c_70 (by decide)
        ·
          skip
          refine ev_iconst (v := (nI (0))) d_M_at_73 (by decide) ?_
          refine ev_goto d_M_at_74 ?_
          refine ev_ireturn d_M_at_78 rfl rfl ?_
          exact ⟨rfl, rfl, hM, hF⟩
      ·
        simp (disch := omega) only [nI_ltI, nI_leI, nI_eq, Nat.not_lt, Nat.not_le] at c_33
        refine ev_aload_n d_M_at_36 rfl rfl ?_
        refine ev_getf (kf := 0) (T := F_M) (C := R_M) (N := 30) (v := .int (nI (2))) d_M_at_37 fl_M_76 rfl i_M (by decide) (by omega) (hM 0 _ rfl) rfl ?_
        refine ev_if_ne d_M_at_40 (fun c_40 => ?_) (fun c_40 => ?_)
        ·
          skip
          refine ev_aload_n d_M_at_66 rfl rfl ?_
          refine ev_getf (kf := 0) (T := F_M) (C := R_M) (N := 30) (v := .int (nI (2))) d_M_at_67 fl_M_76 rfl i_M (by decide) (by omega) (hM 0 _ rfl) rfl ?_
          refine ev_if_le d_M_at_70 (fun c_70 => ?_) (fun c_70 => ?_)
          ·
            skip
            exact absurd c_70 (by decide)
          ·
            skip
            refine ev_iconst (v := (nI (0))) d_M_at_73 (by decide) ?_
            refine ev_goto d_M_at_74 ?_
            refine ev_ireturn d_M_at_78 rfl rfl ?_
            exact ⟨rfl, rfl, hM, hF⟩
        ·
          skip
          exact absurd c_40 (by decide)
    ·
      have c_15 := b2_t c_15
      exact absurd (of_decide_eq_true c_15) hno
  ·
    have c_4 := b2_t c_4
    cases c_4
theorem ct_M_plan_ok {k wh : Nat} (hk : k < l.length) (hw : wh ≤ 2) (hK : PcOK c l) (hP : MPc c l pit pat psz) (hn : 41 ≤ n) (hM : ML μ (mmL G c cd true tl l.length (lN w) (lN ct) bw bk me cl mt ts pit pat psz)) (hc : CfOK c) : Ct G k_M_plan (d + 1) 0 0 [.ref (G.1 + 20), .int (nI k), .int (nI wh)] n μ (MU G n μ (some (.int (iI (plF c (gN l k) wh)))) (mmL G c 0 true tl l.length (lN w) (lN ct) bw bk me cl mt ts pit pat psz)) := by
  obtain ⟨⟨hst1, hst2⟩, hfr, hpn, hpp, hmn, hwd, hnd, hpu, hnr, hbr, hle, hdef⟩ := id hc
  have hF : FrM μ μ := fun t _ => rfl
  obtain ⟨hk1, hk2⟩ := id hK
  have hpk := hP k hk
  refine Ct.ofp (r := 0) (ls := [some (.ref (G.1 + 20)), some (.int (nI (k))), some (.int (nI (wh)))]) rfl (Nat.le_of_ble_eq_true rfl) ?_
  refine ev_aload_n d_M_plan_0 rfl rfl ?_
  refine cv (mc' := 0) (ms' := 0) (k' := k_M_none) (As := []) (stk := []) d_M_plan_1 ml_M_184 kk_M_none rfl rfl (Nat.le_of_ble_eq_true rfl) (by omega) (hM 0 _ rfl) rfl rfl (ct_M_noneT (d := d) hn hM hc) (af fun n1 ν hq => ?_)
  obtain ⟨hn1, hM, hf⟩ := hq
  subst n1
  have hM : ML ν (mmL G c 0 true tl l.length (lN w) (lN ct) bw bk me cl mt ts pit pat psz) := hM
  have hF := frT hf hF
  refine ev_if_eq d_M_plan_4 (fun c_4 => ?_) (fun c_4 => ?_)
  ·
    have c_4 := b2_f c_4
    refine ev_aload_n d_M_plan_9 rfl rfl ?_
    refine ev_iload_n d_M_plan_10 rfl rfl ?_
    refine ev_if_lt d_M_plan_11 (fun c_11 => ?_) (fun c_11 => ?_)
    ·
      skip
      exact absurd c_11 (nI_pos (by omega))
    ·
      skip
      refine ev_iload_n d_M_plan_14 rfl rfl ?_
      refine ev_aload_n d_M_plan_15 rfl rfl ?_
      refine ev_getf (kf := 24) (T := F_M) (C := R_M) (N := 30) (v := .int (nI (l.length))) d_M_plan_16 fl_M_149 rfl i_M (by decide) (by omega) (hM 0 _ rfl) rfl ?_
      refine ev_icmp_lt d_M_plan_19 (fun c_19 => ?_) (fun c_19 => ?_)
      ·
        simp (disch := omega) only [nI_ltI, nI_leI, nI_eq, Nat.not_lt, Nat.not_le] at c_19
        refine ev_iload_n d_M_plan_26 rfl rfl ?_
        refine ev_i2l d_M_plan_27 ?_
        refine ev_topl (w := (lN (wh))) (nI_l (by omega)) ?_
        refine ev_lconst (v := lN 0) d_M_plan_28 (by decide) ?_
        refine ev_ldc2 (v := (2)) d_M_plan_29 ck_M_188 ?_
        refine ev_topl (w := lN 2) (by decide) ?_
        refine cs (mc' := 0) (ms' := 0) (k' := k_M_isIn) (As := [.long (lN (wh)), .long (lN (0)), .long (lN (2))]) (stk := [.ref (G.1 + 20)]) d_M_plan_32 ml_M_91 kk_M_isIn rfl rfl (Nat.le_of_ble_eq_true rfl) (ct_M_isInV (d := d) (LZ_n (by omega)) (LZ_n (by omega)) (LZ_n (by omega))) (rd ?_)
        refine ev_if_eq d_M_plan_35 (fun c_35 => ?_) (fun c_35 => ?_)
        ·
          have c_35 := b2_f c_35
          exfalso; rw [decide_eq_false_iff_not] at c_35; omega
        ·
          have c_35 := b2_t c_35
          refine ev_iconst (v := (nI (0))) d_M_plan_38 (by decide) ?_
          refine ev_goto d_M_plan_39 ?_
          refine ev_putM (kf := 0) d_M_plan_43 fl_M_76 (by decide) rfl rfl rfl rfl (by omega) hM rfl (Nat.le_of_ble_eq_true rfl) (fun ν hM hf => ?_)
          have hM : ML ν (mmL G c 0 true tl l.length (lN w) (lN ct) bw bk me cl mt ts pit pat psz) := hM
          have hF := frT hf hF
          refine ev_aload_n d_M_plan_46 rfl rfl ?_
          refine ev_getf (kf := 0) (T := F_M) (C := R_M) (N := 30) (v := .int (nI (0))) d_M_plan_47 fl_M_76 rfl i_M (by decide) (by omega) (hM 0 _ rfl) rfl ?_
          refine ev_if_le d_M_plan_50 (fun c_50 => ?_) (fun c_50 => ?_)
          ·
            skip
            refine ev_iload_n d_M_plan_55 rfl rfl ?_
            refine ev_if_ne d_M_plan_56 (fun c_56 => ?_) (fun c_56 => ?_)
            ·
              have c_56 : ¬ wh = 0 := fun q => c_56 (by rw [q]; rfl)
              refine ev_iload_n d_M_plan_68 rfl rfl ?_
              refine ev_iconst (v := (nI (1))) d_M_plan_69 (by decide) ?_
              refine ev_icmp_ne d_M_plan_70 (fun c_70 => ?_) (fun c_70 => ?_)
              ·
                simp (disch := omega) only [nI_ltI, nI_leI, nI_eq, Nat.not_lt, Nat.not_le] at c_70
                refine ev_aload_n d_M_plan_82 rfl rfl ?_
                refine ev_getf (kf := 27) (T := F_M) (C := R_M) (N := 30) (v := .ref (G.1 + 39)) d_M_plan_83 fl_M_66 rfl i_M (by decide) (by omega) (hM 0 _ rfl) rfl ?_
                refine ev_iload_n d_M_plan_86 rfl rfl ?_
                refine ev_iald (j := k) d_M_plan_87 (by omega) (hM 19 _ rfl) (by omega) (by decide) ?_
                refine ev_topi (w := (nI (wdt c (gN l k)))) hpk.2.2 ?_
                refine ev_ireturn d_M_plan_88 rfl rfl ?_
                rw [show plF c (gN l k) wh = (wdt c (gN l k) : Int) from by unfold plF; rw [if_neg c_56, if_neg c_70], ← nI_iI]
                exact ⟨rfl, rfl, hM, hF⟩
              ·
                simp (disch := omega) only [nI_ltI, nI_leI, nI_eq, Nat.not_lt, Nat.not_le] at c_70
                refine ev_aload_n d_M_plan_73 rfl rfl ?_
                refine ev_getf (kf := 26) (T := F_M) (C := R_M) (N := 30) (v := .ref (G.1 + 38)) d_M_plan_74 fl_M_63 rfl i_M (by decide) (by omega) (hM 0 _ rfl) rfl ?_
                refine ev_iload_n d_M_plan_77 rfl rfl ?_
                refine ev_iald (j := k) d_M_plan_78 (by omega) (hM 18 _ rfl) (by omega) (by decide) ?_
                refine ev_topi (w := (nI ((gN l k).2))) hpk.2.1 ?_
                refine ev_goto d_M_plan_79 ?_
                refine ev_ireturn d_M_plan_88 rfl rfl ?_
                rw [show plF c (gN l k) wh = ((gN l k).2 : Int) from by unfold plF; rw [if_neg c_56, if_pos c_70], ← nI_iI]
                exact ⟨rfl, rfl, hM, hF⟩
            ·
              have c_56 : wh = 0 := (nI_eq (b := 0) (by omega) (by omega)).mp c_56
              refine ev_aload_n d_M_plan_59 rfl rfl ?_
              refine ev_getf (kf := 25) (T := F_M) (C := R_M) (N := 30) (v := .ref (G.1 + 37)) d_M_plan_60 fl_M_60 rfl i_M (by decide) (by omega) (hM 0 _ rfl) rfl ?_
              refine ev_iload_n d_M_plan_63 rfl rfl ?_
              refine ev_iald (j := k) d_M_plan_64 (by omega) (hM 17 _ rfl) (by omega) (by decide) ?_
              refine ev_topi (w := (iI (plF c (gN l k) 0))) hpk.1 ?_
              refine ev_goto d_M_plan_65 ?_
              refine ev_ireturn d_M_plan_88 rfl rfl ?_
              subst c_56
              exact ⟨rfl, rfl, hM, hF⟩
          ·
            skip
            exact absurd (by decide) c_50
      ·
        simp (disch := omega) only [nI_ltI, nI_leI, nI_eq, Nat.not_lt, Nat.not_le] at c_19
        omega
  ·
    have c_4 := b2_t c_4
    cases c_4
theorem ct_M_plan_no2 {a b : Int} (ha1 : -2147483648 ≤ a) (ha2 : a < 2147483648) (hno : ¬ (0 ≤ a ∧ a < l.length)) (hK : PcOK c l) (hn : 41 ≤ n) (hM : ML μ (mmL G c cd true tl l.length (lN w) (lN ct) bw bk me cl mt ts pit pat psz)) (hc : CfOK c) : Ct G k_M_plan (d + 1) 0 0 [.ref (G.1 + 20), .int (iI a), .int (iI b)] n μ (MU G n μ (some (.int (nI 0))) (mmL G c 2 true tl l.length (lN w) (lN ct) bw bk me cl mt ts pit pat psz)) := by
  obtain ⟨⟨hst1, hst2⟩, hfr, hpn, hpp, hmn, hwd, hnd, hpu, hnr, hbr, hle, hdef⟩ := id hc
  have hF : FrM μ μ := fun t _ => rfl
  obtain ⟨hk1, hk2⟩ := id hK
  refine Ct.ofp (r := 0) (ls := [some (.ref (G.1 + 20)), some (.int (iI (a))), some (.int (iI (b)))]) rfl (Nat.le_of_ble_eq_true rfl) ?_
  refine ev_aload_n d_M_plan_0 rfl rfl ?_
  refine cv (mc' := 0) (ms' := 0) (k' := k_M_none) (As := []) (stk := []) d_M_plan_1 ml_M_184 kk_M_none rfl rfl (Nat.le_of_ble_eq_true rfl) (by omega) (hM 0 _ rfl) rfl rfl (ct_M_noneT (d := d) hn hM hc) (af fun n1 ν hq => ?_)
  obtain ⟨hn1, hM, hf⟩ := hq
  subst n1
  have hM : ML ν (mmL G c 0 true tl l.length (lN w) (lN ct) bw bk me cl mt ts pit pat psz) := hM
  have hF := frT hf hF
  refine ev_if_eq d_M_plan_4 (fun c_4 => ?_) (fun c_4 => ?_)
  ·
    have c_4 := b2_f c_4
    refine ev_aload_n d_M_plan_9 rfl rfl ?_
    refine ev_iload_n d_M_plan_10 rfl rfl ?_
    refine ev_if_lt d_M_plan_11 (fun c_11 => ?_) (fun c_11 => ?_)
    ·
      have c_11 : a < 0 := (iI_ltI (b := 0) (by omega) (by omega) (by omega) (by omega)).mp c_11
      refine ev_iconst (v := (nI (2))) d_M_plan_22 (by decide) ?_
      refine ev_goto d_M_plan_23 ?_
      refine ev_putM (kf := 0) d_M_plan_43 fl_M_76 (by decide) rfl rfl rfl rfl (by omega) hM rfl (Nat.le_of_ble_eq_true rfl) (fun ν hM hf => ?_)
      have hM : ML ν (mmL G c 2 true tl l.length (lN w) (lN ct) bw bk me cl mt ts pit pat psz) := hM
      have hF := frT hf hF
      refine ev_aload_n d_M_plan_46 rfl rfl ?_
      refine ev_getf (kf := 0) (T := F_M) (C := R_M) (N := 30) (v := .int (nI (2))) d_M_plan_47 fl_M_76 rfl i_M (by decide) (by omega) (hM 0 _ rfl) rfl ?_
      refine ev_if_le d_M_plan_50 (fun c_50 => ?_) (fun c_50 => ?_)
      ·
        skip
        exact absurd c_50 (by decide)
      ·
        skip
        refine ev_iconst (v := (nI (0))) d_M_plan_53 (by decide) ?_
        refine ev_ireturn d_M_plan_54 rfl rfl ?_
        exact ⟨rfl, rfl, hM, hF⟩
    ·
      have c_11 : ¬ a < 0 := fun q => c_11 ((iI_ltI (b := 0) (by omega) (by omega) (by omega) (by omega)).mpr q)
      refine ev_iload_n d_M_plan_14 rfl rfl ?_
      refine ev_aload_n d_M_plan_15 rfl rfl ?_
      refine ev_getf (kf := 24) (T := F_M) (C := R_M) (N := 30) (v := .int (nI (l.length))) d_M_plan_16 fl_M_149 rfl i_M (by decide) (by omega) (hM 0 _ rfl) rfl ?_
      refine ev_icmp_lt d_M_plan_19 (fun c_19 => ?_) (fun c_19 => ?_)
      ·
        simp (disch := omega) only [nI_iI, iI_ltI, iI_leI, iI_eq, Int.not_lt, Int.not_le] at c_19
        omega
      ·
        simp (disch := omega) only [nI_iI, iI_ltI, iI_leI, iI_eq, Int.not_lt, Int.not_le] at c_19
        refine ev_iconst (v := (nI (2))) d_M_plan_22 (by decide) ?_
        refine ev_goto d_M_plan_23 ?_
        refine ev_putM (kf := 0) d_M_plan_43 fl_M_76 (by decide) rfl rfl rfl rfl (by omega) hM rfl (Nat.le_of_ble_eq_true rfl) (fun ν hM hf => ?_)
        have hM : ML ν (mmL G c 2 true tl l.length (lN w) (lN ct) bw bk me cl mt ts pit pat psz) := hM
        have hF := frT hf hF
        refine ev_aload_n d_M_plan_46 rfl rfl ?_
        refine ev_getf (kf := 0) (T := F_M) (C := R_M) (N := 30) (v := .int (nI (2))) d_M_plan_47 fl_M_76 rfl i_M (by decide) (by omega) (hM 0 _ rfl) rfl ?_
        refine ev_if_le d_M_plan_50 (fun c_50 => ?_) (fun c_50 => ?_)
        ·
          skip
          exact absurd c_50 (by decide)
        ·
          skip
          refine ev_iconst (v := (nI (0))) d_M_plan_53 (by decide) ?_
          refine ev_ireturn d_M_plan_54 rfl rfl ?_
          exact ⟨rfl, rfl, hM, hF⟩
  ·
    have c_4 := b2_t c_4
    cases c_4
theorem ct_M_plan_no3 {k : Nat} {b : Int} (hb1 : -2147483648 ≤ b) (hb2 : b < 2147483648) (hk : k < l.length) (hno : ¬ (0 ≤ b ∧ b ≤ 2)) (hK : PcOK c l) (hn : 41 ≤ n) (hM : ML μ (mmL G c cd true tl l.length (lN w) (lN ct) bw bk me cl mt ts pit pat psz)) (hc : CfOK c) : Ct G k_M_plan (d + 1) 0 0 [.ref (G.1 + 20), .int (nI k), .int (iI b)] n μ (MU G n μ (some (.int (nI 0))) (mmL G c 3 true tl l.length (lN w) (lN ct) bw bk me cl mt ts pit pat psz)) := by
  obtain ⟨⟨hst1, hst2⟩, hfr, hpn, hpp, hmn, hwd, hnd, hpu, hnr, hbr, hle, hdef⟩ := id hc
  have hF : FrM μ μ := fun t _ => rfl
  obtain ⟨hk1, hk2⟩ := id hK
  refine Ct.ofp (r := 0) (ls := [some (.ref (G.1 + 20)), some (.int (nI (k))), some (.int (iI (b)))]) rfl (Nat.le_of_ble_eq_true rfl) ?_
  refine ev_aload_n d_M_plan_0 rfl rfl ?_
  refine cv (mc' := 0) (ms' := 0) (k' := k_M_none) (As := []) (stk := []) d_M_plan_1 ml_M_184 kk_M_none rfl rfl (Nat.le_of_ble_eq_true rfl) (by omega) (hM 0 _ rfl) rfl rfl (ct_M_noneT (d := d) hn hM hc) (af fun n1 ν hq => ?_)
  obtain ⟨hn1, hM, hf⟩ := hq
  subst n1
  have hM : ML ν (mmL G c 0 true tl l.length (lN w) (lN ct) bw bk me cl mt ts pit pat psz) := hM
  have hF := frT hf hF
  refine ev_if_eq d_M_plan_4 (fun c_4 => ?_) (fun c_4 => ?_)
  ·
    have c_4 := b2_f c_4
    refine ev_aload_n d_M_plan_9 rfl rfl ?_
    refine ev_iload_n d_M_plan_10 rfl rfl ?_
    refine ev_if_lt d_M_plan_11 (fun c_11 => ?_) (fun c_11 => ?_)
    ·
      skip
      exact absurd c_11 (nI_pos (by omega))
    ·
      skip
      refine ev_iload_n d_M_plan_14 rfl rfl ?_
      refine ev_aload_n d_M_plan_15 rfl rfl ?_
      refine ev_getf (kf := 24) (T := F_M) (C := R_M) (N := 30) (v := .int (nI (l.length))) d_M_plan_16 fl_M_149 rfl i_M (by decide) (by omega) (hM 0 _ rfl) rfl ?_
      refine ev_icmp_lt d_M_plan_19 (fun c_19 => ?_) (fun c_19 => ?_)
      ·
        simp (disch := omega) only [nI_ltI, nI_leI, nI_eq, Nat.not_lt, Nat.not_le] at c_19
        refine ev_iload_n d_M_plan_26 rfl rfl ?_
        refine ev_i2l d_M_plan_27 ?_
        refine ev_lconst (v := lN 0) d_M_plan_28 (by decide) ?_
        refine ev_ldc2 (v := (2)) d_M_plan_29 ck_M_188 ?_
        refine ev_topl (w := lN 2) (by decide) ?_
        refine cs (mc' := 0) (ms' := 0) (k' := k_M_isIn) (As := [.long (((iI (b))).toInt64), .long (lN (0)), .long (lN (2))]) (stk := [.ref (G.1 + 20)]) d_M_plan_32 ml_M_91 kk_M_isIn rfl rfl (Nat.le_of_ble_eq_true rfl) (ct_M_isInV (d := d) (LZ_z (by omega) (by omega)) (LZ_n (by omega)) (LZ_n (by omega))) (rd ?_)
        refine ev_if_eq d_M_plan_35 (fun c_35 => ?_) (fun c_35 => ?_)
        ·
          have c_35 := b2_f c_35
          refine ev_iconst (v := (nI (3))) d_M_plan_42 (by decide) ?_
          refine ev_putM (kf := 0) d_M_plan_43 fl_M_76 (by decide) rfl rfl rfl rfl (by omega) hM rfl (Nat.le_of_ble_eq_true rfl) (fun ν hM hf => ?_)
          have hM : ML ν (mmL G c 3 true tl l.length (lN w) (lN ct) bw bk me cl mt ts pit pat psz) := hM
          have hF := frT hf hF
          refine ev_aload_n d_M_plan_46 rfl rfl ?_
          refine ev_getf (kf := 0) (T := F_M) (C := R_M) (N := 30) (v := .int (nI (3))) d_M_plan_47 fl_M_76 rfl i_M (by decide) (by omega) (hM 0 _ rfl) rfl ?_
          refine ev_if_le d_M_plan_50 (fun c_50 => ?_) (fun c_50 => ?_)
          ·
            skip
            exact absurd c_50 (by decide)
          ·
            skip
            refine ev_iconst (v := (nI (0))) d_M_plan_53 (by decide) ?_
            refine ev_ireturn d_M_plan_54 rfl rfl ?_
            exact ⟨rfl, rfl, hM, hF⟩
        ·
          have c_35 := b2_t c_35
          exact absurd (of_decide_eq_true c_35) hno
      ·
        simp (disch := omega) only [nI_ltI, nI_leI, nI_eq, Nat.not_lt, Nat.not_le] at c_19
        omega
  ·
    have c_4 := b2_t c_4
    cases c_4
theorem ct_M_worth_ok {wh : Nat} (hw : wh ≤ 1) (hn : 41 ≤ n) (hM : ML μ (mmL G c cd true tl l.length (lN w) (lN ct) bw bk me cl mt ts pit pat psz)) (hc : CfOK c) : Ct G k_M_worth (d + 1) 0 0 [.ref (G.1 + 20), .int (nI wh)] n μ (MU G n μ (some (.long (lN (if wh = 0 then w else ct)))) (mmL G c 0 true tl l.length (lN w) (lN ct) bw bk me cl mt ts pit pat psz)) := by
  obtain ⟨⟨hst1, hst2⟩, hfr, hpn, hpp, hmn, hwd, hnd, hpu, hnr, hbr, hle, hdef⟩ := id hc
  have hF : FrM μ μ := fun t _ => rfl
  refine Ct.ofp (r := 0) (ls := [some (.ref (G.1 + 20)), some (.int (nI (wh)))]) rfl (Nat.le_of_ble_eq_true rfl) ?_
  refine ev_aload_n d_M_worth_0 rfl rfl ?_
  refine cv (mc' := 0) (ms' := 0) (k' := k_M_none) (As := []) (stk := []) d_M_worth_1 ml_M_184 kk_M_none rfl rfl (Nat.le_of_ble_eq_true rfl) (by omega) (hM 0 _ rfl) rfl rfl (ct_M_noneT (d := d) hn hM hc) (af fun n1 ν hq => ?_)
  obtain ⟨hn1, hM, hf⟩ := hq
  subst n1
  have hM : ML ν (mmL G c 0 true tl l.length (lN w) (lN ct) bw bk me cl mt ts pit pat psz) := hM
  have hF := frT hf hF
  refine ev_if_eq d_M_worth_4 (fun c_4 => ?_) (fun c_4 => ?_)
  ·
    have c_4 := b2_f c_4
    refine ev_aload_n d_M_worth_9 rfl rfl ?_
    refine ev_iload_n d_M_worth_10 rfl rfl ?_
    refine ev_i2l d_M_worth_11 ?_
    refine ev_topl (w := (lN (wh))) (nI_l (by omega)) ?_
    refine ev_lconst (v := lN 0) d_M_worth_12 (by decide) ?_
    refine ev_lconst (v := lN 1) d_M_worth_13 (by decide) ?_
    refine cs (mc' := 0) (ms' := 0) (k' := k_M_isIn) (As := [.long (lN (wh)), .long (lN (0)), .long (lN (1))]) (stk := [.ref (G.1 + 20)]) d_M_worth_14 ml_M_91 kk_M_isIn rfl rfl (Nat.le_of_ble_eq_true rfl) (ct_M_isInV (d := d) (LZ_n (by omega)) (LZ_n (by omega)) (LZ_n (by omega))) (rd ?_)
    refine ev_if_eq d_M_worth_17 (fun c_17 => ?_) (fun c_17 => ?_)
    ·
      have c_17 := b2_f c_17
      exfalso; rw [decide_eq_false_iff_not] at c_17; omega
    ·
      have c_17 := b2_t c_17
      refine ev_iconst (v := (nI (0))) d_M_worth_20 (by decide) ?_
      refine ev_goto d_M_worth_21 ?_
      refine ev_putM (kf := 0) d_M_worth_25 fl_M_76 (by decide) rfl rfl rfl rfl (by omega) hM rfl (Nat.le_of_ble_eq_true rfl) (fun ν hM hf => ?_)
      have hM : ML ν (mmL G c 0 true tl l.length (lN w) (lN ct) bw bk me cl mt ts pit pat psz) := hM
      have hF := frT hf hF
      refine ev_aload_n d_M_worth_28 rfl rfl ?_
      refine ev_getf (kf := 0) (T := F_M) (C := R_M) (N := 30) (v := .int (nI (0))) d_M_worth_29 fl_M_76 rfl i_M (by decide) (by omega) (hM 0 _ rfl) rfl ?_
      refine ev_if_le d_M_worth_32 (fun c_32 => ?_) (fun c_32 => ?_)
      ·
        skip
        refine ev_iload_n d_M_worth_39 rfl rfl ?_
        refine ev_if_ne d_M_worth_40 (fun c_40 => ?_) (fun c_40 => ?_)
        ·
          have c_40 : ¬ wh = 0 := fun q => c_40 (by rw [q]; rfl)
          refine ev_aload_n d_M_worth_50 rfl rfl ?_
          refine ev_getf (kf := 29) (T := F_M) (C := R_M) (N := 30) (v := .long (lN ct)) d_M_worth_51 fl_M_172 rfl i_M (by decide) (by omega) (hM 0 _ rfl) rfl ?_
          refine ev_lreturn d_M_worth_54 rfl ?_
          rw [if_neg c_40]
          exact ⟨rfl, rfl, hM, hF⟩
        ·
          have c_40 : wh = 0 := (nI_eq (b := 0) (by omega) (by omega)).mp c_40
          refine ev_aload_n d_M_worth_43 rfl rfl ?_
          refine ev_getf (kf := 28) (T := F_M) (C := R_M) (N := 30) (v := .long (lN w)) d_M_worth_44 fl_M_168 rfl i_M (by decide) (by omega) (hM 0 _ rfl) rfl ?_
          refine ev_goto d_M_worth_47 ?_
          refine ev_lreturn d_M_worth_54 rfl ?_
          rw [if_pos c_40]
          exact ⟨rfl, rfl, hM, hF⟩
      ·
        skip
        exact absurd (by decide) c_32
  ·
    have c_4 := b2_t c_4
    cases c_4
theorem ct_M_worth_no2 {a : Int} (ha1 : -2147483648 ≤ a) (ha2 : a < 2147483648) (hno : ¬ (0 ≤ a ∧ a ≤ 1)) (hn : 41 ≤ n) (hM : ML μ (mmL G c cd true tl l.length (lN w) (lN ct) bw bk me cl mt ts pit pat psz)) (hc : CfOK c) : Ct G k_M_worth (d + 1) 0 0 [.ref (G.1 + 20), .int (iI a)] n μ (MU G n μ (some (.long (lN 0))) (mmL G c 2 true tl l.length (lN w) (lN ct) bw bk me cl mt ts pit pat psz)) := by
  obtain ⟨⟨hst1, hst2⟩, hfr, hpn, hpp, hmn, hwd, hnd, hpu, hnr, hbr, hle, hdef⟩ := id hc
  have hF : FrM μ μ := fun t _ => rfl
  refine Ct.ofp (r := 0) (ls := [some (.ref (G.1 + 20)), some (.int (iI (a)))]) rfl (Nat.le_of_ble_eq_true rfl) ?_
  refine ev_aload_n d_M_worth_0 rfl rfl ?_
  refine cv (mc' := 0) (ms' := 0) (k' := k_M_none) (As := []) (stk := []) d_M_worth_1 ml_M_184 kk_M_none rfl rfl (Nat.le_of_ble_eq_true rfl) (by omega) (hM 0 _ rfl) rfl rfl (ct_M_noneT (d := d) hn hM hc) (af fun n1 ν hq => ?_)
  obtain ⟨hn1, hM, hf⟩ := hq
  subst n1
  have hM : ML ν (mmL G c 0 true tl l.length (lN w) (lN ct) bw bk me cl mt ts pit pat psz) := hM
  have hF := frT hf hF
  refine ev_if_eq d_M_worth_4 (fun c_4 => ?_) (fun c_4 => ?_)
  ·
    have c_4 := b2_f c_4
    refine ev_aload_n d_M_worth_9 rfl rfl ?_
    refine ev_iload_n d_M_worth_10 rfl rfl ?_
    refine ev_i2l d_M_worth_11 ?_
    refine ev_lconst (v := lN 0) d_M_worth_12 (by decide) ?_
    refine ev_lconst (v := lN 1) d_M_worth_13 (by decide) ?_
    refine cs (mc' := 0) (ms' := 0) (k' := k_M_isIn) (As := [.long (((iI (a))).toInt64), .long (lN (0)), .long (lN (1))]) (stk := [.ref (G.1 + 20)]) d_M_worth_14 ml_M_91 kk_M_isIn rfl rfl (Nat.le_of_ble_eq_true rfl) (ct_M_isInV (d := d) (LZ_z (by omega) (by omega)) (LZ_n (by omega)) (LZ_n (by omega))) (rd ?_)
    refine ev_if_eq d_M_worth_17 (fun c_17 => ?_) (fun c_17 => ?_)
    ·
      have c_17 := b2_f c_17
      refine ev_iconst (v := (nI (2))) d_M_worth_24 (by decide) ?_
      refine ev_putM (kf := 0) d_M_worth_25 fl_M_76 (by decide) rfl rfl rfl rfl (by omega) hM rfl (Nat.le_of_ble_eq_true rfl) (fun ν hM hf => ?_)
      have hM : ML ν (mmL G c 2 true tl l.length (lN w) (lN ct) bw bk me cl mt ts pit pat psz) := hM
      have hF := frT hf hF
      refine ev_aload_n d_M_worth_28 rfl rfl ?_
      refine ev_getf (kf := 0) (T := F_M) (C := R_M) (N := 30) (v := .int (nI (2))) d_M_worth_29 fl_M_76 rfl i_M (by decide) (by omega) (hM 0 _ rfl) rfl ?_
      refine ev_if_le d_M_worth_32 (fun c_32 => ?_) (fun c_32 => ?_)
      ·
        skip
        exact absurd c_32 (by decide)
      ·
        skip
        refine ev_lconst (v := lN 0) d_M_worth_35 (by decide) ?_
        refine ev_goto d_M_worth_36 ?_
        refine ev_lreturn d_M_worth_54 rfl ?_
        exact ⟨rfl, rfl, hM, hF⟩
    ·
      have c_17 := b2_t c_17
      exact absurd (of_decide_eq_true c_17) hno
  ·
    have c_4 := b2_t c_4
    cases c_4
theorem ct_M_beginsTop {p : Nat} (hpl : p < l.length) (hK : PcOK c l) (hP : MPc c l pit pat psz) (hn : 41 ≤ n) (hM : ML μ (mmL G c cd hp tl pc pw pn bw bk me cl mt ts pit pat psz)) (hc : CfOK c) : Ct G k_M_beginsTop d 0 0 [.ref (G.1 + 20), .int (nI p)] n μ (Rd (some (.int (b2 (bgB c l p)))) n μ) := by
  obtain ⟨⟨hst1, hst2⟩, hfr, hpn, hpp, hmn, hwd, hnd, hpu, hnr, hbr, hle, hdef⟩ := id hc
  obtain ⟨hk1, hk2⟩ := id hK
  have hkk := hk2 p hpl
  have hpp1 := hP p hpl
  refine Ct.ofp (r := 0) (ls := [some (.ref (G.1 + 20)), some (.int (nI (p)))]) rfl (Nat.le_of_ble_eq_true rfl) ?_
  refine ev_iload_n d_M_beginsTop_0 rfl rfl ?_
  refine ev_if_eq d_M_beginsTop_1 (fun c_1 => ?_) (fun c_1 => ?_)
  ·
    have c_1 : p = 0 := (nI_eq (b := 0) (by omega) (by omega)).mp c_1
    refine ev_iconst (v := (nI (1))) d_M_beginsTop_30 (by decide) ?_
    refine ev_goto d_M_beginsTop_31 ?_
    refine ev_ireturn d_M_beginsTop_35 rfl rfl ?_
    exact ret1 (by unfold bgB; simp; omega)
  ·
    have c_1 : ¬ p = 0 := fun q => c_1 (by rw [q]; rfl)
    have hkq := hk2 (p - 1) (by omega)
    have hwq := wdt_le hc hK (show p - 1 < l.length by omega)
    have hpq := hP (p - 1) (by omega)
    refine ev_aload_n d_M_beginsTop_4 rfl rfl ?_
    refine ev_getf (kf := 26) (T := F_M) (C := R_M) (N := 30) (v := .ref (G.1 + 38)) d_M_beginsTop_5 fl_M_63 rfl i_M (by decide) (by omega) (hM 0 _ rfl) rfl ?_
    refine ev_iload_n d_M_beginsTop_8 rfl rfl ?_
    refine ev_iconst (v := (nI (1))) d_M_beginsTop_9 (by decide) ?_
    refine ev_isub d_M_beginsTop_10 ?_
    refine ev_topi (w := (nI (p - 1))) (by rw [nI_iI, nI_iI, iI_sub, nI_iI]; congr 1; omega) ?_
    refine ev_iald (j := p - 1) d_M_beginsTop_11 (by omega) (hM 18 _ rfl) (by omega) (by decide) ?_
    refine ev_topi (w := nI (gN l (p - 1)).2) hpq.2.1 ?_
    refine ev_aload_n d_M_beginsTop_12 rfl rfl ?_
    refine ev_getf (kf := 27) (T := F_M) (C := R_M) (N := 30) (v := .ref (G.1 + 39)) d_M_beginsTop_13 fl_M_66 rfl i_M (by decide) (by omega) (hM 0 _ rfl) rfl ?_
    refine ev_iload_n d_M_beginsTop_16 rfl rfl ?_
    refine ev_iconst (v := (nI (1))) d_M_beginsTop_17 (by decide) ?_
    refine ev_isub d_M_beginsTop_18 ?_
    refine ev_topi (w := (nI (p - 1))) (by rw [nI_iI, nI_iI, iI_sub, nI_iI]; congr 1; omega) ?_
    refine ev_iald (j := p - 1) d_M_beginsTop_19 (by omega) (hM 19 _ rfl) (by omega) (by decide) ?_
    refine ev_topi (w := nI (wdt c (gN l (p - 1)))) hpq.2.2 ?_
    refine ev_iadd d_M_beginsTop_20 ?_
    refine ev_topi (w := (nI (((gN l (p - 1)).2) + (wdt c (gN l (p - 1)))))) (nI_add _ _) ?_
    refine ev_aload_n d_M_beginsTop_21 rfl rfl ?_
    refine ev_getf (kf := 26) (T := F_M) (C := R_M) (N := 30) (v := .ref (G.1 + 38)) d_M_beginsTop_22 fl_M_63 rfl i_M (by decide) (by omega) (hM 0 _ rfl) rfl ?_
    refine ev_iload_n d_M_beginsTop_25 rfl rfl ?_
    refine ev_iald (j := p) d_M_beginsTop_26 (by omega) (hM 18 _ rfl) (by omega) (by decide) ?_
    refine ev_topi (w := nI (gN l p).2) hpp1.2.1 ?_
    refine ev_icmp_eq d_M_beginsTop_27 (fun c_27 => ?_) (fun c_27 => ?_)
    ·
      simp (disch := omega) only [nI_ltI, nI_leI, nI_eq, Nat.not_lt, Nat.not_le] at c_27
      refine ev_iconst (v := (nI (0))) d_M_beginsTop_34 (by decide) ?_
      refine ev_ireturn d_M_beginsTop_35 rfl rfl ?_
      exact ret0 (by unfold bgB; simp; omega)
    ·
      simp (disch := omega) only [nI_ltI, nI_leI, nI_eq, Nat.not_lt, Nat.not_le] at c_27
      refine ev_iconst (v := (nI (1))) d_M_beginsTop_30 (by decide) ?_
      refine ev_goto d_M_beginsTop_31 ?_
      refine ev_ireturn d_M_beginsTop_35 rfl rfl ?_
      exact ret1 (by unfold bgB; simp; omega)
theorem lp_M_top {Q : Oc → Nat → Mem → Prop} {ν : Mem} {z wh : Int} (hz1 : -2147483648 ≤ z) (hz2 : z < 2147483648) (hK : PcOK c l) (hP : MPc c l pit pat psz) (hn : 41 ≤ n) (hc : CfOK c) (hM : ML ν (mmL G c 0 true tl l.length (lN w) (lN ct) bw bk me cl mt ts pit pat psz)) (hK2 : Ev G k_M_top (d + 1) 0 0 90 [some (.ref (G.1 + 20)), some (.int (iI (z))), some (.int (iI (wh))), some (.int (nI (tpN c l l.length))), some (.int (iI (bgM c l z l.length))), some (.int (nI (szN c l z l.length))), some (.int (nI (l.length)))] [] n ν Q) : ∀ (m p : Nat), p ≤ l.length → l.length < p + m → Ev G k_M_top (d + 1) 0 0 20 [some (.ref (G.1 + 20)), some (.int (iI (z))), some (.int (iI (wh))), some (.int (nI (tpN c l p))), some (.int (iI (bgM c l z p))), some (.int (nI (szN c l z p))), some (.int (nI (p)))] [] n ν Q := by
  obtain ⟨⟨hst1, hst2⟩, hfr, hpn, hpp, hmn, hwd, hnd, hpu, hnr, hbr, hle, hdef⟩ := id hc
  obtain ⟨hk1, hk2⟩ := id hK
  intro m
  induction m with
  | zero =>
    intro p h1 h2
    exact absurd h2 (by omega)
  | succ m ih =>
    intro p hp hpm
    have htp := tpN_le c l p
    have htp3 := tpN_le c l (p + 1)
    have hfz := bgM_bd hK z p hp
    have hsz := szN_bd hc hK z p hp
    refine ev_iload d_M_top_20 rfl ?_
    refine ev_aload_n d_M_top_22 rfl rfl ?_
    refine ev_getf (kf := 24) (T := F_M) (C := R_M) (N := 30) (v := .int (nI (l.length))) d_M_top_23 fl_M_149 rfl i_M (by decide) (by omega) (hM 0 _ rfl) rfl ?_
    refine ev_icmp_ge d_M_top_26 (fun c_26 => ?_) (fun c_26 => ?_)
    ·
      simp (disch := omega) only [nI_ltI, nI_leI, nI_eq, Nat.not_lt, Nat.not_le] at c_26
      have hp2 : p = l.length := by omega
      subst hp2
      exact hK2
    ·
      simp (disch := omega) only [nI_ltI, nI_leI, nI_eq, Nat.not_lt, Nat.not_le] at c_26
      have hkp := hk2 p c_26
      have hwp := wdt_le hc hK c_26
      have hpp1 := hP p c_26
      have hJ82 : ∀ q : Nat, q = szN c l z (p + 1) → Ev G k_M_top (d + 1) 0 0 82 [some (.ref (G.1 + 20)), some (.int (iI (z))), some (.int (iI (wh))), some (.int (nI (tpN c l (p + 1)))), some (.int (iI (bgM c l z (p + 1)))), some (.int (nI (szN c l z p))), some (.int (nI (p)))] [.int (nI q)] n ν Q := by
        intro q hq
        refine ev_istore (ls' := [_, _, _, _, _, _, _]) d_M_top_82 (by decide) rfl rfl ?_
        refine ev_iinc (v := (nI (p + 1))) (ls' := [_, _, _, _, _, _, _]) d_M_top_84 rfl (nI_1 _) (by decide) rfl rfl ?_
        refine ev_goto d_M_top_87 ?_
        subst hq
        exact ih (p + 1) (by omega) (by omega)
      have hJ60 : Ev G k_M_top (d + 1) 0 0 60 [some (.ref (G.1 + 20)), some (.int (iI (z))), some (.int (iI (wh))), some (.int (nI (tpN c l (p + 1)))), some (.int (iI (bgM c l z (p + 1)))), some (.int (nI (szN c l z p))), some (.int (nI (p)))] [] n ν Q := by
        refine ev_iload_n d_M_top_60 rfl rfl ?_
        refine ev_iconst (v := (nI (1))) d_M_top_61 (by decide) ?_
        refine ev_isub d_M_top_62 ?_
        refine ev_topi (w := (iI ((tpN c l (p + 1) : Int) - (1 : Int)))) (by (try simp only [nI_iI, iI_add, iI_sub, iI_mul]); (try rfl)) ?_
        refine ev_iload_n d_M_top_63 rfl rfl ?_
        refine ev_icmp_ne d_M_top_64 (fun c_64 => ?_) (fun c_64 => ?_)
        ·
          simp (disch := omega) only [nI_iI, iI_ltI, iI_leI, iI_eq, Int.not_lt, Int.not_le] at c_64
          refine ev_iload d_M_top_80 rfl ?_
          exact hJ82 _ (by simp only [szN]; rw [if_neg c_64])
        ·
          simp (disch := omega) only [nI_iI, iI_ltI, iI_leI, iI_eq, Int.not_lt, Int.not_le] at c_64
          refine ev_iload d_M_top_67 rfl ?_
          refine ev_aload_n d_M_top_69 rfl rfl ?_
          refine ev_getf (kf := 27) (T := F_M) (C := R_M) (N := 30) (v := .ref (G.1 + 39)) d_M_top_70 fl_M_66 rfl i_M (by decide) (by omega) (hM 0 _ rfl) rfl ?_
          refine ev_iload d_M_top_73 rfl ?_
          refine ev_iald (j := p) d_M_top_75 (by omega) (hM 19 _ rfl) (by omega) (by decide) ?_
          refine ev_topi (w := nI (wdt c (gN l p))) hpp1.2.2 ?_
          refine ev_iadd d_M_top_76 ?_
          refine ev_topi (w := (nI ((szN c l z p) + (wdt c (gN l p))))) (nI_add _ _) ?_
          refine ev_goto d_M_top_77 ?_
          exact hJ82 _ (by simp only [szN]; rw [if_pos c_64])
      refine ev_aload_n d_M_top_29 rfl rfl ?_
      refine ev_iload d_M_top_30 rfl ?_
      refine cv (mc' := 0) (ms' := 0) (k' := k_M_beginsTop) (As := [.int (nI (p))]) (stk := []) d_M_top_32 ml_M_190 kk_M_beginsTop rfl rfl (Nat.le_of_ble_eq_true rfl) (by omega) (hM 0 _ rfl) rfl rfl (ct_M_beginsTop (d := d) c_26 hK hP hn hM hc) (rd ?_)
      refine ev_if_eq d_M_top_35 (fun c_35 => ?_) (fun c_35 => ?_)
      ·
        have c_35 := b2_f c_35
        have e1 : tpN c l (p + 1) = tpN c l p := by simp only [tpN]; rw [if_neg (by rw [c_35]; decide)]; rfl
        have e2 : bgM c l z (p + 1) = bgM c l z p := by simp only [bgM]; rw [if_neg (by rw [c_35]; decide)]
        rw [e1, e2] at hJ60
        exact hJ60
      ·
        have c_35 := b2_t c_35
        refine ev_iload_n d_M_top_38 rfl rfl ?_
        refine ev_iload_n d_M_top_39 rfl rfl ?_
        refine ev_icmp_ne d_M_top_40 (fun c_40 => ?_) (fun c_40 => ?_)
        ·
          simp (disch := omega) only [nI_iI, iI_ltI, iI_leI, iI_eq, Int.not_lt, Int.not_le] at c_40
          refine ev_iload d_M_top_53 rfl ?_
          refine ev_istore (ls' := [_, _, _, _, _, _, _]) d_M_top_55 (by decide) rfl rfl ?_
          refine ev_iinc (v := (nI (tpN c l p + 1))) (ls' := [_, _, _, _, _, _, _]) d_M_top_57 rfl (nI_1 _) (by decide) rfl rfl ?_
          have e1 : tpN c l (p + 1) = tpN c l p + 1 := by simp only [tpN]; rw [if_pos c_35]
          have e2 : bgM c l z (p + 1) = bgM c l z p := by simp only [bgM]; rw [if_pos c_35, if_neg c_40]
          rw [e1, e2] at hJ60
          exact hJ60
        ·
          simp (disch := omega) only [nI_iI, iI_ltI, iI_leI, iI_eq, Int.not_lt, Int.not_le] at c_40
          refine ev_aload_n d_M_top_43 rfl rfl ?_
          refine ev_getf (kf := 26) (T := F_M) (C := R_M) (N := 30) (v := .ref (G.1 + 38)) d_M_top_44 fl_M_63 rfl i_M (by decide) (by omega) (hM 0 _ rfl) rfl ?_
          refine ev_iload d_M_top_47 rfl ?_
          refine ev_iald (j := p) d_M_top_49 (by omega) (hM 18 _ rfl) (by omega) (by decide) ?_
          refine ev_topi (w := nI (gN l p).2) hpp1.2.1 ?_
          refine ev_goto d_M_top_50 ?_
          refine ev_istore (ls' := [_, _, _, _, _, _, _]) d_M_top_55 (by decide) rfl rfl ?_
          refine ev_iinc (v := (nI (tpN c l p + 1))) (ls' := [_, _, _, _, _, _, _]) d_M_top_57 rfl (nI_1 _) (by decide) rfl rfl ?_
          have e1 : tpN c l (p + 1) = tpN c l p + 1 := by simp only [tpN]; rw [if_pos c_35]
          have e2 : bgM c l z (p + 1) = ((gN l p).2 : Int) := by simp only [bgM]; rw [if_pos c_35, if_pos c_40]
          rw [e1, e2] at hJ60
          rw [nI_iI (gN l p).2]
          exact hJ60
theorem ct_M_top_ok {z wh : Int} (hz1 : -2147483648 ≤ z) (hz2 : z < 2147483648) (hwh1 : -2147483648 ≤ wh) (hwh2 : wh < 2147483648) (hok : z = -1 ∨ frZ c l z l.length ≠ -1) (hw0 : 0 ≤ wh) (hw1 : wh ≤ 1) (hK : PcOK c l) (hP : MPc c l pit pat psz) (hn : 41 ≤ n) (hM : ML μ (mmL G c cd true tl l.length (lN w) (lN ct) bw bk me cl mt ts pit pat psz)) (hc : CfOK c) : Ct G k_M_top (d + 1) 0 0 [.ref (G.1 + 20), .int (iI z), .int (iI wh)] n μ (MU G n μ (some (.int (iI (if z = -1 then (tpN c l l.length : Int) else if wh = 0 then frZ c l z l.length else (szN c l z l.length : Int))))) (mmL G c 0 true tl l.length (lN w) (lN ct) bw bk me cl mt ts pit pat psz)) := by
  obtain ⟨⟨hst1, hst2⟩, hfr, hpn, hpp, hmn, hwd, hnd, hpu, hnr, hbr, hle, hdef⟩ := id hc
  have hF : FrM μ μ := fun t _ => rfl
  have htp := tpN_le c l l.length
  have hk1 := hK.1
  have hbz := bgM_bd hK z l.length (Nat.le_refl _)
  have hsz := szN_bd hc hK z l.length (Nat.le_refl _)
  obtain ⟨t1, t2, t3⟩ := top_rel c l z l.length
  refine Ct.ofp (r := 4) (ls := [some (.ref (G.1 + 20)), some (.int (iI (z))), some (.int (iI (wh))), none, none, none, none]) rfl (Nat.le_of_ble_eq_true rfl) ?_
  refine ev_aload_n d_M_top_0 rfl rfl ?_
  refine cv (mc' := 0) (ms' := 0) (k' := k_M_none) (As := []) (stk := []) d_M_top_1 ml_M_184 kk_M_none rfl rfl (Nat.le_of_ble_eq_true rfl) (by omega) (hM 0 _ rfl) rfl rfl (ct_M_noneT (d := d) hn hM hc) (af fun n1 ν hq => ?_)
  obtain ⟨hn1, hM, hf⟩ := hq
  subst n1
  have hM : ML ν (mmL G c 0 true tl l.length (lN w) (lN ct) bw bk me cl mt ts pit pat psz) := hM
  have hF := frT hf hF
  refine ev_if_eq d_M_top_4 (fun c_4 => ?_) (fun c_4 => ?_)
  ·
    have c_4 := b2_f c_4
    refine ev_iconst (v := (nI (0))) d_M_top_9 (by decide) ?_
    refine ev_istore_n (ls' := [_, _, _, _, none, none, none]) d_M_top_10 rfl (by decide) rfl rfl ?_
    refine ev_iconst (v := (nI (0))) d_M_top_11 (by decide) ?_
    refine ev_istore (ls' := [_, _, _, _, _, none, none]) d_M_top_12 (by decide) rfl rfl ?_
    refine ev_iconst (v := (nI (0))) d_M_top_14 (by decide) ?_
    refine ev_istore (ls' := [_, _, _, _, _, _, none]) d_M_top_15 (by decide) rfl rfl ?_
    refine ev_iconst (v := (nI (0))) d_M_top_17 (by decide) ?_
    refine ev_istore (ls' := [_, _, _, _, _, _, _]) d_M_top_18 (by decide) rfl rfl ?_
    refine lp_M_top hz1 hz2 hK hP hn hc hM ?_ (l.length + 1) 0 (by omega) (by omega)
    have hz9 : -1 ≤ z ∧ z < tpN c l l.length := by
      rcases hok with q | q
      · omega
      · rcases Int.lt_or_le z 0 with h | h
        · exact absurd (t1 h) q
        · rcases Int.lt_or_le z (tpN c l l.length) with h2 | h2
          · omega
          · exact absurd (t3 h2) q
    refine ev_aload_n d_M_top_90 rfl rfl ?_
    refine ev_iload_n d_M_top_91 rfl rfl ?_
    refine ev_iconst (v := (iI ((-1)))) d_M_top_92 (by decide) ?_
    refine ev_icmp_lt d_M_top_93 (fun c_93 => ?_) (fun c_93 => ?_)
    ·
      simp (disch := omega) only [nI_iI, iI_ltI, iI_leI, iI_eq, Int.not_lt, Int.not_le] at c_93
      omega
    ·
      simp (disch := omega) only [nI_iI, iI_ltI, iI_leI, iI_eq, Int.not_lt, Int.not_le] at c_93
      refine ev_iload_n d_M_top_96 rfl rfl ?_
      refine ev_iload_n d_M_top_97 rfl rfl ?_
      refine ev_icmp_lt d_M_top_98 (fun c_98 => ?_) (fun c_98 => ?_)
      ·
        simp (disch := omega) only [nI_iI, iI_ltI, iI_leI, iI_eq, Int.not_lt, Int.not_le] at c_98
        refine ev_iload_n d_M_top_105 rfl rfl ?_
        refine ev_i2l d_M_top_106 ?_
        refine ev_lconst (v := lN 0) d_M_top_107 (by decide) ?_
        refine ev_lconst (v := lN 1) d_M_top_108 (by decide) ?_
        refine cs (mc' := 0) (ms' := 0) (k' := k_M_isIn) (As := [.long (((iI (wh))).toInt64), .long (lN (0)), .long (lN (1))]) (stk := [.ref (G.1 + 20)]) d_M_top_109 ml_M_91 kk_M_isIn rfl rfl (Nat.le_of_ble_eq_true rfl) (ct_M_isInV (d := d) (LZ_z (by omega) (by omega)) (LZ_n (by omega)) (LZ_n (by omega))) (rd ?_)
        refine ev_if_eq d_M_top_112 (fun c_112 => ?_) (fun c_112 => ?_)
        ·
          have c_112 := b2_f c_112
          exfalso; rw [decide_eq_false_iff_not] at c_112; omega
        ·
          have c_112 := b2_t c_112
          refine ev_iconst (v := (nI (0))) d_M_top_115 (by decide) ?_
          refine ev_goto d_M_top_116 ?_
          refine ev_putM (kf := 0) d_M_top_120 fl_M_76 (by decide) rfl rfl rfl rfl (by omega) hM rfl (Nat.le_of_ble_eq_true rfl) (fun ν hM hf => ?_)
          have hM : ML ν (mmL G c 0 true tl l.length (lN w) (lN ct) bw bk me cl mt ts pit pat psz) := hM
          have hF := frT hf hF
          refine ev_aload_n d_M_top_123 rfl rfl ?_
          refine ev_getf (kf := 0) (T := F_M) (C := R_M) (N := 30) (v := .int (nI (0))) d_M_top_124 fl_M_76 rfl i_M (by decide) (by omega) (hM 0 _ rfl) rfl ?_
          refine ev_if_le d_M_top_127 (fun c_127 => ?_) (fun c_127 => ?_)
          ·
            skip
            refine ev_iload_n d_M_top_132 rfl rfl ?_
            refine ev_iconst (v := (iI ((-1)))) d_M_top_133 (by decide) ?_
            refine ev_icmp_ne d_M_top_134 (fun c_134 => ?_) (fun c_134 => ?_)
            ·
              simp (disch := omega) only [nI_iI, iI_ltI, iI_leI, iI_eq, Int.not_lt, Int.not_le] at c_134
              refine ev_iload_n d_M_top_141 rfl rfl ?_
              refine ev_if_ne d_M_top_142 (fun c_142 => ?_) (fun c_142 => ?_)
              ·
                have c_142 : ¬ wh = 0 := fun q => c_142 (by rw [q]; rfl)
                refine ev_iload d_M_top_150 rfl ?_
                refine ev_ireturn d_M_top_152 rfl rfl ?_
                rw [if_neg c_134, if_neg c_142, ← nI_iI]
                exact ⟨rfl, rfl, hM, hF⟩
              ·
                have c_142 : wh = 0 := (iI_eq (b := 0) (by omega) (by omega) (by omega) (by omega)).mp c_142
                refine ev_iload d_M_top_145 rfl ?_
                refine ev_goto d_M_top_147 ?_
                refine ev_ireturn d_M_top_152 rfl rfl ?_
                rw [if_neg c_134, if_pos c_142, (t2 (by omega) (by omega)).1]
                exact ⟨rfl, rfl, hM, hF⟩
            ·
              simp (disch := omega) only [nI_iI, iI_ltI, iI_leI, iI_eq, Int.not_lt, Int.not_le] at c_134
              refine ev_iload_n d_M_top_137 rfl rfl ?_
              refine ev_goto d_M_top_138 ?_
              refine ev_ireturn d_M_top_152 rfl rfl ?_
              rw [if_pos c_134, ← nI_iI]
              exact ⟨rfl, rfl, hM, hF⟩
          ·
            skip
            exact absurd (by decide) c_127
      ·
        simp (disch := omega) only [nI_iI, iI_ltI, iI_leI, iI_eq, Int.not_lt, Int.not_le] at c_98
        omega
  ·
    have c_4 := b2_t c_4
    cases c_4
theorem ct_M_top_no2 {z wh : Int} (hz1 : -2147483648 ≤ z) (hz2 : z < 2147483648) (hwh1 : -2147483648 ≤ wh) (hwh2 : wh < 2147483648) (hno : ¬ (z = -1 ∨ frZ c l z l.length ≠ -1)) (hK : PcOK c l) (hP : MPc c l pit pat psz) (hn : 41 ≤ n) (hM : ML μ (mmL G c cd true tl l.length (lN w) (lN ct) bw bk me cl mt ts pit pat psz)) (hc : CfOK c) : Ct G k_M_top (d + 1) 0 0 [.ref (G.1 + 20), .int (iI z), .int (iI wh)] n μ (MU G n μ (some (.int (nI 0))) (mmL G c 2 true tl l.length (lN w) (lN ct) bw bk me cl mt ts pit pat psz)) := by
  obtain ⟨⟨hst1, hst2⟩, hfr, hpn, hpp, hmn, hwd, hnd, hpu, hnr, hbr, hle, hdef⟩ := id hc
  have hF : FrM μ μ := fun t _ => rfl
  have htp := tpN_le c l l.length
  have hk1 := hK.1
  have hbz := bgM_bd hK z l.length (Nat.le_refl _)
  have hsz := szN_bd hc hK z l.length (Nat.le_refl _)
  obtain ⟨t1, t2, t3⟩ := top_rel c l z l.length
  refine Ct.ofp (r := 4) (ls := [some (.ref (G.1 + 20)), some (.int (iI (z))), some (.int (iI (wh))), none, none, none, none]) rfl (Nat.le_of_ble_eq_true rfl) ?_
  refine ev_aload_n d_M_top_0 rfl rfl ?_
  refine cv (mc' := 0) (ms' := 0) (k' := k_M_none) (As := []) (stk := []) d_M_top_1 ml_M_184 kk_M_none rfl rfl (Nat.le_of_ble_eq_true rfl) (by omega) (hM 0 _ rfl) rfl rfl (ct_M_noneT (d := d) hn hM hc) (af fun n1 ν hq => ?_)
  obtain ⟨hn1, hM, hf⟩ := hq
  subst n1
  have hM : ML ν (mmL G c 0 true tl l.length (lN w) (lN ct) bw bk me cl mt ts pit pat psz) := hM
  have hF := frT hf hF
  refine ev_if_eq d_M_top_4 (fun c_4 => ?_) (fun c_4 => ?_)
  ·
    have c_4 := b2_f c_4
    refine ev_iconst (v := (nI (0))) d_M_top_9 (by decide) ?_
    refine ev_istore_n (ls' := [_, _, _, _, none, none, none]) d_M_top_10 rfl (by decide) rfl rfl ?_
    refine ev_iconst (v := (nI (0))) d_M_top_11 (by decide) ?_
    refine ev_istore (ls' := [_, _, _, _, _, none, none]) d_M_top_12 (by decide) rfl rfl ?_
    refine ev_iconst (v := (nI (0))) d_M_top_14 (by decide) ?_
    refine ev_istore (ls' := [_, _, _, _, _, _, none]) d_M_top_15 (by decide) rfl rfl ?_
    refine ev_iconst (v := (nI (0))) d_M_top_17 (by decide) ?_
    refine ev_istore (ls' := [_, _, _, _, _, _, _]) d_M_top_18 (by decide) rfl rfl ?_
    refine lp_M_top hz1 hz2 hK hP hn hc hM ?_ (l.length + 1) 0 (by omega) (by omega)
    have hz9 : z < -1 ∨ tpN c l l.length ≤ z := by
      rcases Int.lt_or_le z (-1) with h | h
      · exact Or.inl h
      · right
        rcases Int.lt_or_le z (tpN c l l.length) with h2 | h2
        · exact absurd (by by_cases q : z = -1; exact Or.inl q; exact Or.inr (t2 (by omega) h2).2) hno
        · exact h2
    refine ev_aload_n d_M_top_90 rfl rfl ?_
    refine ev_iload_n d_M_top_91 rfl rfl ?_
    refine ev_iconst (v := (iI ((-1)))) d_M_top_92 (by decide) ?_
    refine ev_icmp_lt d_M_top_93 (fun c_93 => ?_) (fun c_93 => ?_)
    ·
      simp (disch := omega) only [nI_iI, iI_ltI, iI_leI, iI_eq, Int.not_lt, Int.not_le] at c_93
      refine ev_iconst (v := (nI (2))) d_M_top_101 (by decide) ?_
      refine ev_goto d_M_top_102 ?_
      refine ev_putM (kf := 0) d_M_top_120 fl_M_76 (by decide) rfl rfl rfl rfl (by omega) hM rfl (Nat.le_of_ble_eq_true rfl) (fun ν hM hf => ?_)
      have hM : ML ν (mmL G c 2 true tl l.length (lN w) (lN ct) bw bk me cl mt ts pit pat psz) := hM
      have hF := frT hf hF
      refine ev_aload_n d_M_top_123 rfl rfl ?_
      refine ev_getf (kf := 0) (T := F_M) (C := R_M) (N := 30) (v := .int (nI (2))) d_M_top_124 fl_M_76 rfl i_M (by decide) (by omega) (hM 0 _ rfl) rfl ?_
      refine ev_if_le d_M_top_127 (fun c_127 => ?_) (fun c_127 => ?_)
      ·
        skip
        exact absurd c_127 (by decide)
      ·
        skip
        refine ev_iconst (v := (nI (0))) d_M_top_130 (by decide) ?_
        refine ev_ireturn d_M_top_131 rfl rfl ?_
        exact ⟨rfl, rfl, hM, hF⟩
    ·
      simp (disch := omega) only [nI_iI, iI_ltI, iI_leI, iI_eq, Int.not_lt, Int.not_le] at c_93
      refine ev_iload_n d_M_top_96 rfl rfl ?_
      refine ev_iload_n d_M_top_97 rfl rfl ?_
      refine ev_icmp_lt d_M_top_98 (fun c_98 => ?_) (fun c_98 => ?_)
      ·
        simp (disch := omega) only [nI_iI, iI_ltI, iI_leI, iI_eq, Int.not_lt, Int.not_le] at c_98
        omega
      ·
        simp (disch := omega) only [nI_iI, iI_ltI, iI_leI, iI_eq, Int.not_lt, Int.not_le] at c_98
        refine ev_iconst (v := (nI (2))) d_M_top_101 (by decide) ?_
        refine ev_goto d_M_top_102 ?_
        refine ev_putM (kf := 0) d_M_top_120 fl_M_76 (by decide) rfl rfl rfl rfl (by omega) hM rfl (Nat.le_of_ble_eq_true rfl) (fun ν hM hf => ?_)
        have hM : ML ν (mmL G c 2 true tl l.length (lN w) (lN ct) bw bk me cl mt ts pit pat psz) := hM
        have hF := frT hf hF
        refine ev_aload_n d_M_top_123 rfl rfl ?_
        refine ev_getf (kf := 0) (T := F_M) (C := R_M) (N := 30) (v := .int (nI (2))) d_M_top_124 fl_M_76 rfl i_M (by decide) (by omega) (hM 0 _ rfl) rfl ?_
        refine ev_if_le d_M_top_127 (fun c_127 => ?_) (fun c_127 => ?_)
        ·
          skip
          exact absurd c_127 (by decide)
        ·
          skip
          refine ev_iconst (v := (nI (0))) d_M_top_130 (by decide) ?_
          refine ev_ireturn d_M_top_131 rfl rfl ?_
          exact ⟨rfl, rfl, hM, hF⟩
  ·
    have c_4 := b2_t c_4
    cases c_4
theorem ct_M_top_no3 {z wh : Int} (hz1 : -2147483648 ≤ z) (hz2 : z < 2147483648) (hwh1 : -2147483648 ≤ wh) (hwh2 : wh < 2147483648) (hok : z = -1 ∨ frZ c l z l.length ≠ -1) (hno : ¬ (0 ≤ wh ∧ wh ≤ 1)) (hK : PcOK c l) (hP : MPc c l pit pat psz) (hn : 41 ≤ n) (hM : ML μ (mmL G c cd true tl l.length (lN w) (lN ct) bw bk me cl mt ts pit pat psz)) (hc : CfOK c) : Ct G k_M_top (d + 1) 0 0 [.ref (G.1 + 20), .int (iI z), .int (iI wh)] n μ (MU G n μ (some (.int (nI 0))) (mmL G c 3 true tl l.length (lN w) (lN ct) bw bk me cl mt ts pit pat psz)) := by
  obtain ⟨⟨hst1, hst2⟩, hfr, hpn, hpp, hmn, hwd, hnd, hpu, hnr, hbr, hle, hdef⟩ := id hc
  have hF : FrM μ μ := fun t _ => rfl
  have htp := tpN_le c l l.length
  have hk1 := hK.1
  have hbz := bgM_bd hK z l.length (Nat.le_refl _)
  have hsz := szN_bd hc hK z l.length (Nat.le_refl _)
  obtain ⟨t1, t2, t3⟩ := top_rel c l z l.length
  refine Ct.ofp (r := 4) (ls := [some (.ref (G.1 + 20)), some (.int (iI (z))), some (.int (iI (wh))), none, none, none, none]) rfl (Nat.le_of_ble_eq_true rfl) ?_
  refine ev_aload_n d_M_top_0 rfl rfl ?_
  refine cv (mc' := 0) (ms' := 0) (k' := k_M_none) (As := []) (stk := []) d_M_top_1 ml_M_184 kk_M_none rfl rfl (Nat.le_of_ble_eq_true rfl) (by omega) (hM 0 _ rfl) rfl rfl (ct_M_noneT (d := d) hn hM hc) (af fun n1 ν hq => ?_)
  obtain ⟨hn1, hM, hf⟩ := hq
  subst n1
  have hM : ML ν (mmL G c 0 true tl l.length (lN w) (lN ct) bw bk me cl mt ts pit pat psz) := hM
  have hF := frT hf hF
  refine ev_if_eq d_M_top_4 (fun c_4 => ?_) (fun c_4 => ?_)
  ·
    have c_4 := b2_f c_4
    refine ev_iconst (v := (nI (0))) d_M_top_9 (by decide) ?_
    refine ev_istore_n (ls' := [_, _, _, _, none, none, none]) d_M_top_10 rfl (by decide) rfl rfl ?_
    refine ev_iconst (v := (nI (0))) d_M_top_11 (by decide) ?_
    refine ev_istore (ls' := [_, _, _, _, _, none, none]) d_M_top_12 (by decide) rfl rfl ?_
    refine ev_iconst (v := (nI (0))) d_M_top_14 (by decide) ?_
    refine ev_istore (ls' := [_, _, _, _, _, _, none]) d_M_top_15 (by decide) rfl rfl ?_
    refine ev_iconst (v := (nI (0))) d_M_top_17 (by decide) ?_
    refine ev_istore (ls' := [_, _, _, _, _, _, _]) d_M_top_18 (by decide) rfl rfl ?_
    refine lp_M_top hz1 hz2 hK hP hn hc hM ?_ (l.length + 1) 0 (by omega) (by omega)
    have hz9 : -1 ≤ z ∧ z < tpN c l l.length := by
      rcases hok with q | q
      · omega
      · rcases Int.lt_or_le z 0 with h | h
        · exact absurd (t1 h) q
        · rcases Int.lt_or_le z (tpN c l l.length) with h2 | h2
          · omega
          · exact absurd (t3 h2) q
    refine ev_aload_n d_M_top_90 rfl rfl ?_
    refine ev_iload_n d_M_top_91 rfl rfl ?_
    refine ev_iconst (v := (iI ((-1)))) d_M_top_92 (by decide) ?_
    refine ev_icmp_lt d_M_top_93 (fun c_93 => ?_) (fun c_93 => ?_)
    ·
      simp (disch := omega) only [nI_iI, iI_ltI, iI_leI, iI_eq, Int.not_lt, Int.not_le] at c_93
      omega
    ·
      simp (disch := omega) only [nI_iI, iI_ltI, iI_leI, iI_eq, Int.not_lt, Int.not_le] at c_93
      refine ev_iload_n d_M_top_96 rfl rfl ?_
      refine ev_iload_n d_M_top_97 rfl rfl ?_
      refine ev_icmp_lt d_M_top_98 (fun c_98 => ?_) (fun c_98 => ?_)
      ·
        simp (disch := omega) only [nI_iI, iI_ltI, iI_leI, iI_eq, Int.not_lt, Int.not_le] at c_98
        refine ev_iload_n d_M_top_105 rfl rfl ?_
        refine ev_i2l d_M_top_106 ?_
        refine ev_lconst (v := lN 0) d_M_top_107 (by decide) ?_
        refine ev_lconst (v := lN 1) d_M_top_108 (by decide) ?_
        refine cs (mc' := 0) (ms' := 0) (k' := k_M_isIn) (As := [.long (((iI (wh))).toInt64), .long (lN (0)), .long (lN (1))]) (stk := [.ref (G.1 + 20)]) d_M_top_109 ml_M_91 kk_M_isIn rfl rfl (Nat.le_of_ble_eq_true rfl) (ct_M_isInV (d := d) (LZ_z (by omega) (by omega)) (LZ_n (by omega)) (LZ_n (by omega))) (rd ?_)
        refine ev_if_eq d_M_top_112 (fun c_112 => ?_) (fun c_112 => ?_)
        ·
          have c_112 := b2_f c_112
          refine ev_iconst (v := (nI (3))) d_M_top_119 (by decide) ?_
          refine ev_putM (kf := 0) d_M_top_120 fl_M_76 (by decide) rfl rfl rfl rfl (by omega) hM rfl (Nat.le_of_ble_eq_true rfl) (fun ν hM hf => ?_)
          have hM : ML ν (mmL G c 3 true tl l.length (lN w) (lN ct) bw bk me cl mt ts pit pat psz) := hM
          have hF := frT hf hF
          refine ev_aload_n d_M_top_123 rfl rfl ?_
          refine ev_getf (kf := 0) (T := F_M) (C := R_M) (N := 30) (v := .int (nI (3))) d_M_top_124 fl_M_76 rfl i_M (by decide) (by omega) (hM 0 _ rfl) rfl ?_
          refine ev_if_le d_M_top_127 (fun c_127 => ?_) (fun c_127 => ?_)
          ·
            skip
            exact absurd c_127 (by decide)
          ·
            skip
            refine ev_iconst (v := (nI (0))) d_M_top_130 (by decide) ?_
            refine ev_ireturn d_M_top_131 rfl rfl ?_
            exact ⟨rfl, rfl, hM, hF⟩
        ·
          have c_112 := b2_t c_112
          exact absurd (of_decide_eq_true c_112) hno
      ·
        simp (disch := omega) only [nI_iI, iI_ltI, iI_leI, iI_eq, Int.not_lt, Int.not_le] at c_98
        omega
  ·
    have c_4 := b2_t c_4
    cases c_4
end MLK
