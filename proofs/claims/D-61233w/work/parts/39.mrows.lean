/-! ===== rows of the model ===== -/
def prB (P : Nat → Nat → Bool) (m : Nat) : Bool := anyN (fun a => anyN (P a) a) m
def ofB (c : Cf) (s k : Nat) : Bool := c.fr s && covB c k s
def ckM (c : Cf) : Nat := if anyN (beyB c) c.mn then 1 else if prB (shareB c) c.mn then 2 else if anyN (fun s => anyN (ofB c s) c.mn) c.st then 3 else if anyN (misB c) c.mn then 4 else if anyN (unmB c) c.mn then 5 else if prB (fun a b => touchB c a b && c.br a b) c.mn then 6 else if gapB c (c.st + 1) then 7 else 0
theorem sm_pos {f : Nat → Nat} : ∀ m, 0 < sm f m ↔ ∃ k, k < m ∧ 0 < f k
  | 0 => by simp [sm]
  | m + 1 => by
    have ih := sm_pos (f := f) m
    simp only [sm]
    constructor
    · intro h
      by_cases h0 : 0 < f m
      · exact ⟨m, by omega, h0⟩
      · obtain ⟨k, h1, h2⟩ := ih.mp (by omega)
        exact ⟨k, by omega, h2⟩
    · rintro ⟨k, h1, h2⟩
      by_cases e : k = m
      · subst e; omega
      · have := ih.mpr ⟨k, by omega, h2⟩; omega
theorem pb_pos {c : Cf} {sh : Bool} {P : Nat → Nat → Bool} (hP : ∀ a b, pbB c sh a b = P a b) (m : Nat) : 0 < pbN c sh m ↔ prB P m = true := by
  unfold pbN prB
  rw [sm_pos, anyN_t]
  constructor
  · rintro ⟨a, h1, h2⟩
    obtain ⟨b, h3, h4⟩ := (sm_pos a).mp h2
    refine ⟨a, h1, anyN_t.mpr ⟨b, h3, ?_⟩⟩
    rw [← hP]
    by_cases q : pbB c sh a b = true
    · exact q
    · rw [if_neg q] at h4; omega
  · rintro ⟨a, h1, h2⟩
    obtain ⟨b, h3, h4⟩ := anyN_t.mp h2
    refine ⟨a, h1, (sm_pos a).mpr ⟨b, h3, ?_⟩⟩
    rw [if_pos (by rw [hP]; exact h4)]; omega
theorem onf_eq {c : Cf} (hc : CfOK c) (hb : anyN (beyB c) c.mn = false) : anyN (onfB c) c.mn = anyN (fun s => anyN (ofB c s) c.mn) c.st := by
  rw [Bool.eq_iff_iff, anyN_t, anyN_t]
  constructor
  · rintro ⟨k, hk, h⟩
    simp only [onfB, Bool.and_eq_true, Bool.not_eq_true'] at h
    obtain ⟨⟨h1, h2⟩, h3⟩ := h
    simp only [beyB, h1, Bool.true_and, Bool.or_eq_false_iff, decide_eq_false_iff_not] at h2
    simp only [opn, Bool.and_eq_false_iff, decide_eq_false_iff_not] at h3
    rcases h3 with q | q
    · omega
    · simp only [List.all_eq_false, List.mem_range] at q
      obtain ⟨j, hj, hq⟩ := q
      have hf : c.fr ((c.pu k).toNat + j) = true := by simpa using hq
      refine ⟨(c.pu k).toNat + j, hc.2.1 _ hf, anyN_t.mpr ⟨k, hk, ?_⟩⟩
      simp only [ofB, covB, hf, h1, Bool.true_and, Bool.and_eq_true, decide_eq_true_eq]
      omega
  · rintro ⟨s, hs, h⟩
    obtain ⟨k, hk, h2⟩ := anyN_t.mp h
    have hbk := anyN_f.mp hb k hk
    simp only [ofB, covB, Bool.and_eq_true, decide_eq_true_eq] at h2
    obtain ⟨h3, ⟨h4, h5⟩, h6⟩ := h2
    refine ⟨k, hk, ?_⟩
    have hbk2 := hbk
    simp only [beyB, h4, Bool.true_and, Bool.or_eq_false_iff, decide_eq_false_iff_not] at hbk2
    simp only [onfB, h4, hbk, Bool.not_false, Bool.true_and, Bool.not_eq_true']
    simp only [opn, Bool.and_eq_false_iff, List.all_eq_false, List.mem_range]
    refine Or.inr ⟨s - (c.pu k).toNat, by omega, ?_⟩
    rw [show (c.pu k).toNat + (s - (c.pu k).toNat) = s by omega, h3]; decide
theorem ck_eq {c : Cf} (hc : CfOK c) : ckM c = chkN c := by
  have e2 := pb_pos (c := c) (sh := true) (P := shareB c) (fun a b => rfl) c.mn
  have e6 := pb_pos (c := c) (sh := false) (P := fun a b => touchB c a b && c.br a b) (fun a b => by show (c.br a b && touchB c a b) = _; rw [Bool.and_comm]) c.mn
  unfold ckM chkN
  cases hb : anyN (beyB c) c.mn with
  | true => rfl
  | false =>
    rw [onf_eq hc hb]
    simp only [Bool.false_eq_true, if_false, e2, e6]
section MRO
variable {G : Gm} {d n : Nat} {μ : Mem} {c : Cf} {cd : Nat} {hp : Bool} {tl pc : Nat} {pw pn : Int64} {bw bk : Nat → Int64} {me cl mt ts pit pat psz : Nat → Int32}
theorem lp_M_gap2 {Q : Oc → Nat → Mem → Prop} {s : Nat} (hs : s ≤ c.st) (hn : 41 ≤ n) (hM : ML μ (mmL G c cd hp tl pc pw pn bw bk me cl mt ts pit pat psz)) (hc : CfOK c) (hK : Ev G k_M_hasGap (d + 2) 0 0 78 [some (.ref (G.1 + 20)), some (.int (nI (runN c s))), some (.int (b2 (gapB c s))), some (.int (nI (s))), some (.int (b2 (empB c s))), none] [] n μ Q) : ∀ (m k : Nat), k ≤ c.mn → c.mn < k + m → Ev G k_M_hasGap (d + 2) 0 0 41 [some (.ref (G.1 + 20)), some (.int (nI (runN c s))), some (.int (b2 (gapB c s))), some (.int (nI (s))), some (.int (b2 ((decide (s < c.st) && !c.fr s) && !anyN (fun k => covB c k s) k))), some (.int (nI (k)))] [] n μ Q := by
  obtain ⟨⟨hst1, hst2⟩, hfr, hpn, hpp, hmn, hwd, hnd, hpu, hnr, hbr, hle, hdef⟩ := id hc
  intro m
  induction m with
  | zero =>
    intro k h1 h2
    exact absurd h2 (by omega)
  | succ m ih =>
    intro k hk hkm
    refine ev_iload d_M_hasGap_41 rfl ?_
    refine ev_aload_n d_M_hasGap_43 rfl rfl ?_
    refine ev_getf (kf := 5) (T := F_M) (C := R_M) (N := 30) (v := .int (nI (c.mn))) d_M_hasGap_44 fl_M_97 rfl i_M (by decide) (by omega) (hM 0 _ rfl) rfl ?_
    refine ev_icmp_ge d_M_hasGap_47 (fun c_47 => ?_) (fun c_47 => ?_)
    ·
      simp (disch := omega) only [nI_ltI, nI_leI, nI_eq, Nat.not_lt, Nat.not_le] at c_47
      have hk2 : k = c.mn := by omega
      subst hk2
      exact Ev.fg [true, true, true, true, true, false] rfl hK
    ·
      simp (disch := omega) only [nI_ltI, nI_leI, nI_eq, Nat.not_lt, Nat.not_le] at c_47
      have hJ_70 : ∀ b : Bool, b = ((decide (s < c.st) && !c.fr s) && !anyN (fun k => covB c k s) (k + 1)) → Ev G k_M_hasGap (d + 2) 0 0 70 [some (.ref (G.1 + 20)), some (.int (nI (runN c s))), some (.int (b2 (gapB c s))), some (.int (nI (s))), some (.int (b2 ((decide (s < c.st) && !c.fr s) && !anyN (fun k => covB c k s) k))), some (.int (nI (k)))] [.int (b2 (b))] n μ Q := by
        intro b hJ
        refine ev_istore (ls' := [_, _, _, _, _, _]) d_M_hasGap_70 (by decide) rfl rfl ?_
        refine ev_iinc (v := (nI (k + 1))) (ls' := [_, _, _, _, _, _]) d_M_hasGap_72 rfl (nI_1 _) (by decide) rfl rfl ?_
        refine ev_goto d_M_hasGap_75 ?_
        subst hJ
        exact ih (k + 1) (by omega) (by omega)
      refine ev_iload d_M_hasGap_50 rfl ?_
      refine ev_if_eq d_M_hasGap_52 (fun c_52 => ?_) (fun c_52 => ?_)
      ·
        have c_52 := b2_f c_52
        refine ev_iconst (v := (nI (0))) d_M_hasGap_69 (by decide) ?_
        exact hJ_70 false (by rw [anyN_s, Bool.not_or, ← Bool.and_assoc, c_52, Bool.false_and])
      ·
        have c_52 := b2_t c_52
        refine ev_aload_n d_M_hasGap_55 rfl rfl ?_
        refine ev_iload d_M_hasGap_56 rfl ?_
        refine ev_iload_n d_M_hasGap_58 rfl rfl ?_
        refine cv (mc' := 0) (ms' := 0) (k' := k_M_covers) (As := [.int (nI (k)), .int (nI (s))]) (stk := []) d_M_hasGap_59 ml_M_200 kk_M_covers rfl rfl (Nat.le_of_ble_eq_true rfl) (by omega) (hM 0 _ rfl) rfl rfl (ct_M_covers (d := d) c_47 (by omega) hn hM hc) (rd ?_)
        refine ev_if_ne d_M_hasGap_62 (fun c_62 => ?_) (fun c_62 => ?_)
        ·
          have c_62 := b2_t c_62
          refine ev_iconst (v := (nI (0))) d_M_hasGap_69 (by decide) ?_
          exact hJ_70 false (by rw [anyN_s, Bool.not_or, ← Bool.and_assoc, c_52, c_62]; rfl)
        ·
          have c_62 := b2_f c_62
          refine ev_iconst (v := (nI (1))) d_M_hasGap_65 (by decide) ?_
          refine ev_goto d_M_hasGap_66 ?_
          exact hJ_70 true (by rw [anyN_s, Bool.not_or, ← Bool.and_assoc, c_52, c_62]; rfl)
theorem lp_M_gap3 {Q : Oc → Nat → Mem → Prop} {s : Nat} (hs : s ≤ c.st) (hn : 41 ≤ n) (hM : ML μ (mmL G c cd hp tl pc pw pn bw bk me cl mt ts pit pat psz)) (hc : CfOK c) (hK : Ev G k_M_hasGap (d + 2) 0 0 6 [some (.ref (G.1 + 20)), some (.int (nI (runN c (s + 1)))), some (.int (b2 (gapB c (s + 1)))), some (.int (nI (s + 1))), none, none] [] n μ Q) : Ev G k_M_hasGap (d + 2) 0 0 78 [some (.ref (G.1 + 20)), some (.int (nI (runN c s))), some (.int (b2 (gapB c s))), some (.int (nI (s))), some (.int (b2 (empB c s))), none] [] n μ Q := by
  obtain ⟨⟨hst1, hst2⟩, hfr, hpn, hpp, hmn, hwd, hnd, hpu, hnr, hbr, hle, hdef⟩ := id hc
  have hr := runN_le c s
  have hJ_112 : ∀ b : Bool, b = gapB c (s + 1) → Ev G k_M_hasGap (d + 2) 0 0 112 [some (.ref (G.1 + 20)), some (.int (nI (runN c s))), some (.int (b2 (gapB c s))), some (.int (nI (s))), some (.int (b2 (empB c s))), none] [.int (b2 (b))] n μ Q := by
    intro b hJ
    have hb0 := hJ
    refine ev_istore_n (ls' := [_, _, _, _, _, none]) d_M_hasGap_112 rfl (by decide) rfl rfl ?_
    have hJ_125 : ∀ x : Nat, (x = runN c (s + 1)) → Ev G k_M_hasGap (d + 2) 0 0 125 [some (.ref (G.1 + 20)), some (.int (nI (runN c s))), some (.int (b2 (b))), some (.int (nI (s))), some (.int (b2 (empB c s))), none] [.int (nI (x))] n μ Q := by
      intro x hJ
      refine ev_istore_n (ls' := [_, _, _, _, _, none]) d_M_hasGap_125 rfl (by decide) rfl rfl ?_
      refine ev_iinc (v := (nI (s + 1))) (ls' := [_, _, _, _, _, none]) d_M_hasGap_126 rfl (nI_1 _) (by decide) rfl rfl ?_
      refine ev_goto d_M_hasGap_129 ?_
      subst hJ
      subst hb0
      exact Ev.fg [true, true, true, true, false, false] rfl hK
    refine ev_iload d_M_hasGap_113 rfl ?_
    refine ev_if_eq d_M_hasGap_115 (fun c_115 => ?_) (fun c_115 => ?_)
    ·
      have c_115 := b2_f c_115
      refine ev_iconst (v := (nI (0))) d_M_hasGap_124 (by decide) ?_
      exact hJ_125 (0) (by simp only [runN]; rw [c_115]; rfl)
    ·
      have c_115 := b2_t c_115
      refine ev_iload_n d_M_hasGap_118 rfl rfl ?_
      refine ev_iconst (v := (nI (1))) d_M_hasGap_119 (by decide) ?_
      refine ev_iadd d_M_hasGap_120 ?_
      refine ev_topi (w := (nI ((runN c s) + 1))) (nI_add _ _) ?_
      refine ev_goto d_M_hasGap_121 ?_
      exact hJ_125 ((runN c s) + 1) (by simp only [runN]; rw [c_115]; rfl)
  refine ev_iload_n d_M_hasGap_78 rfl rfl ?_
  refine ev_if_ne d_M_hasGap_79 (fun c_79 => ?_) (fun c_79 => ?_)
  ·
    have c_79 := b2_t c_79
    refine ev_iconst (v := (nI (1))) d_M_hasGap_107 (by decide) ?_
    refine ev_goto d_M_hasGap_108 ?_
    exact hJ_112 true (by simp only [gapB, badR, c_79]; simp)
  ·
    have c_79 := b2_f c_79
    refine ev_iload d_M_hasGap_82 rfl ?_
    refine ev_if_ne d_M_hasGap_84 (fun c_84 => ?_) (fun c_84 => ?_)
    ·
      have c_84 := b2_t c_84
      refine ev_iconst (v := (nI (0))) d_M_hasGap_111 (by decide) ?_
      exact hJ_112 false (by simp only [gapB, badR, c_79, c_84]; simp)
    ·
      have c_84 := b2_f c_84
      refine ev_iload_n d_M_hasGap_87 rfl rfl ?_
      refine ev_if_le d_M_hasGap_88 (fun c_88 => ?_) (fun c_88 => ?_)
      ·
        have c_88 : runN c s = 0 := by have := (nI_leI (b := 0) (by omega) (by omega)).mp c_88; omega
        refine ev_iconst (v := (nI (0))) d_M_hasGap_111 (by decide) ?_
        exact hJ_112 false (by simp only [gapB, badR, c_79, c_84]; simp; omega)
      ·
        have c_88 : 0 < runN c s := Nat.pos_of_ne_zero (fun q => c_88 (by rw [q]; decide))
        refine ev_iload_n d_M_hasGap_91 rfl rfl ?_
        refine ev_aload_n d_M_hasGap_92 rfl rfl ?_
        refine ev_getf (kf := 13) (T := F_M) (C := R_M) (N := 30) (v := .int (nI (c.le))) d_M_hasGap_93 fl_M_73 rfl i_M (by decide) (by omega) (hM 0 _ rfl) rfl ?_
        refine ev_icmp_lt d_M_hasGap_96 (fun c_96 => ?_) (fun c_96 => ?_)
        ·
          simp (disch := omega) only [nI_ltI, nI_leI, nI_eq, Nat.not_lt, Nat.not_le] at c_96
          refine ev_iconst (v := (nI (1))) d_M_hasGap_107 (by decide) ?_
          refine ev_goto d_M_hasGap_108 ?_
          exact hJ_112 true (by simp only [gapB, badR, c_79, c_84]; simp; omega)
        ·
          simp (disch := omega) only [nI_ltI, nI_leI, nI_eq, Nat.not_lt, Nat.not_le] at c_96
          refine ev_iload_n d_M_hasGap_99 rfl rfl ?_
          refine ev_aload_n d_M_hasGap_100 rfl rfl ?_
          refine ev_getf (kf := 14) (T := F_M) (C := R_M) (N := 30) (v := .int (nI (c.mo))) d_M_hasGap_101 fl_M_112 rfl i_M (by decide) (by omega) (hM 0 _ rfl) rfl ?_
          refine ev_icmp_le d_M_hasGap_104 (fun c_104 => ?_) (fun c_104 => ?_)
          ·
            simp (disch := omega) only [nI_ltI, nI_leI, nI_eq, Nat.not_lt, Nat.not_le] at c_104
            refine ev_iconst (v := (nI (0))) d_M_hasGap_111 (by decide) ?_
            exact hJ_112 false (by simp only [gapB, badR, c_79, c_84]; simp; omega)
          ·
            simp (disch := omega) only [nI_ltI, nI_leI, nI_eq, Nat.not_lt, Nat.not_le] at c_104
            refine ev_iconst (v := (nI (1))) d_M_hasGap_107 (by decide) ?_
            refine ev_goto d_M_hasGap_108 ?_
            exact hJ_112 true (by simp only [gapB, badR, c_79, c_84]; simp; omega)
theorem lp_M_gap1 (hn : 41 ≤ n) (hM : ML μ (mmL G c cd hp tl pc pw pn bw bk me cl mt ts pit pat psz)) (hc : CfOK c) : ∀ (m : Nat) (s : Nat), s ≤ c.st + 1 → c.st + 1 < s + m → Ev G k_M_hasGap (d + 2) 0 0 6 [some (.ref (G.1 + 20)), some (.int (nI (runN c s))), some (.int (b2 (gapB c s))), some (.int (nI (s))), none, none] [] n μ ((Rd (some (.int (b2 (gapB c (c.st + 1))))) n μ)) := by
  obtain ⟨⟨hst1, hst2⟩, hfr, hpn, hpp, hmn, hwd, hnd, hpu, hnr, hbr, hle, hdef⟩ := id hc
  generalize hQ : (Rd (some (.int (b2 (gapB c (c.st + 1))))) n μ) = Q
  intro m
  induction m with
  | zero =>
    intro s h1 h2
    exact absurd h2 (by omega)
  | succ m ih =>
    intro s hi him 
    refine ev_iload_n d_M_hasGap_6 rfl rfl ?_
    refine ev_aload_n d_M_hasGap_7 rfl rfl ?_
    refine ev_getf (kf := 1) (T := F_M) (C := R_M) (N := 30) (v := .int (nI (c.st))) d_M_hasGap_8 fl_M_69 rfl i_M (by decide) (by omega) (hM 0 _ rfl) rfl ?_
    refine ev_icmp_gt d_M_hasGap_11 (fun c_11 => ?_) (fun c_11 => ?_)
    ·
      simp (disch := omega) only [nI_ltI, nI_leI, nI_eq, Nat.not_lt, Nat.not_le] at c_11
      refine ev_iload_n d_M_hasGap_132 rfl rfl ?_
      refine ev_ireturn d_M_hasGap_133 rfl (b2_nar _) ?_
      subst hQ
      have hs2 : s = c.st + 1 := by omega
      subst hs2
      exact ⟨rfl, rfl, rfl⟩
    ·
      simp (disch := omega) only [nI_ltI, nI_leI, nI_eq, Nat.not_lt, Nat.not_le] at c_11
      have hJ_36 : ∀ b : Bool, b = (decide (s < c.st) && !c.fr s) → Ev G k_M_hasGap (d + 2) 0 0 36 [some (.ref (G.1 + 20)), some (.int (nI (runN c s))), some (.int (b2 (gapB c s))), some (.int (nI (s))), none, none] [.int (b2 (b))] n μ Q := by
        intro b hJ
        refine ev_istore (ls' := [_, _, _, _, _, none]) d_M_hasGap_36 (by decide) rfl rfl ?_
        refine ev_iconst (v := (nI (0))) d_M_hasGap_38 (by decide) ?_
        refine ev_istore (ls' := [_, _, _, _, _, _]) d_M_hasGap_39 (by decide) rfl rfl ?_
        subst hJ
        have h := lp_M_gap2 (d := d) (s := s) (by omega) hn hM hc (lp_M_gap3 (by omega) hn hM hc (ih (s + 1) (by omega) (by omega))) (c.mn + 1) 0 (by omega) (by omega)
        rw [show ((decide (s < c.st) && !c.fr s) && !anyN (fun k => covB c k s) 0) = (decide (s < c.st) && !c.fr s) from by simp [anyN]] at h
        exact h
      refine ev_iload_n d_M_hasGap_14 rfl rfl ?_
      refine ev_aload_n d_M_hasGap_15 rfl rfl ?_
      refine ev_getf (kf := 1) (T := F_M) (C := R_M) (N := 30) (v := .int (nI (c.st))) d_M_hasGap_16 fl_M_69 rfl i_M (by decide) (by omega) (hM 0 _ rfl) rfl ?_
      refine ev_icmp_ge d_M_hasGap_19 (fun c_19 => ?_) (fun c_19 => ?_)
      ·
        simp (disch := omega) only [nI_ltI, nI_leI, nI_eq, Nat.not_lt, Nat.not_le] at c_19
        refine ev_iconst (v := (nI (0))) d_M_hasGap_35 (by decide) ?_
        exact hJ_36 false (by rw [decide_eq_false (by omega)]; rfl)
      ·
        simp (disch := omega) only [nI_ltI, nI_leI, nI_eq, Nat.not_lt, Nat.not_le] at c_19
        refine ev_aload_n d_M_hasGap_22 rfl rfl ?_
        refine ev_getf (kf := 2) (T := F_M) (C := R_M) (N := 30) (v := .ref (G.1 + 21)) d_M_hasGap_23 fl_M_7 rfl i_M (by decide) (by omega) (hM 0 _ rfl) rfl ?_
        refine ev_iload_n d_M_hasGap_26 rfl rfl ?_
        refine ev_zald (j := s) d_M_hasGap_27 (by omega) (hM 1 _ rfl) (by omega) (by decide) ?_
        refine ev_if_ne d_M_hasGap_28 (fun c_28 => ?_) (fun c_28 => ?_)
        ·
          have c_28 := b2_t c_28
          refine ev_iconst (v := (nI (0))) d_M_hasGap_35 (by decide) ?_
          exact hJ_36 false (by rw [decide_eq_true c_19, c_28]; rfl)
        ·
          have c_28 := b2_f c_28
          refine ev_iconst (v := (nI (1))) d_M_hasGap_31 (by decide) ?_
          refine ev_goto d_M_hasGap_32 ?_
          exact hJ_36 true (by rw [decide_eq_true c_19, c_28]; rfl)
theorem ct_M_hasGap (hn : 41 ≤ n) (hM : ML μ (mmL G c cd hp tl pc pw pn bw bk me cl mt ts pit pat psz)) (hc : CfOK c) : Ct G k_M_hasGap (d + 2) 0 0 [.ref (G.1 + 20)] n μ (Rd (some (.int (b2 (gapB c (c.st + 1))))) n μ) := by
  refine Ct.ofp (r := 5) (ls := [some (.ref (G.1 + 20)), none, none, none, none, none]) rfl (Nat.le_of_ble_eq_true rfl) ?_
  refine ev_iconst (v := (nI (0))) d_M_hasGap_0 (by decide) ?_
  refine ev_istore_n (ls' := [_, _, none, none, none, none]) d_M_hasGap_1 rfl (by decide) rfl rfl ?_
  refine ev_iconst (v := (nI (0))) d_M_hasGap_2 (by decide) ?_
  refine ev_istore_n (ls' := [_, _, _, none, none, none]) d_M_hasGap_3 rfl (by decide) rfl rfl ?_
  refine ev_iconst (v := (nI (0))) d_M_hasGap_4 (by decide) ?_
  refine ev_istore_n (ls' := [_, _, _, _, none, none]) d_M_hasGap_5 rfl (by decide) rfl rfl ?_
  exact lp_M_gap1 hn hM hc (c.st + 2) 0 (by omega) (by omega)
theorem lp_M_ck6I {Q : Oc → Nat → Mem → Prop} {b0 a : Nat} (ha : a < c.mn) (hn : 41 ≤ n) (hM : ML μ (mmL G c cd hp tl pc pw pn bw bk me cl mt ts pit pat psz)) (hc : CfOK c) (hK : Ev G k_M_check (d + 3) 0 0 72 [some (.ref (G.1 + 20)), some (.int (nI ((if (anyN (fun a => anyN ((fun a b => touchB c a b && c.br a b) a) a) a || anyN ((fun a b => touchB c a b && c.br a b) a) a) then 6 else b0)))), some (.int (nI (a))), none] [] n μ Q) : ∀ (m b : Nat), b ≤ a → a < b + m → Ev G k_M_check (d + 3) 0 0 31 [some (.ref (G.1 + 20)), some (.int (nI ((if (anyN (fun a => anyN ((fun a b => touchB c a b && c.br a b) a) a) a || anyN ((fun a b => touchB c a b && c.br a b) a) b) then 6 else b0)))), some (.int (nI (a))), some (.int (nI (b)))] [] n μ Q := by
  obtain ⟨⟨hst1, hst2⟩, hfr, hpn, hpp, hmn, hwd, hnd, hpu, hnr, hbr, hle, hdef⟩ := id hc
  intro m
  induction m with
  | zero =>
    intro b h1 h2
    exact absurd h2 (by omega)
  | succ m ih =>
    intro b hb hbm
    refine ev_iload_n d_M_check_31 rfl rfl ?_
    refine ev_iload_n d_M_check_32 rfl rfl ?_
    refine ev_icmp_ge d_M_check_33 (fun c_33 => ?_) (fun c_33 => ?_)
    ·
      simp (disch := omega) only [nI_ltI, nI_leI, nI_eq, Nat.not_lt, Nat.not_le] at c_33
      have hb2 : b = a := by omega
      subst hb2
      exact Ev.fg [true, true, true, false] rfl hK
    ·
      simp (disch := omega) only [nI_ltI, nI_leI, nI_eq, Nat.not_lt, Nat.not_le] at c_33
      have hJ_65 : ∀ x : Nat, (x = (if (anyN (fun a => anyN ((fun a b => touchB c a b && c.br a b) a) a) a || anyN ((fun a b => touchB c a b && c.br a b) a) (b + 1)) then 6 else b0)) → Ev G k_M_check (d + 3) 0 0 65 [some (.ref (G.1 + 20)), some (.int (nI ((if (anyN (fun a => anyN ((fun a b => touchB c a b && c.br a b) a) a) a || anyN ((fun a b => touchB c a b && c.br a b) a) b) then 6 else b0)))), some (.int (nI (a))), some (.int (nI (b)))] [.int (nI (x))] n μ Q := by
        intro x hJ
        refine ev_istore_n (ls' := [_, _, _, _]) d_M_check_65 rfl (by decide) rfl rfl ?_
        refine ev_iinc (v := (nI (b + 1))) (ls' := [_, _, _, _]) d_M_check_66 rfl (nI_1 _) (by decide) rfl rfl ?_
        refine ev_goto d_M_check_69 ?_
        subst hJ
        exact ih (b + 1) (by omega) (by omega)
      refine ev_aload_n d_M_check_36 rfl rfl ?_
      refine ev_iload_n d_M_check_37 rfl rfl ?_
      refine ev_iload_n d_M_check_38 rfl rfl ?_
      refine cv (mc' := 0) (ms' := 0) (k' := k_M_touch) (As := [.int (nI (a)), .int (nI (b))]) (stk := []) d_M_check_39 ml_M_206 kk_M_touch rfl rfl (Nat.le_of_ble_eq_true rfl) (by omega) (hM 0 _ rfl) rfl rfl (ct_M_touch (d := d + 1) ha (by omega) hn hM hc) (rd ?_)
      refine ev_if_eq d_M_check_42 (fun c_42 => ?_) (fun c_42 => ?_)
      ·
        have c_42 := b2_f c_42
        refine ev_iload_n d_M_check_64 rfl rfl ?_
        exact hJ_65 _ (by rw [anyN_s, ← Bool.or_assoc]; simp [c_42])
      ·
        have c_42 := b2_t c_42
        refine ev_aload_n d_M_check_45 rfl rfl ?_
        refine ev_getf (kf := 12) (T := F_M) (C := R_M) (N := 30) (v := .ref (G.1 + 29)) d_M_check_46 fl_M_36 rfl i_M (by decide) (by omega) (hM 0 _ rfl) rfl ?_
        refine ev_bipush (v := (nI (6))) d_M_check_49 (by decide) ?_
        refine ev_iload_n d_M_check_51 rfl rfl ?_
        refine ev_imul d_M_check_52 ?_
        refine ev_topi (w := (nI (6 * a))) (pk_mul _ _) ?_
        refine ev_iload_n d_M_check_53 rfl rfl ?_
        refine ev_iadd d_M_check_54 ?_
        refine ev_topi (w := (nI ((6 * a) + b))) (nI_add _ _) ?_
        refine ev_zald (j := (6 * a) + b) d_M_check_55 (by omega) (hM 9 _ rfl) (by omega) (by decide) ?_
        refine ev_topi (w := b2 (c.br a b)) (by show b2 (c.br ((6 * a + b) / 6) ((6 * a + b) % 6)) = _; rw [dv6 (show b < 6 by omega), md6 (show b < 6 by omega)]) ?_
        refine ev_if_eq d_M_check_56 (fun c_56 => ?_) (fun c_56 => ?_)
        ·
          have c_56 := b2_f c_56
          refine ev_iload_n d_M_check_64 rfl rfl ?_
          exact hJ_65 _ (by rw [anyN_s, ← Bool.or_assoc]; simp [c_42, c_56])
        ·
          have c_56 := b2_t c_56
          refine ev_bipush (v := (nI (6))) d_M_check_59 (by decide) ?_
          refine ev_goto d_M_check_61 ?_
          exact hJ_65 _ (by rw [anyN_s, ← Bool.or_assoc]; simp [c_42, c_56])
theorem lp_M_ck6N {Q : Oc → Nat → Mem → Prop} {a x : Nat} (h : Ev G k_M_check (d + 3) 0 0 21 [some (.ref (G.1 + 20)), some (.int (nI (x))), some (.int (nI (a + 1))), none] [] n μ Q) : Ev G k_M_check (d + 3) 0 0 72 [some (.ref (G.1 + 20)), some (.int (nI (x))), some (.int (nI (a))), none] [] n μ Q := by
  refine ev_iinc (v := (nI (a + 1))) (ls' := [_, _, _, none]) d_M_check_72 rfl (nI_1 _) (by decide) rfl rfl ?_
  refine ev_goto d_M_check_75 ?_
  exact h
theorem lp_M_ck6 {Q : Oc → Nat → Mem → Prop} {b0 : Nat} (hn : 41 ≤ n) (hM : ML μ (mmL G c cd hp tl pc pw pn bw bk me cl mt ts pit pat psz)) (hc : CfOK c) (hK : Ev G k_M_check (d + 3) 0 0 78 [some (.ref (G.1 + 20)), some (.int (nI ((if anyN (fun a => anyN ((fun a b => touchB c a b && c.br a b) a) a) c.mn then 6 else b0)))), none, none] [] n μ Q) : ∀ (m a : Nat), a ≤ c.mn → c.mn < a + m → Ev G k_M_check (d + 3) 0 0 21 [some (.ref (G.1 + 20)), some (.int (nI ((if anyN (fun a => anyN ((fun a b => touchB c a b && c.br a b) a) a) a then 6 else b0)))), some (.int (nI (a))), none] [] n μ Q := by
  obtain ⟨⟨hst1, hst2⟩, hfr, hpn, hpp, hmn, hwd, hnd, hpu, hnr, hbr, hle, hdef⟩ := id hc
  intro m
  induction m with
  | zero =>
    intro a h1 h2
    exact absurd h2 (by omega)
  | succ m ih =>
    intro a ha ham
    refine ev_iload_n d_M_check_21 rfl rfl ?_
    refine ev_aload_n d_M_check_22 rfl rfl ?_
    refine ev_getf (kf := 5) (T := F_M) (C := R_M) (N := 30) (v := .int (nI (c.mn))) d_M_check_23 fl_M_97 rfl i_M (by decide) (by omega) (hM 0 _ rfl) rfl ?_
    refine ev_icmp_ge d_M_check_26 (fun c_26 => ?_) (fun c_26 => ?_)
    ·
      simp (disch := omega) only [nI_ltI, nI_leI, nI_eq, Nat.not_lt, Nat.not_le] at c_26
      have ha2 : a = c.mn := by omega
      subst ha2
      exact Ev.fg [true, true, false, false] rfl hK
    ·
      simp (disch := omega) only [nI_ltI, nI_leI, nI_eq, Nat.not_lt, Nat.not_le] at c_26
      refine ev_iconst (v := (nI (0))) d_M_check_29 (by decide) ?_
      refine ev_istore_n (ls' := [_, _, _, _]) d_M_check_30 rfl (by decide) rfl rfl ?_
      have h := lp_M_ck6I (d := d) (b0 := b0) c_26 hn hM hc (lp_M_ck6N (by have := ih (a + 1) (by omega) (by omega); rw [anyN_s] at this; exact this)) (a + 1) 0 (by omega) (by omega)
      rw [show (anyN (fun a => anyN ((fun a b => touchB c a b && c.br a b) a) a) a || anyN ((fun a b => touchB c a b && c.br a b) a) 0) = anyN (fun a => anyN ((fun a b => touchB c a b && c.br a b) a) a) a from by simp [anyN]] at h
      exact h
theorem lp_M_ck5 {Q : Oc → Nat → Mem → Prop} {b0 : Nat} (hn : 41 ≤ n) (hM : ML μ (mmL G c cd hp tl pc pw pn bw bk me cl mt ts pit pat psz)) (hc : CfOK c) (hK : Ev G k_M_check (d + 3) 0 0 122 [some (.ref (G.1 + 20)), some (.int (nI ((if anyN (unmB c) c.mn then 5 else b0)))), none, none] [] n μ Q) : ∀ (m k : Nat), k ≤ c.mn → c.mn < k + m → Ev G k_M_check (d + 3) 0 0 80 [some (.ref (G.1 + 20)), some (.int (nI ((if anyN (unmB c) k then 5 else b0)))), some (.int (nI (k))), none] [] n μ Q := by
  obtain ⟨⟨hst1, hst2⟩, hfr, hpn, hpp, hmn, hwd, hnd, hpu, hnr, hbr, hle, hdef⟩ := id hc
  intro m
  induction m with
  | zero =>
    intro k h1 h2
    exact absurd h2 (by omega)
  | succ m ih =>
    intro k hk hkm
    refine ev_iload_n d_M_check_80 rfl rfl ?_
    refine ev_aload_n d_M_check_81 rfl rfl ?_
    refine ev_getf (kf := 5) (T := F_M) (C := R_M) (N := 30) (v := .int (nI (c.mn))) d_M_check_82 fl_M_97 rfl i_M (by decide) (by omega) (hM 0 _ rfl) rfl ?_
    refine ev_icmp_ge d_M_check_85 (fun c_85 => ?_) (fun c_85 => ?_)
    ·
      simp (disch := omega) only [nI_ltI, nI_leI, nI_eq, Nat.not_lt, Nat.not_le] at c_85
      have hk2 : k = c.mn := by omega
      subst hk2
      exact Ev.fg [true, true, false, false] rfl hK
    ·
      simp (disch := omega) only [nI_ltI, nI_leI, nI_eq, Nat.not_lt, Nat.not_le] at c_85
      have hpk := hpu k
      have hJ_115 : ∀ x : Nat, (x = (if anyN (unmB c) (k + 1) then 5 else b0)) → Ev G k_M_check (d + 3) 0 0 115 [some (.ref (G.1 + 20)), some (.int (nI ((if anyN (unmB c) k then 5 else b0)))), some (.int (nI (k))), none] [.int (nI (x))] n μ Q := by
        intro x hJ
        refine ev_istore_n (ls' := [_, _, _, none]) d_M_check_115 rfl (by decide) rfl rfl ?_
        refine ev_iinc (v := (nI (k + 1))) (ls' := [_, _, _, none]) d_M_check_116 rfl (nI_1 _) (by decide) rfl rfl ?_
        refine ev_goto d_M_check_119 ?_
        subst hJ
        exact ih (k + 1) (by omega) (by omega)
      refine ev_aload_n d_M_check_88 rfl rfl ?_
      refine ev_iload_n d_M_check_89 rfl rfl ?_
      refine cv (mc' := 0) (ms' := 0) (k' := k_M_isPut) (As := [.int (nI (k))]) (stk := []) d_M_check_90 ml_M_197 kk_M_isPut rfl rfl (Nat.le_of_ble_eq_true rfl) (by omega) (hM 0 _ rfl) rfl rfl (ct_M_isPut (d := d + 2) c_85 hn hM hc) (rd ?_)
      refine ev_if_eq d_M_check_93 (fun c_93 => ?_) (fun c_93 => ?_)
      ·
        have c_93 := b2_f c_93
        refine ev_iload_n d_M_check_114 rfl rfl ?_
        exact hJ_115 _ (by rw [anyN_s]; simp [unmB, c_93])
      ·
        have c_93 := b2_t c_93
        refine ev_aload_n d_M_check_96 rfl rfl ?_
        refine ev_iload_n d_M_check_97 rfl rfl ?_
        refine ev_aload_n d_M_check_98 rfl rfl ?_
        refine ev_getf (kf := 15) (T := F_M) (C := R_M) (N := 30) (v := .ref (G.1 + 30)) d_M_check_99 fl_M_39 rfl i_M (by decide) (by omega) (hM 0 _ rfl) rfl ?_
        refine ev_iload_n d_M_check_102 rfl rfl ?_
        refine ev_iald (j := k) d_M_check_103 (by omega) (hM 10 _ rfl) (by omega) (by decide) ?_
        refine cv (mc' := 0) (ms' := 0) (k' := k_M_isNeeded) (As := [.int (nI (k)), .int (iI (c.pu k))]) (stk := []) d_M_check_104 ml_M_115 kk_M_isNeeded rfl rfl (Nat.le_of_ble_eq_true rfl) (by omega) (hM 0 _ rfl) rfl rfl (ct_M_isNeeded (d := d + 2) (k := k) (f := c.pu k) c_85 (by omega) (by omega) hn hM hc) (rd ?_)
        refine ev_if_ne d_M_check_107 (fun c_107 => ?_) (fun c_107 => ?_)
        ·
          have c_107 := b2_t c_107
          refine ev_iload_n d_M_check_114 rfl rfl ?_
          exact hJ_115 _ (by rw [anyN_s]; simp [unmB, c_93, c_107])
        ·
          have c_107 := b2_f c_107
          refine ev_iconst (v := (nI (5))) d_M_check_110 (by decide) ?_
          refine ev_goto d_M_check_111 ?_
          exact hJ_115 _ (by rw [anyN_s]; simp [unmB, c_93, c_107])
theorem lp_M_ck4 {Q : Oc → Nat → Mem → Prop} {b0 : Nat} (hn : 41 ≤ n) (hM : ML μ (mmL G c cd hp tl pc pw pn bw bk me cl mt ts pit pat psz)) (hc : CfOK c) (hK : Ev G k_M_check (d + 3) 0 0 161 [some (.ref (G.1 + 20)), some (.int (nI ((if anyN (misB c) c.mn then 4 else b0)))), none, none] [] n μ Q) : ∀ (m k : Nat), k ≤ c.mn → c.mn < k + m → Ev G k_M_check (d + 3) 0 0 124 [some (.ref (G.1 + 20)), some (.int (nI ((if anyN (misB c) k then 4 else b0)))), some (.int (nI (k))), none] [] n μ Q := by
  obtain ⟨⟨hst1, hst2⟩, hfr, hpn, hpp, hmn, hwd, hnd, hpu, hnr, hbr, hle, hdef⟩ := id hc
  intro m
  induction m with
  | zero =>
    intro k h1 h2
    exact absurd h2 (by omega)
  | succ m ih =>
    intro k hk hkm
    refine ev_iload_n d_M_check_124 rfl rfl ?_
    refine ev_aload_n d_M_check_125 rfl rfl ?_
    refine ev_getf (kf := 5) (T := F_M) (C := R_M) (N := 30) (v := .int (nI (c.mn))) d_M_check_126 fl_M_97 rfl i_M (by decide) (by omega) (hM 0 _ rfl) rfl ?_
    refine ev_icmp_ge d_M_check_129 (fun c_129 => ?_) (fun c_129 => ?_)
    ·
      simp (disch := omega) only [nI_ltI, nI_leI, nI_eq, Nat.not_lt, Nat.not_le] at c_129
      have hk2 : k = c.mn := by omega
      subst hk2
      exact Ev.fg [true, true, false, false] rfl hK
    ·
      simp (disch := omega) only [nI_ltI, nI_leI, nI_eq, Nat.not_lt, Nat.not_le] at c_129
      have hJ_154 : ∀ x : Nat, (x = (if anyN (misB c) (k + 1) then 4 else b0)) → Ev G k_M_check (d + 3) 0 0 154 [some (.ref (G.1 + 20)), some (.int (nI ((if anyN (misB c) k then 4 else b0)))), some (.int (nI (k))), none] [.int (nI (x))] n μ Q := by
        intro x hJ
        refine ev_istore_n (ls' := [_, _, _, none]) d_M_check_154 rfl (by decide) rfl rfl ?_
        refine ev_iinc (v := (nI (k + 1))) (ls' := [_, _, _, none]) d_M_check_155 rfl (nI_1 _) (by decide) rfl rfl ?_
        refine ev_goto d_M_check_158 ?_
        subst hJ
        exact ih (k + 1) (by omega) (by omega)
      refine ev_aload_n d_M_check_132 rfl rfl ?_
      refine ev_getf (kf := 10) (T := F_M) (C := R_M) (N := 30) (v := .ref (G.1 + 27)) d_M_check_133 fl_M_30 rfl i_M (by decide) (by omega) (hM 0 _ rfl) rfl ?_
      refine ev_iload_n d_M_check_136 rfl rfl ?_
      refine ev_zald (j := k) d_M_check_137 (by omega) (hM 7 _ rfl) (by omega) (by decide) ?_
      refine ev_if_eq d_M_check_138 (fun c_138 => ?_) (fun c_138 => ?_)
      ·
        have c_138 := b2_f c_138
        refine ev_iload_n d_M_check_153 rfl rfl ?_
        exact hJ_154 _ (by rw [anyN_s]; simp [misB, c_138])
      ·
        have c_138 := b2_t c_138
        refine ev_aload_n d_M_check_141 rfl rfl ?_
        refine ev_iload_n d_M_check_142 rfl rfl ?_
        refine cv (mc' := 0) (ms' := 0) (k' := k_M_isPut) (As := [.int (nI (k))]) (stk := []) d_M_check_143 ml_M_197 kk_M_isPut rfl rfl (Nat.le_of_ble_eq_true rfl) (by omega) (hM 0 _ rfl) rfl rfl (ct_M_isPut (d := d + 2) c_129 hn hM hc) (rd ?_)
        refine ev_if_ne d_M_check_146 (fun c_146 => ?_) (fun c_146 => ?_)
        ·
          have c_146 := b2_t c_146
          refine ev_iload_n d_M_check_153 rfl rfl ?_
          exact hJ_154 _ (by rw [anyN_s]; simp [misB, c_138, c_146])
        ·
          have c_146 := b2_f c_146
          refine ev_iconst (v := (nI (4))) d_M_check_149 (by decide) ?_
          refine ev_goto d_M_check_150 ?_
          exact hJ_154 _ (by rw [anyN_s]; simp [misB, c_138, c_146])
theorem lp_M_ck3I {Q : Oc → Nat → Mem → Prop} {b0 a : Nat} (ha : a < c.st) (hn : 41 ≤ n) (hM : ML μ (mmL G c cd hp tl pc pw pn bw bk me cl mt ts pit pat psz)) (hc : CfOK c) (hK : Ev G k_M_check (d + 3) 0 0 211 [some (.ref (G.1 + 20)), some (.int (nI ((if (anyN (fun a => anyN ((ofB c) a) c.mn) a || anyN ((ofB c) a) c.mn) then 3 else b0)))), some (.int (nI (a))), none] [] n μ Q) : ∀ (m b : Nat), b ≤ c.mn → c.mn < b + m → Ev G k_M_check (d + 3) 0 0 173 [some (.ref (G.1 + 20)), some (.int (nI ((if (anyN (fun a => anyN ((ofB c) a) c.mn) a || anyN ((ofB c) a) b) then 3 else b0)))), some (.int (nI (a))), some (.int (nI (b)))] [] n μ Q := by
  obtain ⟨⟨hst1, hst2⟩, hfr, hpn, hpp, hmn, hwd, hnd, hpu, hnr, hbr, hle, hdef⟩ := id hc
  intro m
  induction m with
  | zero =>
    intro b h1 h2
    exact absurd h2 (by omega)
  | succ m ih =>
    intro b hb hbm
    refine ev_iload_n d_M_check_173 rfl rfl ?_
    refine ev_aload_n d_M_check_174 rfl rfl ?_
    refine ev_getf (kf := 5) (T := F_M) (C := R_M) (N := 30) (v := .int (nI (c.mn))) d_M_check_175 fl_M_97 rfl i_M (by decide) (by omega) (hM 0 _ rfl) rfl ?_
    refine ev_icmp_ge d_M_check_178 (fun c_178 => ?_) (fun c_178 => ?_)
    ·
      simp (disch := omega) only [nI_ltI, nI_leI, nI_eq, Nat.not_lt, Nat.not_le] at c_178
      have hb2 : b = c.mn := by omega
      subst hb2
      exact Ev.fg [true, true, true, false] rfl hK
    ·
      simp (disch := omega) only [nI_ltI, nI_leI, nI_eq, Nat.not_lt, Nat.not_le] at c_178
      have hJ_204 : ∀ x : Nat, (x = (if (anyN (fun a => anyN ((ofB c) a) c.mn) a || anyN ((ofB c) a) (b + 1)) then 3 else b0)) → Ev G k_M_check (d + 3) 0 0 204 [some (.ref (G.1 + 20)), some (.int (nI ((if (anyN (fun a => anyN ((ofB c) a) c.mn) a || anyN ((ofB c) a) b) then 3 else b0)))), some (.int (nI (a))), some (.int (nI (b)))] [.int (nI (x))] n μ Q := by
        intro x hJ
        refine ev_istore_n (ls' := [_, _, _, _]) d_M_check_204 rfl (by decide) rfl rfl ?_
        refine ev_iinc (v := (nI (b + 1))) (ls' := [_, _, _, _]) d_M_check_205 rfl (nI_1 _) (by decide) rfl rfl ?_
        refine ev_goto d_M_check_208 ?_
        subst hJ
        exact ih (b + 1) (by omega) (by omega)
      refine ev_aload_n d_M_check_181 rfl rfl ?_
      refine ev_getf (kf := 2) (T := F_M) (C := R_M) (N := 30) (v := .ref (G.1 + 21)) d_M_check_182 fl_M_7 rfl i_M (by decide) (by omega) (hM 0 _ rfl) rfl ?_
      refine ev_iload_n d_M_check_185 rfl rfl ?_
      refine ev_zald (j := a) d_M_check_186 (by omega) (hM 1 _ rfl) (by omega) (by decide) ?_
      refine ev_if_eq d_M_check_187 (fun c_187 => ?_) (fun c_187 => ?_)
      ·
        have c_187 := b2_f c_187
        refine ev_iload_n d_M_check_203 rfl rfl ?_
        exact hJ_204 _ (by rw [anyN_s, ← Bool.or_assoc]; simp [ofB, c_187])
      ·
        have c_187 := b2_t c_187
        refine ev_aload_n d_M_check_190 rfl rfl ?_
        refine ev_iload_n d_M_check_191 rfl rfl ?_
        refine ev_iload_n d_M_check_192 rfl rfl ?_
        refine cv (mc' := 0) (ms' := 0) (k' := k_M_covers) (As := [.int (nI (b)), .int (nI (a))]) (stk := []) d_M_check_193 ml_M_200 kk_M_covers rfl rfl (Nat.le_of_ble_eq_true rfl) (by omega) (hM 0 _ rfl) rfl rfl (ct_M_covers (d := d + 1) c_178 (by omega) hn hM hc) (rd ?_)
        refine ev_if_eq d_M_check_196 (fun c_196 => ?_) (fun c_196 => ?_)
        ·
          have c_196 := b2_f c_196
          refine ev_iload_n d_M_check_203 rfl rfl ?_
          exact hJ_204 _ (by rw [anyN_s, ← Bool.or_assoc]; simp [ofB, c_187, c_196])
        ·
          have c_196 := b2_t c_196
          refine ev_iconst (v := (nI (3))) d_M_check_199 (by decide) ?_
          refine ev_goto d_M_check_200 ?_
          exact hJ_204 _ (by rw [anyN_s, ← Bool.or_assoc]; simp [ofB, c_187, c_196])
theorem lp_M_ck3N {Q : Oc → Nat → Mem → Prop} {a x : Nat} (h : Ev G k_M_check (d + 3) 0 0 163 [some (.ref (G.1 + 20)), some (.int (nI (x))), some (.int (nI (a + 1))), none] [] n μ Q) : Ev G k_M_check (d + 3) 0 0 211 [some (.ref (G.1 + 20)), some (.int (nI (x))), some (.int (nI (a))), none] [] n μ Q := by
  refine ev_iinc (v := (nI (a + 1))) (ls' := [_, _, _, none]) d_M_check_211 rfl (nI_1 _) (by decide) rfl rfl ?_
  refine ev_goto d_M_check_214 ?_
  exact h
theorem lp_M_ck3 {Q : Oc → Nat → Mem → Prop} {b0 : Nat} (hn : 41 ≤ n) (hM : ML μ (mmL G c cd hp tl pc pw pn bw bk me cl mt ts pit pat psz)) (hc : CfOK c) (hK : Ev G k_M_check (d + 3) 0 0 217 [some (.ref (G.1 + 20)), some (.int (nI ((if anyN (fun a => anyN ((ofB c) a) c.mn) c.st then 3 else b0)))), none, none] [] n μ Q) : ∀ (m a : Nat), a ≤ c.st → c.st < a + m → Ev G k_M_check (d + 3) 0 0 163 [some (.ref (G.1 + 20)), some (.int (nI ((if anyN (fun a => anyN ((ofB c) a) c.mn) a then 3 else b0)))), some (.int (nI (a))), none] [] n μ Q := by
  obtain ⟨⟨hst1, hst2⟩, hfr, hpn, hpp, hmn, hwd, hnd, hpu, hnr, hbr, hle, hdef⟩ := id hc
  intro m
  induction m with
  | zero =>
    intro a h1 h2
    exact absurd h2 (by omega)
  | succ m ih =>
    intro a ha ham
    refine ev_iload_n d_M_check_163 rfl rfl ?_
    refine ev_aload_n d_M_check_164 rfl rfl ?_
    refine ev_getf (kf := 1) (T := F_M) (C := R_M) (N := 30) (v := .int (nI (c.st))) d_M_check_165 fl_M_69 rfl i_M (by decide) (by omega) (hM 0 _ rfl) rfl ?_
    refine ev_icmp_ge d_M_check_168 (fun c_168 => ?_) (fun c_168 => ?_)
    ·
      simp (disch := omega) only [nI_ltI, nI_leI, nI_eq, Nat.not_lt, Nat.not_le] at c_168
      have ha2 : a = c.st := by omega
      subst ha2
      exact Ev.fg [true, true, false, false] rfl hK
    ·
      simp (disch := omega) only [nI_ltI, nI_leI, nI_eq, Nat.not_lt, Nat.not_le] at c_168
      refine ev_iconst (v := (nI (0))) d_M_check_171 (by decide) ?_
      refine ev_istore_n (ls' := [_, _, _, _]) d_M_check_172 rfl (by decide) rfl rfl ?_
      have h := lp_M_ck3I (d := d) (b0 := b0) c_168 hn hM hc (lp_M_ck3N (by have := ih (a + 1) (by omega) (by omega); rw [anyN_s] at this; exact this)) (c.mn + 1) 0 (by omega) (by omega)
      rw [show (anyN (fun a => anyN ((ofB c) a) c.mn) a || anyN ((ofB c) a) 0) = anyN (fun a => anyN ((ofB c) a) c.mn) a from by simp [anyN]] at h
      exact h
theorem lp_M_ck2I {Q : Oc → Nat → Mem → Prop} {b0 a : Nat} (ha : a < c.mn) (hn : 41 ≤ n) (hM : ML μ (mmL G c cd hp tl pc pw pn bw bk me cl mt ts pit pat psz)) (hc : CfOK c) (hK : Ev G k_M_check (d + 3) 0 0 306 [some (.ref (G.1 + 20)), some (.int (nI ((if (anyN (fun a => anyN ((shareB c) a) a) a || anyN ((shareB c) a) a) then 2 else b0)))), some (.int (nI (a))), none] [] n μ Q) : ∀ (m b : Nat), b ≤ a → a < b + m → Ev G k_M_check (d + 3) 0 0 229 [some (.ref (G.1 + 20)), some (.int (nI ((if (anyN (fun a => anyN ((shareB c) a) a) a || anyN ((shareB c) a) b) then 2 else b0)))), some (.int (nI (a))), some (.int (nI (b)))] [] n μ Q := by
  obtain ⟨⟨hst1, hst2⟩, hfr, hpn, hpp, hmn, hwd, hnd, hpu, hnr, hbr, hle, hdef⟩ := id hc
  intro m
  induction m with
  | zero =>
    intro b h1 h2
    exact absurd h2 (by omega)
  | succ m ih =>
    intro b hb hbm
    refine ev_iload_n d_M_check_229 rfl rfl ?_
    refine ev_iload_n d_M_check_230 rfl rfl ?_
    refine ev_icmp_ge d_M_check_231 (fun c_231 => ?_) (fun c_231 => ?_)
    ·
      simp (disch := omega) only [nI_ltI, nI_leI, nI_eq, Nat.not_lt, Nat.not_le] at c_231
      have hb2 : b = a := by omega
      subst hb2
      exact Ev.fg [true, true, true, false] rfl hK
    ·
      simp (disch := omega) only [nI_ltI, nI_leI, nI_eq, Nat.not_lt, Nat.not_le] at c_231
      have hpa := hpu a
      have hpb := hpu b
      have hwa := hwd a ha
      have hwb := hwd b (by omega)
      have hJ_299 : ∀ x : Nat, (x = (if (anyN (fun a => anyN ((shareB c) a) a) a || anyN ((shareB c) a) (b + 1)) then 2 else b0)) → Ev G k_M_check (d + 3) 0 0 299 [some (.ref (G.1 + 20)), some (.int (nI ((if (anyN (fun a => anyN ((shareB c) a) a) a || anyN ((shareB c) a) b) then 2 else b0)))), some (.int (nI (a))), some (.int (nI (b)))] [.int (nI (x))] n μ Q := by
        intro x hJ
        refine ev_istore_n (ls' := [_, _, _, _]) d_M_check_299 rfl (by decide) rfl rfl ?_
        refine ev_iinc (v := (nI (b + 1))) (ls' := [_, _, _, _]) d_M_check_300 rfl (nI_1 _) (by decide) rfl rfl ?_
        refine ev_goto d_M_check_303 ?_
        subst hJ
        exact ih (b + 1) (by omega) (by omega)
      refine ev_aload_n d_M_check_234 rfl rfl ?_
      refine ev_iload_n d_M_check_235 rfl rfl ?_
      refine cv (mc' := 0) (ms' := 0) (k' := k_M_isPut) (As := [.int (nI (a))]) (stk := []) d_M_check_236 ml_M_197 kk_M_isPut rfl rfl (Nat.le_of_ble_eq_true rfl) (by omega) (hM 0 _ rfl) rfl rfl (ct_M_isPut (d := d + 2) ha hn hM hc) (rd ?_)
      refine ev_if_eq d_M_check_239 (fun c_239 => ?_) (fun c_239 => ?_)
      ·
        have c_239 := b2_f c_239
        refine ev_iload_n d_M_check_298 rfl rfl ?_
        have hsh : shareB c a b = false := by
          simp only [shareB, c_239]
          simp
          try omega
        exact hJ_299 _ (by rw [anyN_s, ← Bool.or_assoc, hsh]; simp)
      ·
        have c_239 := b2_t c_239
        refine ev_aload_n d_M_check_242 rfl rfl ?_
        refine ev_iload_n d_M_check_243 rfl rfl ?_
        refine cv (mc' := 0) (ms' := 0) (k' := k_M_isPut) (As := [.int (nI (b))]) (stk := []) d_M_check_244 ml_M_197 kk_M_isPut rfl rfl (Nat.le_of_ble_eq_true rfl) (by omega) (hM 0 _ rfl) rfl rfl (ct_M_isPut (d := d + 2) (by omega) hn hM hc) (rd ?_)
        refine ev_if_eq d_M_check_247 (fun c_247 => ?_) (fun c_247 => ?_)
        ·
          have c_247 := b2_f c_247
          refine ev_iload_n d_M_check_298 rfl rfl ?_
          have hsh : shareB c a b = false := by
            simp only [shareB, c_239, c_247]
            simp
            try omega
          exact hJ_299 _ (by rw [anyN_s, ← Bool.or_assoc, hsh]; simp)
        ·
          have c_247 := b2_t c_247
          refine ev_aload_n d_M_check_250 rfl rfl ?_
          refine ev_getf (kf := 15) (T := F_M) (C := R_M) (N := 30) (v := .ref (G.1 + 30)) d_M_check_251 fl_M_39 rfl i_M (by decide) (by omega) (hM 0 _ rfl) rfl ?_
          refine ev_iload_n d_M_check_254 rfl rfl ?_
          refine ev_iald (j := a) d_M_check_255 (by omega) (hM 10 _ rfl) (by omega) (by decide) ?_
          refine ev_aload_n d_M_check_256 rfl rfl ?_
          refine ev_getf (kf := 15) (T := F_M) (C := R_M) (N := 30) (v := .ref (G.1 + 30)) d_M_check_257 fl_M_39 rfl i_M (by decide) (by omega) (hM 0 _ rfl) rfl ?_
          refine ev_iload_n d_M_check_260 rfl rfl ?_
          refine ev_iald (j := b) d_M_check_261 (by omega) (hM 10 _ rfl) (by omega) (by decide) ?_
          refine ev_aload_n d_M_check_262 rfl rfl ?_
          refine ev_getf (kf := 6) (T := F_M) (C := R_M) (N := 30) (v := .ref (G.1 + 23)) d_M_check_263 fl_M_17 rfl i_M (by decide) (by omega) (hM 0 _ rfl) rfl ?_
          refine ev_iload_n d_M_check_266 rfl rfl ?_
          refine ev_iald (j := b) d_M_check_267 (by omega) (hM 3 _ rfl) (by omega) (by decide) ?_
          refine ev_iadd d_M_check_268 ?_
          refine ev_topi (w := (iI ((c.pu b) + (c.wd b : Int)))) (by (try simp only [nI_iI, iI_add, iI_sub, iI_mul]); (try rfl)) ?_
          refine ev_icmp_ge d_M_check_269 (fun c_269 => ?_) (fun c_269 => ?_)
          ·
            simp (disch := omega) only [nI_iI, iI_ltI, iI_leI, iI_eq, Int.not_lt, Int.not_le] at c_269
            refine ev_iload_n d_M_check_298 rfl rfl ?_
            have hsh : shareB c a b = false := by
              simp only [shareB, c_239, c_247]
              simp
              try omega
            exact hJ_299 _ (by rw [anyN_s, ← Bool.or_assoc, hsh]; simp)
          ·
            simp (disch := omega) only [nI_iI, iI_ltI, iI_leI, iI_eq, Int.not_lt, Int.not_le] at c_269
            refine ev_aload_n d_M_check_272 rfl rfl ?_
            refine ev_getf (kf := 15) (T := F_M) (C := R_M) (N := 30) (v := .ref (G.1 + 30)) d_M_check_273 fl_M_39 rfl i_M (by decide) (by omega) (hM 0 _ rfl) rfl ?_
            refine ev_iload_n d_M_check_276 rfl rfl ?_
            refine ev_iald (j := b) d_M_check_277 (by omega) (hM 10 _ rfl) (by omega) (by decide) ?_
            refine ev_aload_n d_M_check_278 rfl rfl ?_
            refine ev_getf (kf := 15) (T := F_M) (C := R_M) (N := 30) (v := .ref (G.1 + 30)) d_M_check_279 fl_M_39 rfl i_M (by decide) (by omega) (hM 0 _ rfl) rfl ?_
            refine ev_iload_n d_M_check_282 rfl rfl ?_
            refine ev_iald (j := a) d_M_check_283 (by omega) (hM 10 _ rfl) (by omega) (by decide) ?_
            refine ev_aload_n d_M_check_284 rfl rfl ?_
            refine ev_getf (kf := 6) (T := F_M) (C := R_M) (N := 30) (v := .ref (G.1 + 23)) d_M_check_285 fl_M_17 rfl i_M (by decide) (by omega) (hM 0 _ rfl) rfl ?_
            refine ev_iload_n d_M_check_288 rfl rfl ?_
            refine ev_iald (j := a) d_M_check_289 (by omega) (hM 3 _ rfl) (by omega) (by decide) ?_
            refine ev_iadd d_M_check_290 ?_
            refine ev_topi (w := (iI ((c.pu a) + (c.wd a : Int)))) (by (try simp only [nI_iI, iI_add, iI_sub, iI_mul]); (try rfl)) ?_
            refine ev_icmp_ge d_M_check_291 (fun c_291 => ?_) (fun c_291 => ?_)
            ·
              simp (disch := omega) only [nI_iI, iI_ltI, iI_leI, iI_eq, Int.not_lt, Int.not_le] at c_291
              refine ev_iload_n d_M_check_298 rfl rfl ?_
              have hsh : shareB c a b = false := by
                simp only [shareB, c_239, c_247]
                simp
                try omega
              exact hJ_299 _ (by rw [anyN_s, ← Bool.or_assoc, hsh]; simp)
            ·
              simp (disch := omega) only [nI_iI, iI_ltI, iI_leI, iI_eq, Int.not_lt, Int.not_le] at c_291
              refine ev_iconst (v := (nI (2))) d_M_check_294 (by decide) ?_
              refine ev_goto d_M_check_295 ?_
              have hsh : shareB c a b = true := by
                simp only [shareB, c_239, c_247]
                simp
                try omega
              exact hJ_299 _ (by rw [anyN_s, ← Bool.or_assoc, hsh]; simp)
theorem lp_M_ck2N {Q : Oc → Nat → Mem → Prop} {a x : Nat} (h : Ev G k_M_check (d + 3) 0 0 219 [some (.ref (G.1 + 20)), some (.int (nI (x))), some (.int (nI (a + 1))), none] [] n μ Q) : Ev G k_M_check (d + 3) 0 0 306 [some (.ref (G.1 + 20)), some (.int (nI (x))), some (.int (nI (a))), none] [] n μ Q := by
  refine ev_iinc (v := (nI (a + 1))) (ls' := [_, _, _, none]) d_M_check_306 rfl (nI_1 _) (by decide) rfl rfl ?_
  refine ev_goto d_M_check_309 ?_
  exact h
theorem lp_M_ck2 {Q : Oc → Nat → Mem → Prop} {b0 : Nat} (hn : 41 ≤ n) (hM : ML μ (mmL G c cd hp tl pc pw pn bw bk me cl mt ts pit pat psz)) (hc : CfOK c) (hK : Ev G k_M_check (d + 3) 0 0 312 [some (.ref (G.1 + 20)), some (.int (nI ((if anyN (fun a => anyN ((shareB c) a) a) c.mn then 2 else b0)))), none, none] [] n μ Q) : ∀ (m a : Nat), a ≤ c.mn → c.mn < a + m → Ev G k_M_check (d + 3) 0 0 219 [some (.ref (G.1 + 20)), some (.int (nI ((if anyN (fun a => anyN ((shareB c) a) a) a then 2 else b0)))), some (.int (nI (a))), none] [] n μ Q := by
  obtain ⟨⟨hst1, hst2⟩, hfr, hpn, hpp, hmn, hwd, hnd, hpu, hnr, hbr, hle, hdef⟩ := id hc
  intro m
  induction m with
  | zero =>
    intro a h1 h2
    exact absurd h2 (by omega)
  | succ m ih =>
    intro a ha ham
    refine ev_iload_n d_M_check_219 rfl rfl ?_
    refine ev_aload_n d_M_check_220 rfl rfl ?_
    refine ev_getf (kf := 5) (T := F_M) (C := R_M) (N := 30) (v := .int (nI (c.mn))) d_M_check_221 fl_M_97 rfl i_M (by decide) (by omega) (hM 0 _ rfl) rfl ?_
    refine ev_icmp_ge d_M_check_224 (fun c_224 => ?_) (fun c_224 => ?_)
    ·
      simp (disch := omega) only [nI_ltI, nI_leI, nI_eq, Nat.not_lt, Nat.not_le] at c_224
      have ha2 : a = c.mn := by omega
      subst ha2
      exact Ev.fg [true, true, false, false] rfl hK
    ·
      simp (disch := omega) only [nI_ltI, nI_leI, nI_eq, Nat.not_lt, Nat.not_le] at c_224
      refine ev_iconst (v := (nI (0))) d_M_check_227 (by decide) ?_
      refine ev_istore_n (ls' := [_, _, _, _]) d_M_check_228 rfl (by decide) rfl rfl ?_
      have h := lp_M_ck2I (d := d) (b0 := b0) c_224 hn hM hc (lp_M_ck2N (by have := ih (a + 1) (by omega) (by omega); rw [anyN_s] at this; exact this)) (a + 1) 0 (by omega) (by omega)
      rw [show (anyN (fun a => anyN ((shareB c) a) a) a || anyN ((shareB c) a) 0) = anyN (fun a => anyN ((shareB c) a) a) a from by simp [anyN]] at h
      exact h
theorem lp_M_ck1 {Q : Oc → Nat → Mem → Prop} {b0 : Nat} (hn : 41 ≤ n) (hM : ML μ (mmL G c cd hp tl pc pw pn bw bk me cl mt ts pit pat psz)) (hc : CfOK c) (hK : Ev G k_M_check (d + 3) 0 0 371 [some (.ref (G.1 + 20)), some (.int (nI ((if anyN (beyB c) c.mn then 1 else b0)))), none, none] [] n μ Q) : ∀ (m k : Nat), k ≤ c.mn → c.mn < k + m → Ev G k_M_check (d + 3) 0 0 314 [some (.ref (G.1 + 20)), some (.int (nI ((if anyN (beyB c) k then 1 else b0)))), some (.int (nI (k))), none] [] n μ Q := by
  obtain ⟨⟨hst1, hst2⟩, hfr, hpn, hpp, hmn, hwd, hnd, hpu, hnr, hbr, hle, hdef⟩ := id hc
  intro m
  induction m with
  | zero =>
    intro k h1 h2
    exact absurd h2 (by omega)
  | succ m ih =>
    intro k hk hkm
    refine ev_iload_n d_M_check_314 rfl rfl ?_
    refine ev_aload_n d_M_check_315 rfl rfl ?_
    refine ev_getf (kf := 5) (T := F_M) (C := R_M) (N := 30) (v := .int (nI (c.mn))) d_M_check_316 fl_M_97 rfl i_M (by decide) (by omega) (hM 0 _ rfl) rfl ?_
    refine ev_icmp_ge d_M_check_319 (fun c_319 => ?_) (fun c_319 => ?_)
    ·
      simp (disch := omega) only [nI_ltI, nI_leI, nI_eq, Nat.not_lt, Nat.not_le] at c_319
      have hk2 : k = c.mn := by omega
      subst hk2
      exact Ev.fg [true, true, false, false] rfl hK
    ·
      simp (disch := omega) only [nI_ltI, nI_leI, nI_eq, Nat.not_lt, Nat.not_le] at c_319
      have hpk := hpu k
      have hwk := hwd k c_319
      have hJ_364 : ∀ x : Nat, (x = (if anyN (beyB c) (k + 1) then 1 else b0)) → Ev G k_M_check (d + 3) 0 0 364 [some (.ref (G.1 + 20)), some (.int (nI ((if anyN (beyB c) k then 1 else b0)))), some (.int (nI (k))), none] [.int (nI (x))] n μ Q := by
        intro x hJ
        refine ev_istore_n (ls' := [_, _, _, none]) d_M_check_364 rfl (by decide) rfl rfl ?_
        refine ev_iinc (v := (nI (k + 1))) (ls' := [_, _, _, none]) d_M_check_365 rfl (nI_1 _) (by decide) rfl rfl ?_
        refine ev_goto d_M_check_368 ?_
        subst hJ
        exact ih (k + 1) (by omega) (by omega)
      refine ev_aload_n d_M_check_322 rfl rfl ?_
      refine ev_iload_n d_M_check_323 rfl rfl ?_
      refine cv (mc' := 0) (ms' := 0) (k' := k_M_isPut) (As := [.int (nI (k))]) (stk := []) d_M_check_324 ml_M_197 kk_M_isPut rfl rfl (Nat.le_of_ble_eq_true rfl) (by omega) (hM 0 _ rfl) rfl rfl (ct_M_isPut (d := d + 2) c_319 hn hM hc) (rd ?_)
      refine ev_if_eq d_M_check_327 (fun c_327 => ?_) (fun c_327 => ?_)
      ·
        have c_327 := b2_f c_327
        refine ev_iload_n d_M_check_363 rfl rfl ?_
        have hbe : beyB c k = false := by
          simp only [beyB, c_327]
          simp
          try omega
        exact hJ_364 _ (by rw [anyN_s, hbe]; simp)
      ·
        have c_327 := b2_t c_327
        refine ev_aload_n d_M_check_330 rfl rfl ?_
        refine ev_getf (kf := 15) (T := F_M) (C := R_M) (N := 30) (v := .ref (G.1 + 30)) d_M_check_331 fl_M_39 rfl i_M (by decide) (by omega) (hM 0 _ rfl) rfl ?_
        refine ev_iload_n d_M_check_334 rfl rfl ?_
        refine ev_iald (j := k) d_M_check_335 (by omega) (hM 10 _ rfl) (by omega) (by decide) ?_
        refine ev_if_lt d_M_check_336 (fun c_336 => ?_) (fun c_336 => ?_)
        ·
          have c_336 : c.pu k < 0 := (iI_ltI (b := 0) (by omega) (by omega) (by omega) (by omega)).mp c_336
          refine ev_iconst (v := (nI (1))) d_M_check_359 (by decide) ?_
          refine ev_goto d_M_check_360 ?_
          have hbe : beyB c k = true := by
            simp only [beyB, c_327]
            simp
            try omega
          exact hJ_364 _ (by rw [anyN_s, hbe]; simp)
        ·
          have c_336 : ¬ c.pu k < 0 := fun q => c_336 ((iI_ltI (b := 0) (by omega) (by omega) (by omega) (by omega)).mpr q)
          refine ev_aload_n d_M_check_339 rfl rfl ?_
          refine ev_getf (kf := 15) (T := F_M) (C := R_M) (N := 30) (v := .ref (G.1 + 30)) d_M_check_340 fl_M_39 rfl i_M (by decide) (by omega) (hM 0 _ rfl) rfl ?_
          refine ev_iload_n d_M_check_343 rfl rfl ?_
          refine ev_iald (j := k) d_M_check_344 (by omega) (hM 10 _ rfl) (by omega) (by decide) ?_
          refine ev_aload_n d_M_check_345 rfl rfl ?_
          refine ev_getf (kf := 6) (T := F_M) (C := R_M) (N := 30) (v := .ref (G.1 + 23)) d_M_check_346 fl_M_17 rfl i_M (by decide) (by omega) (hM 0 _ rfl) rfl ?_
          refine ev_iload_n d_M_check_349 rfl rfl ?_
          refine ev_iald (j := k) d_M_check_350 (by omega) (hM 3 _ rfl) (by omega) (by decide) ?_
          refine ev_iadd d_M_check_351 ?_
          refine ev_topi (w := (iI ((c.pu k) + (c.wd k : Int)))) (by (try simp only [nI_iI, iI_add, iI_sub, iI_mul]); (try rfl)) ?_
          refine ev_aload_n d_M_check_352 rfl rfl ?_
          refine ev_getf (kf := 1) (T := F_M) (C := R_M) (N := 30) (v := .int (nI (c.st))) d_M_check_353 fl_M_69 rfl i_M (by decide) (by omega) (hM 0 _ rfl) rfl ?_
          refine ev_icmp_le d_M_check_356 (fun c_356 => ?_) (fun c_356 => ?_)
          ·
            simp (disch := omega) only [nI_iI, iI_ltI, iI_leI, iI_eq, Int.not_lt, Int.not_le] at c_356
            refine ev_iload_n d_M_check_363 rfl rfl ?_
            have hbe : beyB c k = false := by
              simp only [beyB, c_327]
              simp
              try omega
            exact hJ_364 _ (by rw [anyN_s, hbe]; simp)
          ·
            simp (disch := omega) only [nI_iI, iI_ltI, iI_leI, iI_eq, Int.not_lt, Int.not_le] at c_356
            refine ev_iconst (v := (nI (1))) d_M_check_359 (by decide) ?_
            refine ev_goto d_M_check_360 ?_
            have hbe : beyB c k = true := by
              simp only [beyB, c_327]
              simp
              try omega
            exact hJ_364 _ (by rw [anyN_s, hbe]; simp)
theorem lp_M_ckz78 {Q : Oc → Nat → Mem → Prop} {x : Nat} (h : Ev G k_M_check (d + 3) 0 0 80 [some (.ref (G.1 + 20)), some (.int (nI (x))), some (.int (nI (0))), none] [] n μ Q) : Ev G k_M_check (d + 3) 0 0 78 [some (.ref (G.1 + 20)), some (.int (nI (x))), none, none] [] n μ Q := by
  refine ev_iconst (v := (nI (0))) d_M_check_78 (by decide) ?_
  refine ev_istore_n (ls' := [_, _, _, none]) d_M_check_79 rfl (by decide) rfl rfl ?_
  exact h
theorem lp_M_ckz122 {Q : Oc → Nat → Mem → Prop} {x : Nat} (h : Ev G k_M_check (d + 3) 0 0 124 [some (.ref (G.1 + 20)), some (.int (nI (x))), some (.int (nI (0))), none] [] n μ Q) : Ev G k_M_check (d + 3) 0 0 122 [some (.ref (G.1 + 20)), some (.int (nI (x))), none, none] [] n μ Q := by
  refine ev_iconst (v := (nI (0))) d_M_check_122 (by decide) ?_
  refine ev_istore_n (ls' := [_, _, _, none]) d_M_check_123 rfl (by decide) rfl rfl ?_
  exact h
theorem lp_M_ckz161 {Q : Oc → Nat → Mem → Prop} {x : Nat} (h : Ev G k_M_check (d + 3) 0 0 163 [some (.ref (G.1 + 20)), some (.int (nI (x))), some (.int (nI (0))), none] [] n μ Q) : Ev G k_M_check (d + 3) 0 0 161 [some (.ref (G.1 + 20)), some (.int (nI (x))), none, none] [] n μ Q := by
  refine ev_iconst (v := (nI (0))) d_M_check_161 (by decide) ?_
  refine ev_istore_n (ls' := [_, _, _, none]) d_M_check_162 rfl (by decide) rfl rfl ?_
  exact h
theorem lp_M_ckz217 {Q : Oc → Nat → Mem → Prop} {x : Nat} (h : Ev G k_M_check (d + 3) 0 0 219 [some (.ref (G.1 + 20)), some (.int (nI (x))), some (.int (nI (0))), none] [] n μ Q) : Ev G k_M_check (d + 3) 0 0 217 [some (.ref (G.1 + 20)), some (.int (nI (x))), none, none] [] n μ Q := by
  refine ev_iconst (v := (nI (0))) d_M_check_217 (by decide) ?_
  refine ev_istore_n (ls' := [_, _, _, none]) d_M_check_218 rfl (by decide) rfl rfl ?_
  exact h
theorem lp_M_ckz312 {Q : Oc → Nat → Mem → Prop} {x : Nat} (h : Ev G k_M_check (d + 3) 0 0 314 [some (.ref (G.1 + 20)), some (.int (nI (x))), some (.int (nI (0))), none] [] n μ Q) : Ev G k_M_check (d + 3) 0 0 312 [some (.ref (G.1 + 20)), some (.int (nI (x))), none, none] [] n μ Q := by
  refine ev_iconst (v := (nI (0))) d_M_check_312 (by decide) ?_
  refine ev_istore_n (ls' := [_, _, _, none]) d_M_check_313 rfl (by decide) rfl rfl ?_
  exact h
theorem lp_M_ckE (hn : 41 ≤ n) (hM : ML μ (mmL G c cd hp tl pc pw pn bw bk me cl mt ts pit pat psz)) (hc : CfOK c) {Q : Oc → Nat → Mem → Prop} {x : Nat} (h : Q (.inl (some (.int (nI x)))) n μ) : Ev G k_M_check (d + 3) 0 0 371 [some (.ref (G.1 + 20)), some (.int (nI (x))), none, none] [] n μ Q := by
  refine ev_iload_n d_M_check_371 rfl rfl ?_
  refine ev_ireturn d_M_check_372 rfl rfl ?_
  exact h
theorem ct_M_check (hn : 41 ≤ n) (hM : ML μ (mmL G c cd hp tl pc pw pn bw bk me cl mt ts pit pat psz)) (hc : CfOK c) : Ct G k_M_check (d + 3) 0 0 [.ref (G.1 + 20)] n μ (MU G n μ (some (.int (nI (chkN c)))) (mmL G c 0 hp tl pc pw pn bw bk me cl mt ts pit pat psz)) := by
  obtain ⟨⟨hst1, hst2⟩, hfr, hpn, hpp, hmn, hwd, hnd, hpu, hnr, hbr, hle, hdef⟩ := id hc
  have hF : FrM μ μ := fun t _ => rfl
  generalize hQ : (MU G n μ (some (.int (nI (chkN c)))) (mmL G c 0 hp tl pc pw pn bw bk me cl mt ts pit pat psz)) = Q
  refine Ct.ofp (r := 3) (ls := [some (.ref (G.1 + 20)), none, none, none]) rfl (Nat.le_of_ble_eq_true rfl) ?_
  refine ev_aload_n d_M_check_0 rfl rfl ?_
  refine ev_iconst (v := (nI (0))) d_M_check_1 (by decide) ?_
  refine ev_putM (kf := 0) d_M_check_2 fl_M_76 (by decide) rfl rfl rfl rfl (by omega) hM rfl (Nat.le_of_ble_eq_true rfl) (fun ν hM hf => ?_)
  have hM : ML ν (mmL G c 0 hp tl pc pw pn bw bk me cl mt ts pit pat psz) := hM
  have hF := frT hf hF
  have hJ_18 : ∀ x : Nat, (x = if gapB c (c.st + 1) then 7 else 0) → Ev G k_M_check (d + 3) 0 0 18 [some (.ref (G.1 + 20)), none, none, none] [.int (nI (x))] n ν Q := by
    intro x hJ
    refine ev_istore_n (ls' := [_, _, none, none]) d_M_check_18 rfl (by decide) rfl rfl ?_
    refine ev_iconst (v := (nI (0))) d_M_check_19 (by decide) ?_
    refine ev_istore_n (ls' := [_, _, _, none]) d_M_check_20 rfl (by decide) rfl rfl ?_
    have h1 := lp_M_ck1 (d := d) (b0 := if anyN (fun a => anyN (shareB c a) a) c.mn then 2 else if anyN (fun s => anyN (ofB c s) c.mn) c.st then 3 else if anyN (misB c) c.mn then 4 else if anyN (unmB c) c.mn then 5 else if anyN (fun a => anyN ((fun a b => touchB c a b && c.br a b) a) a) c.mn then 6 else if gapB c (c.st + 1) then 7 else 0) hn hM hc (lp_M_ckE (Q := Q) hn hM hc (by subst hQ; rw [← ck_eq hc]; exact ⟨rfl, rfl, hM, hF⟩)) (c.mn + 1) 0 (by omega) (by omega)
    have h2 := lp_M_ck2 (d := d) (b0 := if anyN (fun s => anyN (ofB c s) c.mn) c.st then 3 else if anyN (misB c) c.mn then 4 else if anyN (unmB c) c.mn then 5 else if anyN (fun a => anyN ((fun a b => touchB c a b && c.br a b) a) a) c.mn then 6 else if gapB c (c.st + 1) then 7 else 0) hn hM hc (lp_M_ckz312 h1) (c.mn + 1) 0 (by omega) (by omega)
    have h3 := lp_M_ck3 (d := d) (b0 := if anyN (misB c) c.mn then 4 else if anyN (unmB c) c.mn then 5 else if anyN (fun a => anyN ((fun a b => touchB c a b && c.br a b) a) a) c.mn then 6 else if gapB c (c.st + 1) then 7 else 0) hn hM hc (lp_M_ckz217 h2) (c.st + 1) 0 (by omega) (by omega)
    have h4 := lp_M_ck4 (d := d) (b0 := if anyN (unmB c) c.mn then 5 else if anyN (fun a => anyN ((fun a b => touchB c a b && c.br a b) a) a) c.mn then 6 else if gapB c (c.st + 1) then 7 else 0) hn hM hc (lp_M_ckz161 h3) (c.mn + 1) 0 (by omega) (by omega)
    have h5 := lp_M_ck5 (d := d) (b0 := if anyN (fun a => anyN ((fun a b => touchB c a b && c.br a b) a) a) c.mn then 6 else if gapB c (c.st + 1) then 7 else 0) hn hM hc (lp_M_ckz122 h4) (c.mn + 1) 0 (by omega) (by omega)
    have h6 := lp_M_ck6 (d := d) (b0 := if gapB c (c.st + 1) then 7 else 0) hn hM hc (lp_M_ckz78 h5) (c.mn + 1) 0 (by omega) (by omega)
    subst hJ
    exact h6
  refine ev_aload_n d_M_check_5 rfl rfl ?_
  refine cv (mc' := 0) (ms' := 0) (k' := k_M_hasGap) (As := []) (stk := []) d_M_check_6 ml_M_203 kk_M_hasGap rfl rfl (Nat.le_of_ble_eq_true rfl) (by omega) (hM 0 _ rfl) rfl rfl (ct_M_hasGap (d := d) hn hM hc) (rd ?_)
  refine ev_if_eq d_M_check_9 (fun c_9 => ?_) (fun c_9 => ?_)
  ·
    have c_9 := b2_f c_9
    refine ev_iconst (v := (nI (0))) d_M_check_17 (by decide) ?_
    exact hJ_18 0 (by rw [c_9]; rfl)
  ·
    have c_9 := b2_t c_9
    refine ev_bipush (v := (nI (7))) d_M_check_12 (by decide) ?_
    refine ev_goto d_M_check_14 ?_
    exact hJ_18 7 (by rw [c_9]; rfl)
theorem lp_M_row2 {Q : Oc → Nat → Mem → Prop} {a xx : Nat} (hn : 41 ≤ n) (hM : ML μ (mmL G c cd hp tl pc pw pn bw bk me cl mt ts pit pat psz)) (hc : CfOK c) (ha : a < c.mn) (hexit : Ev G k_M_row (d + 2) 0 0 82 [some (.ref (G.1 + 20)), some (.long (lN (xx + rowI c a a))), none, some (.int (nI (a))), none] [] n μ Q) : ∀ (m b : Nat), b ≤ a → a < b + m → Ev G k_M_row (d + 2) 0 0 41 [some (.ref (G.1 + 20)), some (.long (lN (xx + rowI c a b))), none, some (.int (nI (a))), some (.int (nI (b)))] [] n μ Q := by
  obtain ⟨⟨hst1, hst2⟩, hfr, hpn, hpp, hmn, hwd, hnd, hpu, hnr, hbr, hle, hdef⟩ := id hc
  intro m
  induction m with
  | zero =>
    intro b h1 h2
    exact absurd h2 (by omega)
  | succ m ih =>
    intro b hb hbm
    refine ev_iload d_M_row_41 rfl ?_
    refine ev_iload_n d_M_row_43 rfl rfl ?_
    refine ev_icmp_ge d_M_row_44 (fun c_44 => ?_) (fun c_44 => ?_)
    ·
      simp (disch := omega) only [nI_ltI, nI_leI, nI_eq, Nat.not_lt, Nat.not_le] at c_44
      have hb2 : b = a := by omega
      subst hb2
      exact Ev.fg [true, true, false, true, false] rfl hexit
    ·
      simp (disch := omega) only [nI_ltI, nI_leI, nI_eq, Nat.not_lt, Nat.not_le] at c_44
      refine ev_lload_n d_M_row_47 rfl rfl ?_
      have hJ_74 : ∀ y : Nat, (y = if touchB c a b then c.nr a b else 0) → Ev G k_M_row (d + 2) 0 0 74 [some (.ref (G.1 + 20)), some (.long (lN (xx + rowI c a b))), none, some (.int (nI (a))), some (.int (nI (b)))] [.long (lN (y)), .long (lN (xx + rowI c a b))] n μ Q := by
        intro y hJ
        refine ev_ladd d_M_row_74 ?_
        refine ev_topl (w := (lN ((xx + rowI c a b) + y))) (lN_add _ _) ?_
        refine ev_lstore_n (ls' := [_, _, none, _, _]) d_M_row_75 rfl (by decide) rfl rfl ?_
        refine ev_iinc (v := (nI (b + 1))) (ls' := [_, _, none, _, _]) d_M_row_76 rfl (nI_1 _) (by decide) rfl rfl ?_
        refine ev_goto d_M_row_79 ?_
        have e : xx + rowI c a b + y = xx + rowI c a (b + 1) := by rw [hJ]; simp only [rowI, sm]; omega
        rw [e]
        exact ih (b + 1) (by omega) (by omega)
      refine ev_aload_n d_M_row_48 rfl rfl ?_
      refine ev_iload_n d_M_row_49 rfl rfl ?_
      refine ev_iload d_M_row_50 rfl ?_
      refine cv (mc' := 0) (ms' := 0) (k' := k_M_touch) (As := [.int (nI (a)), .int (nI (b))]) (stk := [.long (lN (xx + rowI c a b))]) d_M_row_52 ml_M_206 kk_M_touch rfl rfl (Nat.le_of_ble_eq_true rfl) (by omega) (hM 0 _ rfl) rfl rfl (ct_M_touch (d := d) ha (by omega) hn hM hc) (rd ?_)
      refine ev_if_eq d_M_row_55 (fun c_55 => ?_) (fun c_55 => ?_)
      ·
        have c_55 := b2_f c_55
        refine ev_lconst (v := lN 0) d_M_row_73 (by decide) ?_
        exact hJ_74 (0) (by rw [c_55]; rfl)
      ·
        have c_55 := b2_t c_55
        refine ev_aload_n d_M_row_58 rfl rfl ?_
        refine ev_getf (kf := 11) (T := F_M) (C := R_M) (N := 30) (v := .ref (G.1 + 28)) d_M_row_59 fl_M_33 rfl i_M (by decide) (by omega) (hM 0 _ rfl) rfl ?_
        refine ev_bipush (v := (nI (6))) d_M_row_62 (by decide) ?_
        refine ev_iload_n d_M_row_64 rfl rfl ?_
        refine ev_imul d_M_row_65 ?_
        refine ev_topi (w := (nI (6 * a))) (pk_mul _ _) ?_
        refine ev_iload d_M_row_66 rfl ?_
        refine ev_iadd d_M_row_68 ?_
        refine ev_topi (w := (nI ((6 * a) + b))) (nI_add _ _) ?_
        refine ev_lald (j := (6 * a) + b) d_M_row_69 (by omega) (hM 8 _ rfl) (by omega) (by decide) ?_
        refine ev_topl (w := lN (c.nr a b)) (by show lN (c.nr ((6 * a + b) / 6) ((6 * a + b) % 6)) = _; rw [dv6 (show b < 6 by omega), md6 (show b < 6 by omega)]) ?_
        refine ev_goto d_M_row_70 ?_
        exact hJ_74 (c.nr a b) (by rw [c_55]; rfl)
theorem lp_M_row3 {Q : Oc → Nat → Mem → Prop} {a x : Nat} (h : Ev G k_M_row (d + 2) 0 0 9 [some (.ref (G.1 + 20)), some (.long (lN (x))), none, some (.int (nI (a + 1))), none] [] n μ Q) : Ev G k_M_row (d + 2) 0 0 82 [some (.ref (G.1 + 20)), some (.long (lN (x))), none, some (.int (nI (a))), none] [] n μ Q := by
  refine ev_iinc (v := (nI (a + 1))) (ls' := [_, _, none, _, none]) d_M_row_82 rfl (nI_1 _) (by decide) rfl rfl ?_
  refine ev_goto d_M_row_85 ?_
  exact h
theorem lp_M_row1 {Q : Oc → Nat → Mem → Prop} (hn : 41 ≤ n) (hM : ML μ (mmL G c cd hp tl pc pw pn bw bk me cl mt ts pit pat psz)) (hc : CfOK c) (hQ : Q (.inl (some (.long (lN (rowN c c.mn))))) n μ) : ∀ (m a : Nat), a ≤ c.mn → c.mn < a + m → Ev G k_M_row (d + 2) 0 0 9 [some (.ref (G.1 + 20)), some (.long (lN (rowN c a))), none, some (.int (nI (a))), none] [] n μ Q := by
  obtain ⟨⟨hst1, hst2⟩, hfr, hpn, hpp, hmn, hwd, hnd, hpu, hnr, hbr, hle, hdef⟩ := id hc
  intro m
  induction m with
  | zero =>
    intro a h1 h2
    exact absurd h2 (by omega)
  | succ m ih =>
    intro a ha ham
    refine ev_iload_n d_M_row_9 rfl rfl ?_
    refine ev_aload_n d_M_row_10 rfl rfl ?_
    refine ev_getf (kf := 5) (T := F_M) (C := R_M) (N := 30) (v := .int (nI (c.mn))) d_M_row_11 fl_M_97 rfl i_M (by decide) (by omega) (hM 0 _ rfl) rfl ?_
    refine ev_icmp_ge d_M_row_14 (fun c_14 => ?_) (fun c_14 => ?_)
    ·
      simp (disch := omega) only [nI_ltI, nI_leI, nI_eq, Nat.not_lt, Nat.not_le] at c_14
      refine ev_lload_n d_M_row_88 rfl rfl ?_
      refine ev_lreturn d_M_row_89 rfl ?_
      have ha2 : a = c.mn := by omega
      subst ha2
      exact hQ
    ·
      simp (disch := omega) only [nI_ltI, nI_leI, nI_eq, Nat.not_lt, Nat.not_le] at c_14
      refine ev_lload_n d_M_row_17 rfl rfl ?_
      have hJ_36 : ∀ y : Nat, (y = if isputB c a then c.wo a else 0) → Ev G k_M_row (d + 2) 0 0 36 [some (.ref (G.1 + 20)), some (.long (lN (rowN c a))), none, some (.int (nI (a))), none] [.long (lN (y)), .long (lN (rowN c a))] n μ Q := by
        intro y hJ
        refine ev_ladd d_M_row_36 ?_
        refine ev_topl (w := (lN ((rowN c a) + y))) (lN_add _ _) ?_
        refine ev_lstore_n (ls' := [_, _, none, _, none]) d_M_row_37 rfl (by decide) rfl rfl ?_
        refine ev_iconst (v := (nI (0))) d_M_row_38 (by decide) ?_
        refine ev_istore (ls' := [_, _, none, _, _]) d_M_row_39 (by decide) rfl rfl ?_
        refine lp_M_row2 (xx := rowN c a + y) hn hM hc c_14 ?_ (a + 1) 0 (by omega) (by omega)
        have e : rowN c a + y + rowI c a a = rowN c (a + 1) := by rw [hJ]; simp only [rowN, sm]; omega
        rw [e]
        exact lp_M_row3 (ih (a + 1) (by omega) (by omega))
      refine ev_aload_n d_M_row_18 rfl rfl ?_
      refine ev_iload_n d_M_row_19 rfl rfl ?_
      refine cv (mc' := 0) (ms' := 0) (k' := k_M_isPut) (As := [.int (nI (a))]) (stk := [.long (lN (rowN c a))]) d_M_row_20 ml_M_197 kk_M_isPut rfl rfl (Nat.le_of_ble_eq_true rfl) (by omega) (hM 0 _ rfl) rfl rfl (ct_M_isPut (d := d + 1) c_14 hn hM hc) (rd ?_)
      refine ev_if_eq d_M_row_23 (fun c_23 => ?_) (fun c_23 => ?_)
      ·
        have c_23 := b2_f c_23
        refine ev_lconst (v := lN 0) d_M_row_35 (by decide) ?_
        exact hJ_36 (0) (by rw [c_23]; rfl)
      ·
        have c_23 := b2_t c_23
        refine ev_aload_n d_M_row_26 rfl rfl ?_
        refine ev_getf (kf := 7) (T := F_M) (C := R_M) (N := 30) (v := .ref (G.1 + 24)) d_M_row_27 fl_M_20 rfl i_M (by decide) (by omega) (hM 0 _ rfl) rfl ?_
        refine ev_iload_n d_M_row_30 rfl rfl ?_
        refine ev_lald (j := a) d_M_row_31 (by omega) (hM 4 _ rfl) (by omega) (by decide) ?_
        refine ev_goto d_M_row_32 ?_
        exact hJ_36 (c.wo a) (by rw [c_23]; rfl)
theorem ct_M_row (hn : 41 ≤ n) (hM : ML μ (mmL G c cd hp tl pc pw pn bw bk me cl mt ts pit pat psz)) (hc : CfOK c) : Ct G k_M_row (d + 2) 0 0 [.ref (G.1 + 20)] n μ (MU G n μ (some (.long (lN (rowN c c.mn)))) (mmL G c 0 hp tl pc pw pn bw bk me cl mt ts pit pat psz)) := by
  obtain ⟨⟨hst1, hst2⟩, hfr, hpn, hpp, hmn, hwd, hnd, hpu, hnr, hbr, hle, hdef⟩ := id hc
  have hF : FrM μ μ := fun t _ => rfl
  refine Ct.ofp (r := 4) (ls := [some (.ref (G.1 + 20)), none, none, none, none]) rfl (Nat.le_of_ble_eq_true rfl) ?_
  refine ev_aload_n d_M_row_0 rfl rfl ?_
  refine ev_iconst (v := (nI (0))) d_M_row_1 (by decide) ?_
  refine ev_putM (kf := 0) d_M_row_2 fl_M_76 (by decide) rfl rfl rfl rfl (by omega) hM rfl (Nat.le_of_ble_eq_true rfl) (fun ν hM hf => ?_)
  have hM : ML ν (mmL G c 0 hp tl pc pw pn bw bk me cl mt ts pit pat psz) := hM
  have hF := frT hf hF
  refine ev_lconst (v := lN 0) d_M_row_5 (by decide) ?_
  refine ev_lstore_n (ls' := [_, _, none, none, none]) d_M_row_6 rfl (by decide) rfl rfl ?_
  refine ev_iconst (v := (nI (0))) d_M_row_7 (by decide) ?_
  refine ev_istore_n (ls' := [_, _, none, _, none]) d_M_row_8 rfl (by decide) rfl rfl ?_
  exact lp_M_row1 hn hM hc ⟨rfl, rfl, hM, hF⟩ (c.mn + 1) 0 (by omega) (by omega)
end MRO
