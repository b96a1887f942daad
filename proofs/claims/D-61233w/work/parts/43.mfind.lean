/-! ===== find, run, variant ===== -/
theorem bit_add (x : Nat) (b : Bool) : nI x + b2 b = nI (x + if b then 1 else 0) := by
  cases b
  · show nI x + nI 0 = _; rw [nI_add]; rfl
  · show nI x + nI 1 = _; rw [nI_add]; rfl
def MP (c : Cf) (pl : Pl) (pc : Nat) (pw pn : Int64) (pit pat psz : Nat → Int32) : Prop := match pl with
  | none => True
  | some q => pc = q.1.length ∧ pw = lN q.2.1 ∧ pn = lN q.2.2 ∧ MPc c q.1 pit pat psz ∧ WkOK c q.1 0 0
def MW (G : Gm) (n : Nat) (μ : Mem) (σ : Sg) (cd : Nat) : Prop := CfOK σ.1 ∧ 41 ≤ n ∧ ∃ pc pw pn bw bk me cl mt ts pit pat psz, ML μ (mmL G σ.1 cd σ.2.2.2.isSome σ.2.1 pc pw pn bw bk me cl mt ts pit pat psz) ∧ TdOK σ.2.1 ts σ.2.2.1 ∧ MP σ.1 σ.2.2.2 pc pw pn pit pat psz
def MR (G : Gm) (n : Nat) (μ : Mem) (v : Value) (σ' : Sg) (cd : Nat) : Oc → Nat → Mem → Prop := fun o n' μ' => o = .inl (some v) ∧ n' = n ∧ MW G n μ' σ' cd ∧ FrM μ' μ
section MFD
variable {G : Gm} {d n : Nat} {μ : Mem} {c : Cf} {cd : Nat} {hp : Bool} {tl pc : Nat} {pw pn : Int64} {bw bk : Nat → Int64} {me cl mt ts pit pat psz : Nat → Int32} {td : Nat → Nat} {ul : Nat}
theorem lp_M_size {v : Nat} (hv : v < 64) : ∀ (m : Nat) (k : Nat), k ≤ 6 → 6 < k + m → Ev G k_M_size (d) 0 0 4 [some (.int (nI (v))), some (.int (nI (ssm v (fun _ => 1) k))), some (.int (nI (k)))] [] n μ ((Rd (some (.int (nI (bc v)))) n μ)) := by
  generalize hQ : (Rd (some (.int (nI (bc v)))) n μ) = Q
  intro m
  induction m with
  | zero =>
    intro k h1 h2
    exact absurd h2 (by omega)
  | succ m ih =>
    intro k hi him 
    refine ev_iload_n d_M_size_4 rfl rfl ?_
    refine ev_bipush (v := (nI (6))) d_M_size_5 (by decide) ?_
    refine ev_icmp_ge d_M_size_7 (fun c_7 => ?_) (fun c_7 => ?_)
    ·
      simp (disch := omega) only [nI_ltI, nI_leI, nI_eq, Nat.not_lt, Nat.not_le] at c_7
      refine ev_iload_n d_M_size_24 rfl rfl ?_
      refine ev_ireturn d_M_size_25 rfl rfl ?_
      subst hQ
      have hk2 : k = 6 := by omega
      subst hk2
      exact ⟨rfl, rfl, rfl⟩
    ·
      simp (disch := omega) only [nI_ltI, nI_leI, nI_eq, Nat.not_lt, Nat.not_le] at c_7
      refine ev_iload_n d_M_size_10 rfl rfl ?_
      refine ev_iload_n d_M_size_11 rfl rfl ?_
      refine ev_iload_n d_M_size_12 rfl rfl ?_
      refine ev_ishr d_M_size_13 ?_
      refine ev_iconst (v := (nI (1))) d_M_size_14 (by decide) ?_
      refine ev_iand d_M_size_15 ?_
      refine ev_topi (w := (b2 (v.testBit k))) (bit_shr v hv k (by omega)) ?_
      refine ev_iadd d_M_size_16 ?_
      refine ev_topi (w := (nI (ssm v (fun _ => 1) (k + 1)))) (bit_add _ _) ?_
      refine ev_istore_n (ls' := [_, _, _]) d_M_size_17 rfl (by decide) rfl rfl ?_
      refine ev_iinc (v := (nI (k + 1))) (ls' := [_, _, _]) d_M_size_18 rfl (nI_1 _) (by decide) rfl rfl ?_
      refine ev_goto d_M_size_21 ?_
      exact ih (k + 1) (by omega) (by omega)
theorem ct_M_size {v : Nat} (hv : v < 64) : Ct G k_M_size d 0 0 [.int (nI v)] n μ (Rd (some (.int (nI (bc v)))) n μ) := by
  refine Ct.ofp (r := 2) (ls := [some (.int (nI (v))), none, none]) rfl (Nat.le_of_ble_eq_true rfl) ?_
  refine ev_iconst (v := (nI (0))) d_M_size_0 (by decide) ?_
  refine ev_istore_n (ls' := [_, _, none]) d_M_size_1 rfl (by decide) rfl rfl ?_
  refine ev_iconst (v := (nI (0))) d_M_size_2 (by decide) ?_
  refine ev_istore_n (ls' := [_, _, _]) d_M_size_3 rfl (by decide) rfl rfl ?_
  exact lp_M_size hv 7 0 (by omega) (by omega)
theorem lp_M_find2 {Q : Oc → Nat → Mem → Prop} (hn : 41 ≤ n) (hc : CfOK c) {u : Nat} (hu : u < 2 ^ c.mn) {me0 : Nat → Int32}  (hK : ∀ (me : Nat → Int32) (ν : Mem), (∀ j, j ≠ u → me j = me0 j) → me u = b2 ((List.range c.mn).all (fun k => !c.ms k || u.testBit k)) → ML ν (mmL G c cd hp tl pc pw pn bw bk me cl mt ts pit pat psz) → FrM ν μ → Ev G k_M_find (d + 4) 0 0 73 [some (.ref (G.1 + 20)), some (.int (nI (ul))), some (.int (nI (u))), none] [] n ν Q) : ∀ (m k : Nat) (me : Nat → Int32) (ν : Mem), k ≤ c.mn → c.mn < k + m → (∀ j, j ≠ u → me j = me0 j) → me u = b2 ((List.range k).all (fun k => !c.ms k || u.testBit k)) → ML ν (mmL G c cd hp tl pc pw pn bw bk me cl mt ts pit pat psz) → FrM ν μ → Ev G k_M_find (d + 4) 0 0 21 [some (.ref (G.1 + 20)), some (.int (nI (ul))), some (.int (nI (u))), some (.int (nI (k)))] [] n ν Q := by
  obtain ⟨⟨hst1, hst2⟩, hfr, hpn, hpp, hmn, hwd, hnd, hpu, hnr, hbr, hle, hdef⟩ := id hc
  have hpw : 2 ^ c.mn ≤ 64 := Nat.pow_le_pow_right (n := 2) (by omega) hmn
  intro m
  induction m with
  | zero =>
    intro k me ν h1 h2
    exact absurd h2 (by omega)
  | succ m ih =>
    intro k me ν hk hkm hj hme hM hF
    refine ev_iload_n d_M_find_21 rfl rfl ?_
    refine ev_aload_n d_M_find_22 rfl rfl ?_
    refine ev_getf (kf := 5) (T := F_M) (C := R_M) (N := 30) (v := .int (nI (c.mn))) d_M_find_23 fl_M_97 rfl i_M (by decide) (by omega) (hM 0 _ rfl) rfl ?_
    refine ev_icmp_ge d_M_find_26 (fun c_26 => ?_) (fun c_26 => ?_)
    ·
      simp (disch := omega) only [nI_ltI, nI_leI, nI_eq, Nat.not_lt, Nat.not_le] at c_26
      have hk2 : k = c.mn := by omega
      subst hk2
      exact Ev.fg [true, true, true, false] rfl (hK me ν hj hme hM hF)
    ·
      simp (disch := omega) only [nI_ltI, nI_leI, nI_eq, Nat.not_lt, Nat.not_le] at c_26
      refine ev_aload_n d_M_find_29 rfl rfl ?_
      refine ev_getf (kf := 18) (T := F_M) (C := R_M) (N := 30) (v := .ref (G.1 + 33)) d_M_find_30 fl_M_48 rfl i_M (by decide) (by omega) (hM 0 _ rfl) rfl ?_
      refine ev_iload_n d_M_find_33 rfl rfl ?_
      have hJ_66 : ∀ b : Bool, b = (List.range ((k + 1))).all (fun k => !c.ms k || u.testBit k) → Ev G k_M_find (d + 4) 0 0 66 [some (.ref (G.1 + 20)), some (.int (nI (ul))), some (.int (nI (u))), some (.int (nI (k)))] [.int (b2 (b)), .int (nI (u)), .ref (G.1 + 33)] n ν Q := by
        intro b hJ
        refine ev_zastM (a := 13) (j := u) d_M_find_66 (by decide) (by omega) hM rfl (b2_nar _) (by omega) (by decide) (rfl) (fun ν hM hf => ?_)
        have hM : ML ν (mmL G c cd hp tl pc pw pn bw bk (upd me (u) ((b2 (b)))) cl mt ts pit pat psz) := hM
        have hF := frT hf hF
        refine ev_iinc (v := (nI (k + 1))) (ls' := [_, _, _, _]) d_M_find_67 rfl (nI_1 _) (by decide) rfl rfl ?_
        refine ev_goto d_M_find_70 ?_
        refine ih (k + 1) _ ν (by omega) (by omega) (fun j hne => (if_neg hne).trans (hj j hne)) ?_ hM hF
        rw [if_pos rfl, hJ]
      refine ev_aload_n d_M_find_34 rfl rfl ?_
      refine ev_getf (kf := 18) (T := F_M) (C := R_M) (N := 30) (v := .ref (G.1 + 33)) d_M_find_35 fl_M_48 rfl i_M (by decide) (by omega) (hM 0 _ rfl) rfl ?_
      refine ev_iload_n d_M_find_38 rfl rfl ?_
      refine ev_zald (j := u) d_M_find_39 (by omega) (hM 13 _ rfl) (by omega) (by decide) ?_
      refine ev_topi (w := b2 ((List.range k).all (fun k => !c.ms k || u.testBit k))) hme ?_
      refine ev_if_eq d_M_find_40 (fun c_40 => ?_) (fun c_40 => ?_)
      ·
        have c_40 := b2_f c_40
        refine ev_iconst (v := (nI (0))) d_M_find_65 (by decide) ?_
        exact hJ_66 false (by rw [all_succ, c_40]; rfl)
      ·
        have c_40 := b2_t c_40
        refine ev_aload_n d_M_find_43 rfl rfl ?_
        refine ev_getf (kf := 10) (T := F_M) (C := R_M) (N := 30) (v := .ref (G.1 + 27)) d_M_find_44 fl_M_30 rfl i_M (by decide) (by omega) (hM 0 _ rfl) rfl ?_
        refine ev_iload_n d_M_find_47 rfl rfl ?_
        refine ev_zald (j := k) d_M_find_48 (by omega) (hM 7 _ rfl) (by omega) (by decide) ?_
        refine ev_if_eq d_M_find_49 (fun c_49 => ?_) (fun c_49 => ?_)
        ·
          have c_49 := b2_f c_49
          refine ev_iconst (v := (nI (1))) d_M_find_61 (by decide) ?_
          refine ev_goto d_M_find_62 ?_
          exact hJ_66 true (by rw [all_succ, c_40, c_49]; rfl)
        ·
          have c_49 := b2_t c_49
          refine ev_iload_n d_M_find_52 rfl rfl ?_
          refine ev_iload_n d_M_find_53 rfl rfl ?_
          refine ev_ishr d_M_find_54 ?_
          refine ev_iconst (v := (nI (1))) d_M_find_55 (by decide) ?_
          refine ev_iand d_M_find_56 ?_
          refine ev_topi (w := (b2 (u.testBit k))) (bit_shr u (by omega) k (by omega)) ?_
          refine ev_iconst (v := (nI (1))) d_M_find_57 (by decide) ?_
          refine ev_icmp_ne d_M_find_58 (fun c_58 => ?_) (fun c_58 => ?_)
          ·
            have c_58 := b2_not1 c_58
            refine ev_iconst (v := (nI (0))) d_M_find_65 (by decide) ?_
            exact hJ_66 false (by rw [all_succ, c_40, c_49, c_58]; rfl)
          ·
            have c_58 := b2_is1 c_58
            refine ev_iconst (v := (nI (1))) d_M_find_61 (by decide) ?_
            refine ev_goto d_M_find_62 ?_
            exact hJ_66 true (by rw [all_succ, c_40, c_49, c_58]; rfl)
theorem lp_M_find3 {Q : Oc → Nat → Mem → Prop} (hn : 41 ≤ n) (hc : CfOK c) {u : Nat} (hu : u < 2 ^ c.mn) {me0 : Nat → Int32} {A : Bool} (hul : ul ≤ 6) (htd : TdOK tl ts td) (hK : ∀ (me : Nat → Int32) (ν : Mem), (∀ j, j ≠ u → me j = me0 j) → me u = b2 (A && (List.range tl).all (fun k => decide (ul ≤ bc (u ^^^ td k)))) → ML ν (mmL G c cd hp tl pc pw pn bw bk me cl mt ts pit pat psz) → FrM ν μ → Ev G k_M_find (d + 4) 0 0 124 [some (.ref (G.1 + 20)), some (.int (nI (ul))), some (.int (nI (u))), none] [] n ν Q) : ∀ (m k : Nat) (me : Nat → Int32) (ν : Mem), k ≤ tl → tl < k + m → (∀ j, j ≠ u → me j = me0 j) → me u = b2 (A && (List.range k).all (fun k => decide (ul ≤ bc (u ^^^ td k)))) → ML ν (mmL G c cd hp tl pc pw pn bw bk me cl mt ts pit pat psz) → FrM ν μ → Ev G k_M_find (d + 4) 0 0 75 [some (.ref (G.1 + 20)), some (.int (nI (ul))), some (.int (nI (u))), some (.int (nI (k)))] [] n ν Q := by
  obtain ⟨⟨hst1, hst2⟩, hfr, hpn, hpp, hmn, hwd, hnd, hpu, hnr, hbr, hle, hdef⟩ := id hc
  have hpw : 2 ^ c.mn ≤ 64 := Nat.pow_le_pow_right (n := 2) (by omega) hmn
  obtain ⟨htl, htd⟩ := id htd
  intro m
  induction m with
  | zero =>
    intro k me ν h1 h2
    exact absurd h2 (by omega)
  | succ m ih =>
    intro k me ν hk hkm hj hme hM hF
    refine ev_iload_n d_M_find_75 rfl rfl ?_
    refine ev_aload_n d_M_find_76 rfl rfl ?_
    refine ev_getf (kf := 22) (T := F_M) (C := R_M) (N := 30) (v := .int (nI (tl))) d_M_find_77 fl_M_159 rfl i_M (by decide) (by omega) (hM 0 _ rfl) rfl ?_
    refine ev_icmp_ge d_M_find_80 (fun c_80 => ?_) (fun c_80 => ?_)
    ·
      simp (disch := omega) only [nI_ltI, nI_leI, nI_eq, Nat.not_lt, Nat.not_le] at c_80
      have hk2 : k = tl := by omega
      subst hk2
      exact Ev.fg [true, true, true, false] rfl (hK me ν hj hme hM hF)
    ·
      simp (disch := omega) only [nI_ltI, nI_leI, nI_eq, Nat.not_lt, Nat.not_le] at c_80
      refine ev_aload_n d_M_find_83 rfl rfl ?_
      refine ev_getf (kf := 18) (T := F_M) (C := R_M) (N := 30) (v := .ref (G.1 + 33)) d_M_find_84 fl_M_48 rfl i_M (by decide) (by omega) (hM 0 _ rfl) rfl ?_
      refine ev_iload_n d_M_find_87 rfl rfl ?_
      have hJ_117 : ∀ b : Bool, b = (A && (List.range ((k + 1))).all (fun k => decide (ul ≤ bc (u ^^^ td k)))) → Ev G k_M_find (d + 4) 0 0 117 [some (.ref (G.1 + 20)), some (.int (nI (ul))), some (.int (nI (u))), some (.int (nI (k)))] [.int (b2 (b)), .int (nI (u)), .ref (G.1 + 33)] n ν Q := by
        intro b hJ
        refine ev_zastM (a := 13) (j := u) d_M_find_117 (by decide) (by omega) hM rfl (b2_nar _) (by omega) (by decide) (rfl) (fun ν hM hf => ?_)
        have hM : ML ν (mmL G c cd hp tl pc pw pn bw bk (upd me (u) ((b2 (b)))) cl mt ts pit pat psz) := hM
        have hF := frT hf hF
        refine ev_iinc (v := (nI (k + 1))) (ls' := [_, _, _, _]) d_M_find_118 rfl (nI_1 _) (by decide) rfl rfl ?_
        refine ev_goto d_M_find_121 ?_
        refine ih (k + 1) _ ν (by omega) (by omega) (fun j hne => (if_neg hne).trans (hj j hne)) ?_ hM hF
        rw [if_pos rfl, hJ]
      refine ev_aload_n d_M_find_88 rfl rfl ?_
      refine ev_getf (kf := 18) (T := F_M) (C := R_M) (N := 30) (v := .ref (G.1 + 33)) d_M_find_89 fl_M_48 rfl i_M (by decide) (by omega) (hM 0 _ rfl) rfl ?_
      refine ev_iload_n d_M_find_92 rfl rfl ?_
      refine ev_zald (j := u) d_M_find_93 (by omega) (hM 13 _ rfl) (by omega) (by decide) ?_
      refine ev_topi (w := b2 (A && (List.range k).all (fun k => decide (ul ≤ bc (u ^^^ td k))))) hme ?_
      refine ev_if_eq d_M_find_94 (fun c_94 => ?_) (fun c_94 => ?_)
      ·
        have c_94 := b2_f c_94
        refine ev_iconst (v := (nI (0))) d_M_find_116 (by decide) ?_
        exact hJ_117 false (by rw [all_succ, ← Bool.and_assoc, c_94]; rfl)
      ·
        have c_94 := b2_t c_94
        obtain ⟨ht1, ht2⟩ := htd k c_80
        obtain ⟨hx1, hx2⟩ := xor_dec u (by omega) (td k) ht2
        have hbc := bc_lt (u ^^^ td k)
        refine ev_iload_n d_M_find_97 rfl rfl ?_
        refine ev_aload_n d_M_find_98 rfl rfl ?_
        refine ev_getf (kf := 23) (T := F_M) (C := R_M) (N := 30) (v := .ref (G.1 + 36)) d_M_find_99 fl_M_57 rfl i_M (by decide) (by omega) (hM 0 _ rfl) rfl ?_
        refine ev_iload_n d_M_find_102 rfl rfl ?_
        refine ev_iald (j := k) d_M_find_103 (by omega) (hM 16 _ rfl) (by omega) (by decide) ?_
        refine ev_topi (w := nI (td k)) ht1 ?_
        refine ev_ixor d_M_find_104 ?_
        refine ev_topi (w := (nI (u ^^^ td k))) hx1 ?_
        refine cs (mc' := 0) (ms' := 0) (k' := k_M_size) (As := [.int (nI (u ^^^ td k))]) (stk := [.int (nI (u)), .ref (G.1 + 33)]) d_M_find_105 ml_M_162 kk_M_size rfl rfl (Nat.le_of_ble_eq_true rfl) (ct_M_size (d := d + 3) hx2) (rd ?_)
        refine ev_iload_n d_M_find_108 rfl rfl ?_
        refine ev_icmp_lt d_M_find_109 (fun c_109 => ?_) (fun c_109 => ?_)
        ·
          simp (disch := omega) only [nI_ltI, nI_leI, nI_eq, Nat.not_lt, Nat.not_le] at c_109
          refine ev_iconst (v := (nI (0))) d_M_find_116 (by decide) ?_
          exact hJ_117 false (by rw [all_succ, ← Bool.and_assoc, c_94]; simp; omega)
        ·
          simp (disch := omega) only [nI_ltI, nI_leI, nI_eq, Nat.not_lt, Nat.not_le] at c_109
          refine ev_iconst (v := (nI (1))) d_M_find_112 (by decide) ?_
          refine ev_goto d_M_find_113 ?_
          exact hJ_117 true (by rw [all_succ, ← Bool.and_assoc, c_94]; simp; omega)
theorem lp_M_findz {Q : Oc → Nat → Mem → Prop} {u : Nat} {ν : Mem} (h : Ev G k_M_find (d + 4) 0 0 75 [some (.ref (G.1 + 20)), some (.int (nI (ul))), some (.int (nI (u))), some (.int (nI (0)))] [] n ν Q) : Ev G k_M_find (d + 4) 0 0 73 [some (.ref (G.1 + 20)), some (.int (nI (ul))), some (.int (nI (u))), none] [] n ν Q := by
  refine ev_iconst (v := (nI (0))) d_M_find_73 (by decide) ?_
  refine ev_istore_n (ls' := [_, _, _, _]) d_M_find_74 rfl (by decide) rfl rfl ?_
  exact h
theorem lp_M_findy {Q : Oc → Nat → Mem → Prop} {u : Nat} {ν : Mem} (h : Ev G k_M_find (d + 4) 0 0 2 [some (.ref (G.1 + 20)), some (.int (nI (ul))), some (.int (nI (u + 1))), none] [] n ν Q) : Ev G k_M_find (d + 4) 0 0 124 [some (.ref (G.1 + 20)), some (.int (nI (ul))), some (.int (nI (u))), none] [] n ν Q := by
  refine ev_iinc (v := (nI (u + 1))) (ls' := [_, _, _, none]) d_M_find_124 rfl (nI_1 _) (by decide) rfl rfl ?_
  refine ev_goto d_M_find_127 ?_
  exact h
theorem lp_M_find1 {Q : Oc → Nat → Mem → Prop} (hul : ul ≤ 6) (htd : TdOK tl ts td) (hn : 41 ≤ n) (hc : CfOK c) (hK : ∀ (me : Nat → Int32) (ν : Mem), MeOK c me (Eb c td tl ul) → ML ν (mmL G c cd hp tl pc pw pn bw bk me cl mt ts pit pat psz) → FrM ν μ → Ev G k_M_find (d + 4) 0 0 130 [some (.ref (G.1 + 20)), some (.int (nI (ul))), none, none] [] n ν Q) : ∀ (m u : Nat) (me : Nat → Int32) (ν : Mem), u ≤ 2 ^ c.mn → 2 ^ c.mn < u + m → (∀ j, j < u → me j = b2 (Eb c td tl ul j)) → ML ν (mmL G c cd hp tl pc pw pn bw bk me cl mt ts pit pat psz) → FrM ν μ → Ev G k_M_find (d + 4) 0 0 2 [some (.ref (G.1 + 20)), some (.int (nI (ul))), some (.int (nI (u))), none] [] n ν Q := by
  obtain ⟨⟨hst1, hst2⟩, hfr, hpn, hpp, hmn, hwd, hnd, hpu, hnr, hbr, hle, hdef⟩ := id hc
  have hpw : 2 ^ c.mn ≤ 64 := Nat.pow_le_pow_right (n := 2) (by omega) hmn
  intro m
  induction m with
  | zero =>
    intro u me ν h1 h2
    exact absurd h2 (by omega)
  | succ m ih =>
    intro u me ν hu hum hme hM hF
    refine ev_iload_n d_M_find_2 rfl rfl ?_
    refine ev_iconst (v := (nI (1))) d_M_find_3 (by decide) ?_
    refine ev_aload_n d_M_find_4 rfl rfl ?_
    refine ev_getf (kf := 5) (T := F_M) (C := R_M) (N := 30) (v := .int (nI (c.mn))) d_M_find_5 fl_M_97 rfl i_M (by decide) (by omega) (hM 0 _ rfl) rfl ?_
    refine ev_ishl d_M_find_8 ?_
    refine ev_topi (w := (nI (2 ^ c.mn))) (bit_shl c.mn (by omega)) ?_
    refine ev_icmp_ge d_M_find_9 (fun c_9 => ?_) (fun c_9 => ?_)
    ·
      simp (disch := omega) only [nI_ltI, nI_leI, nI_eq, Nat.not_lt, Nat.not_le] at c_9
      have hu2 : u = 2 ^ c.mn := by omega
      subst hu2
      exact Ev.fg [true, true, false, false] rfl (hK me ν hme hM hF)
    ·
      simp (disch := omega) only [nI_ltI, nI_leI, nI_eq, Nat.not_lt, Nat.not_le] at c_9
      refine ev_aload_n d_M_find_12 rfl rfl ?_
      refine ev_getf (kf := 18) (T := F_M) (C := R_M) (N := 30) (v := .ref (G.1 + 33)) d_M_find_13 fl_M_48 rfl i_M (by decide) (by omega) (hM 0 _ rfl) rfl ?_
      refine ev_iload_n d_M_find_16 rfl rfl ?_
      refine ev_iconst (v := (nI (1))) d_M_find_17 (by decide) ?_
      refine ev_zastM (a := 13) (j := u) d_M_find_18 (by decide) (by omega) hM rfl rfl (by omega) (by decide) (rfl) (fun ν hM hf => ?_)
      have hM : ML ν (mmL G c cd hp tl pc pw pn bw bk (upd me (u) ((nI (1)))) cl mt ts pit pat psz) := hM
      have hF := frT hf hF
      refine ev_iconst (v := (nI (0))) d_M_find_19 (by decide) ?_
      refine ev_istore_n (ls' := [_, _, _, _]) d_M_find_20 rfl (by decide) rfl rfl ?_
      refine lp_M_find2 hn hc c_9 (fun me1 ν hj1 hm1 hM hF => ?_) (c.mn + 1) 0 _ ν (by omega) (by omega) (me0 := me) (fun j hne => if_neg hne) (if_pos rfl) hM hF
      refine lp_M_findz ?_
      refine lp_M_find3 hn hc c_9 (A := (List.range c.mn).all (fun k => !c.ms k || u.testBit k)) hul htd (fun me2 ν hj2 hm2 hM hF => ?_) (tl + 1) 0 me1 ν (by omega) (by omega) (me0 := me1) (fun j hne => rfl) (by rw [hm1]; simp) hM hF
      refine lp_M_findy (ih (u + 1) me2 ν (by omega) (by omega) (fun j hj => ?_) hM hF)
      by_cases e : j = u
      · subst e; exact hm2
      · rw [hj2 j e, hj1 j e]; exact hme j (by omega)
theorem ct_M_find (hul : ul ≤ 6) (htd : TdOK tl ts td) (htl : tl < 16) (hn : 41 ≤ n) (hM : ML μ (mmL G c cd hp tl pc pw pn bw bk me cl mt ts pit pat psz)) (hc : CfOK c) : Ct G k_M_find (d + 4) 0 0 [.ref (G.1 + 20), .int (nI ul)] n μ (fun (o : Oc) (n' : Nat) (μ' : Mem) => o = .inl (some (.int (b2 (Db c (Eb c td tl ul)).isSome))) ∧ n' = n ∧ FrM μ' μ ∧ (Db c (Eb c td tl ul) = none → ∃ bw' bk' me' cl' mt', ML μ' (mmL G c cd hp tl pc pw pn (bw') (bk') (me') (cl') (mt') ts pit pat psz)) ∧ (∀ q, Db c (Eb c td tl ul) = some q → ∃ bw' bk' me' cl' mt' pit' pat' psz', ML μ' (mmL G c cd hp (tl + 1) ((Wb c (Eb c td tl ul)).1.length) (lN q.1) (lN q.2) (bw') (bk') (me') (cl') (mt') (upd ts tl (nI (Wb c (Eb c td tl ul)).2)) (pit') (pat') (psz')) ∧ MPc c (Wb c (Eb c td tl ul)).1 pit' pat' psz')) := by
  obtain ⟨⟨hst1, hst2⟩, hfr, hpn, hpp, hmn, hwd, hnd, hpu, hnr, hbr, hle, hdef⟩ := id hc
  have hF : FrM μ μ := fun t _ => rfl
  generalize hQ : (fun (o : Oc) (n' : Nat) (μ' : Mem) => o = .inl (some (.int (b2 (Db c (Eb c td tl ul)).isSome))) ∧ n' = n ∧ FrM μ' μ ∧ (Db c (Eb c td tl ul) = none → ∃ bw' bk' me' cl' mt', ML μ' (mmL G c cd hp tl pc pw pn (bw') (bk') (me') (cl') (mt') ts pit pat psz)) ∧ (∀ q, Db c (Eb c td tl ul) = some q → ∃ bw' bk' me' cl' mt' pit' pat' psz', ML μ' (mmL G c cd hp (tl + 1) ((Wb c (Eb c td tl ul)).1.length) (lN q.1) (lN q.2) (bw') (bk') (me') (cl') (mt') (upd ts tl (nI (Wb c (Eb c td tl ul)).2)) (pit') (pat') (psz')) ∧ MPc c (Wb c (Eb c td tl ul)).1 pit' pat' psz')) = Q
  refine Ct.ofp (r := 2) (ls := [some (.ref (G.1 + 20)), some (.int (nI (ul))), none, none]) rfl (Nat.le_of_ble_eq_true rfl) ?_
  refine ev_iconst (v := (nI (0))) d_M_find_0 (by decide) ?_
  refine ev_istore_n (ls' := [_, _, _, none]) d_M_find_1 rfl (by decide) rfl rfl ?_
  refine lp_M_find1 hul htd hn hc (fun me ν hMe hM hF => ?_) (2 ^ c.mn + 1) 0 me μ (Nat.zero_le _) (by omega) (fun j hj => by omega) hM hF
  refine ev_aload_n d_M_find_130 rfl rfl ?_
  refine cv (mc' := 0) (ms' := 0) (k' := k_M_fill) (As := []) (stk := []) d_M_find_131 ml_M_165 kk_M_fill rfl rfl (Nat.le_of_ble_eq_true rfl) (by omega) (hM 0 _ rfl) rfl rfl (ct_M_fill (d := d) hMe hn hM hc) (af fun n1 ν hq => ?_)
  obtain ⟨hn1, bw, bk, cl, mt, hM, hf, hL, hT, hFin⟩ := hq
  subst n1
  have hF := frT hf hF
  have hD0 := hFin 0 6 0 (by omega) (by omega) (by omega) (Nat.two_pow_pos _)
  have hw0 : bw (512 * 0 + 64 * 6 + 0) = wv (Db c (Eb c td tl ul)) := hD0.1
  have hk0 : bk (512 * 0 + 64 * 6 + 0) = cv' (Db c (Eb c td tl ul)) := hD0.2
  cases hD : Db c (Eb c td tl ul) with
  | none =>
    rw [hD] at hw0 hk0
    refine ev_iconst (v := (nI (0))) d_M_find_134 (by decide) ?_
    refine ev_bipush (v := (nI (6))) d_M_find_135 (by decide) ?_
    refine ev_iconst (v := (nI (0))) d_M_find_137 (by decide) ?_
    refine cs (mc' := 0) (ms' := 0) (k' := k_M_index) (As := [.int (nI (0)), .int (nI (6)), .int (nI (0))]) (stk := []) d_M_find_138 ml_M_122 kk_M_index rfl rfl (Nat.le_of_ble_eq_true rfl) (ct_M_index (d := d + 3) 0 6 0) (rd ?_)
    refine ev_istore_n (ls' := [_, _, _, none]) d_M_find_141 rfl (by decide) rfl rfl ?_
    refine ev_aload_n d_M_find_142 rfl rfl ?_
    refine ev_getf (kf := 16) (T := F_M) (C := R_M) (N := 30) (v := .ref (G.1 + 31)) d_M_find_143 fl_M_42 rfl i_M (by decide) (by omega) (hM 0 _ rfl) rfl ?_
    refine ev_iload_n d_M_find_146 rfl rfl ?_
    refine ev_lald (j := 512 * 0 + 64 * 6 + 0) d_M_find_147 (by omega) (hM 11 _ rfl) (by omega) (by decide) ?_
    refine ev_topl (w := (wv none)) hw0 ?_
    refine ev_lconst (v := lN 0) d_M_find_148 (by decide) ?_
    refine ev_lcmp d_M_find_149 ?_
    refine ev_if_ge d_M_find_150 (fun c_150 => ?_) (fun c_150 => ?_)
    ·
      have c_150 : False := absurd (lc_ge.mp c_150) (by decide)
      exact c_150.elim
    ·
      skip
      refine ev_iconst (v := (nI (0))) d_M_find_153 (by decide) ?_
      refine ev_ireturn d_M_find_154 rfl rfl ?_
      subst hQ
      exact ⟨by rw [hD]; rfl, rfl, hF, fun _ => ⟨bw, bk, me, cl, mt, hM⟩, fun q hq => by rw [hD] at hq; cases hq⟩
  | some q =>
    rw [hD] at hw0 hk0
    have hqb := Dv_kb hc (Nat.zero_le _) q hD
    refine ev_iconst (v := (nI (0))) d_M_find_134 (by decide) ?_
    refine ev_bipush (v := (nI (6))) d_M_find_135 (by decide) ?_
    refine ev_iconst (v := (nI (0))) d_M_find_137 (by decide) ?_
    refine cs (mc' := 0) (ms' := 0) (k' := k_M_index) (As := [.int (nI (0)), .int (nI (6)), .int (nI (0))]) (stk := []) d_M_find_138 ml_M_122 kk_M_index rfl rfl (Nat.le_of_ble_eq_true rfl) (ct_M_index (d := d + 3) 0 6 0) (rd ?_)
    refine ev_istore_n (ls' := [_, _, _, none]) d_M_find_141 rfl (by decide) rfl rfl ?_
    refine ev_aload_n d_M_find_142 rfl rfl ?_
    refine ev_getf (kf := 16) (T := F_M) (C := R_M) (N := 30) (v := .ref (G.1 + 31)) d_M_find_143 fl_M_42 rfl i_M (by decide) (by omega) (hM 0 _ rfl) rfl ?_
    refine ev_iload_n d_M_find_146 rfl rfl ?_
    refine ev_lald (j := 512 * 0 + 64 * 6 + 0) d_M_find_147 (by omega) (hM 11 _ rfl) (by omega) (by decide) ?_
    refine ev_topl (w := (lN (q.1))) hw0 ?_
    refine ev_lconst (v := lN 0) d_M_find_148 (by decide) ?_
    refine ev_lcmp d_M_find_149 ?_
    refine ev_if_ge d_M_find_150 (fun c_150 => ?_) (fun c_150 => ?_)
    ·
      skip
      refine ev_aload_n d_M_find_155 rfl rfl ?_
      refine ev_aload_n d_M_find_156 rfl rfl ?_
      refine ev_getf (kf := 16) (T := F_M) (C := R_M) (N := 30) (v := .ref (G.1 + 31)) d_M_find_157 fl_M_42 rfl i_M (by decide) (by omega) (hM 0 _ rfl) rfl ?_
      refine ev_iload_n d_M_find_160 rfl rfl ?_
      refine ev_lald (j := 512 * 0 + 64 * 6 + 0) d_M_find_161 (by omega) (hM 11 _ rfl) (by omega) (by decide) ?_
      refine ev_topl (w := (lN (q.1))) hw0 ?_
      refine ev_putM (kf := 28) d_M_find_162 fl_M_168 (by decide) rfl rfl rfl rfl (by omega) hM rfl (Nat.le_of_ble_eq_true rfl) (fun ν hM hf => ?_)
      have hM : ML ν (mmL G c cd hp tl pc ((lN (q.1))) pn bw bk me cl mt ts pit pat psz) := hM
      have hF := frT hf hF
      refine ev_aload_n d_M_find_165 rfl rfl ?_
      refine ev_aload_n d_M_find_166 rfl rfl ?_
      refine ev_getf (kf := 17) (T := F_M) (C := R_M) (N := 30) (v := .ref (G.1 + 32)) d_M_find_167 fl_M_45 rfl i_M (by decide) (by omega) (hM 0 _ rfl) rfl ?_
      refine ev_iload_n d_M_find_170 rfl rfl ?_
      refine ev_lald (j := 512 * 0 + 64 * 6 + 0) d_M_find_171 (by omega) (hM 12 _ rfl) (by omega) (by decide) ?_
      refine ev_topl (w := (lN (q.2))) hk0 ?_
      refine ev_putM (kf := 29) d_M_find_172 fl_M_172 (by decide) rfl rfl rfl rfl (by omega) hM rfl (Nat.le_of_ble_eq_true rfl) (fun ν hM hf => ?_)
      have hM : ML ν (mmL G c cd hp tl pc ((lN (q.1))) ((lN (q.2))) bw bk me cl mt ts pit pat psz) := hM
      have hF := frT hf hF
      refine ev_aload_n d_M_find_175 rfl rfl ?_
      refine ev_getf (kf := 23) (T := F_M) (C := R_M) (N := 30) (v := .ref (G.1 + 36)) d_M_find_176 fl_M_57 rfl i_M (by decide) (by omega) (hM 0 _ rfl) rfl ?_
      refine ev_aload_n d_M_find_179 rfl rfl ?_
      refine ev_getf (kf := 22) (T := F_M) (C := R_M) (N := 30) (v := .int (nI (tl))) d_M_find_180 fl_M_159 rfl i_M (by decide) (by omega) (hM 0 _ rfl) rfl ?_
      refine ev_aload_n d_M_find_183 rfl rfl ?_
      refine cv (mc' := 0) (ms' := 0) (k' := k_M_walk) (As := []) (stk := [.int (nI (tl)), .ref (G.1 + 36)]) d_M_find_184 ml_M_175 kk_M_walk rfl rfl (Nat.le_of_ble_eq_true rfl) (by omega) (hM 0 _ rfl) rfl rfl (ct_M_walk (d := d + 1) (E := Eb c td tl ul) hD hL hT hFin hn hM hc) (af fun n1 ν hq => ?_)
      obtain ⟨hn1, pit', pat', psz', hM, hf, hP⟩ := hq
      subst n1
      have hM : ML ν (mmL G c cd hp tl ((wk c Tt (Eb c td tl ul) (c.st + 1) 0 6 0).1.length) ((lN (q.1))) ((lN (q.2))) bw bk me cl mt ts (pit') (pat') (psz')) := hM
      have hF := frT hf hF
      refine ev_iastM (a := 16) (j := tl) d_M_find_187 (by decide) (by omega) hM rfl (by omega) (by decide) (rfl) (fun ν hM hf => ?_)
      have hM : ML ν (mmL G c cd hp tl ((wk c Tt (Eb c td tl ul) (c.st + 1) 0 6 0).1.length) ((lN (q.1))) ((lN (q.2))) bw bk me cl mt (upd ts (tl) ((nI ((Wb c (Eb c td tl ul)).2)))) (pit') (pat') (psz')) := hM
      have hF := frT hf hF
      refine ev_aload_n d_M_find_188 rfl rfl ?_
      refine ev_dup d_M_find_189 rfl ?_
      refine ev_getf (kf := 22) (T := F_M) (C := R_M) (N := 30) (v := .int (nI (tl))) d_M_find_190 fl_M_159 rfl i_M (by decide) (by omega) (hM 0 _ rfl) rfl ?_
      refine ev_iconst (v := (nI (1))) d_M_find_193 (by decide) ?_
      refine ev_iadd d_M_find_194 ?_
      refine ev_topi (w := (nI (tl + 1))) (nI_add _ _) ?_
      refine ev_putM (kf := 22) d_M_find_195 fl_M_159 (by decide) rfl rfl rfl rfl (by omega) hM rfl (Nat.le_of_ble_eq_true rfl) (fun ν hM hf => ?_)
      have hM : ML ν (mmL G c cd hp (tl + 1) ((wk c Tt (Eb c td tl ul) (c.st + 1) 0 6 0).1.length) ((lN (q.1))) ((lN (q.2))) bw bk me cl mt (upd ts (tl) ((nI ((Wb c (Eb c td tl ul)).2)))) (pit') (pat') (psz')) := hM
      have hF := frT hf hF
      refine ev_iconst (v := (nI (1))) d_M_find_198 (by decide) ?_
      refine ev_ireturn d_M_find_199 rfl rfl ?_
      subst hQ
      refine ⟨by rw [hD]; rfl, rfl, hF, (fun q2 => by rw [hD] at q2; cases q2), fun q2 hq2 => ?_⟩
      rw [hD] at hq2
      cases hq2
      exact ⟨bw, bk, me, cl, mt, pit', pat', psz', hM, hP⟩
    ·
      simp (disch := omega) only [lc_ge, lN_le] at c_150
      omega
theorem ct_M_run {σ : Sg} {cd : Nat} (hW : MW G n μ σ cd) : Ct G k_M_run (d + 5) 0 0 [.ref (G.1 + 20)] n μ (MR G n μ (.int (iI (fdV (σ.1, 0, σ.2.2.1, none) 0))) (fdS (σ.1, 0, σ.2.2.1, none) 0) 0) := by
  obtain ⟨hc, hn, pc, pw, pn, bw, bk, me, cl, mt, ts, pit, pat, psz, hM, htd, hP⟩ := hW
  obtain ⟨c, tl, td, pl⟩ := σ
  dsimp only at hc hM htd hP ⊢
  generalize hQ : (MR G n μ (.int (iI (fdV (c, 0, td, none) 0))) (fdS (c, 0, td, none) 0) 0) = Q
  refine Ct.ofp (r := 0) (ls := [some (.ref (G.1 + 20))]) rfl (Nat.le_of_ble_eq_true rfl) ?_
  have hF : FrM μ μ := fun t _ => rfl
  generalize pl.isSome = hp at hM
  have htd0 : TdOK 0 ts td := ⟨by omega, fun k hk => by omega⟩
  have h0 := hc.1
  refine ev_aload_n d_M_run_0 rfl rfl ?_
  refine ev_iconst (v := (nI (0))) d_M_run_1 (by decide) ?_
  refine ev_putM (kf := 0) d_M_run_2 fl_M_76 (by decide) rfl rfl rfl rfl (by omega) hM rfl (Nat.le_of_ble_eq_true rfl) (fun ν hM hf => ?_)
  have hM : ML ν (mmL G c 0 hp tl pc pw pn bw bk me cl mt ts pit pat psz) := hM
  have hF := frT hf hF
  refine ev_aload_n d_M_run_5 rfl rfl ?_
  refine ev_iconst (v := (nI (0))) d_M_run_6 (by decide) ?_
  refine ev_putM (kf := 22) d_M_run_7 fl_M_159 (by decide) rfl rfl rfl rfl (by omega) hM rfl (Nat.le_of_ble_eq_true rfl) (fun ν hM hf => ?_)
  have hM : ML ν (mmL G c 0 hp 0 pc pw pn bw bk me cl mt ts pit pat psz) := hM
  have hF := frT hf hF
  refine ev_aload_n d_M_run_10 rfl rfl ?_
  refine ev_aload_n d_M_run_11 rfl rfl ?_
  refine ev_iconst (v := (nI (0))) d_M_run_12 (by decide) ?_
  refine cv (mc' := 0) (ms' := 0) (k' := k_M_find) (As := [.int (nI (0))]) (stk := [.ref (G.1 + 20)]) d_M_run_13 ml_M_179 kk_M_find rfl rfl (Nat.le_of_ble_eq_true rfl) (by omega) (hM 0 _ rfl) rfl rfl (ct_M_find (d := d) (ul := 0) (td := td) (by omega) htd0 (by omega) hn hM hc) (af fun n1 ν hq => ?_)
  obtain ⟨hn1, hf, hN, hS⟩ := hq
  subst n1
  have hF := frT hf hF
  cases hD : Db c (Eb c td 0 0) with
  | none =>
    obtain ⟨bw, bk, me, cl, mt, hM⟩ := hN hD
    have e1 : fdV (c, 0, td, none) 0 = -1 := by
      show (match Db c (Eb c td 0 0) with | none => (-1 : Int) | some _ => _) = _
      rw [hD]
    have e2 : fdS (c, 0, td, none) 0 = (c, 0, td, none) := by
      show (match Db c (Eb c td 0 0) with | none => ((c, 0, td, none) : Sg) | some _ => _) = _
      rw [hD]
    refine ev_putM (kf := 21) d_M_run_16 fl_M_79 (by decide) rfl rfl (b2_nar _) (b2_fit _) (by omega) hM rfl (Nat.le_of_ble_eq_true rfl) (fun ν hM hf => ?_)
    have hM : ML ν (mmL G c 0 false 0 pc pw pn bw bk me cl mt ts pit pat psz) := hM
    have hF := frT hf hF
    refine ev_aload_n d_M_run_19 rfl rfl ?_
    refine ev_getf (kf := 21) (T := F_M) (C := R_M) (N := 30) (v := .int (b2 (false))) d_M_run_20 fl_M_79 rfl i_M (by decide) (by omega) (hM 0 _ rfl) rfl ?_
    refine ev_if_eq d_M_run_23 (fun c_23 => ?_) (fun c_23 => ?_)
    ·
      have c_23 := b2_f c_23
      refine ev_iconst (v := (iI ((-1)))) d_M_run_33 (by decide) ?_
      refine ev_ireturn d_M_run_34 rfl rfl ?_
      subst hQ
      rw [e1, e2]
      exact ⟨rfl, rfl, ⟨hc, hn, _, _, _, bw, bk, me, cl, mt, ts, pit, pat, psz, hM, htd0, trivial⟩, hF⟩
    ·
      have c_23 := b2_t c_23
      cases c_23
  | some q =>
    obtain ⟨bw, bk, me, cl, mt, pit, pat, psz, hM, hPc⟩ := hS q hD
    have e1 : fdV (c, 0, td, none) 0 = ((Wb c (Eb c td 0 0)).1.length : Int) := by
      show (match Db c (Eb c td 0 0) with | none => (-1 : Int) | some _ => _) = _
      rw [hD]
    have e2 : fdS (c, 0, td, none) 0 = (c, 0 + 1, (fun j => if j = 0 then (Wb c (Eb c td 0 0)).2 else td j), some ((Wb c (Eb c td 0 0)).1, q.1, q.2)) := by
      show (match Db c (Eb c td 0 0) with | none => ((c, 0, td, none) : Sg) | some _ => _) = _
      rw [hD]
    have hS64 : (Wb c (Eb c td 0 0)).2 < 64 := Nat.lt_of_lt_of_le (wk_set _ _ _ _ (Nat.two_pow_pos _)) (Nat.pow_le_pow_right (n := 2) (i := c.mn) (j := 6) (by omega) hc.2.2.2.2.1)
    refine ev_putM (kf := 21) d_M_run_16 fl_M_79 (by decide) rfl rfl (b2_nar _) (b2_fit _) (by omega) hM rfl (Nat.le_of_ble_eq_true rfl) (fun ν hM hf => ?_)
    have hM : ML ν (mmL G c 0 true (0 + 1) ((Wb c (Eb c td 0 0)).1.length) (lN q.1) (lN q.2) bw bk me cl mt (upd ts 0 (nI (Wb c (Eb c td 0 0)).2)) pit pat psz) := hM
    have hF := frT hf hF
    refine ev_aload_n d_M_run_19 rfl rfl ?_
    refine ev_getf (kf := 21) (T := F_M) (C := R_M) (N := 30) (v := .int (b2 (true))) d_M_run_20 fl_M_79 rfl i_M (by decide) (by omega) (hM 0 _ rfl) rfl ?_
    refine ev_if_eq d_M_run_23 (fun c_23 => ?_) (fun c_23 => ?_)
    ·
      have c_23 := b2_f c_23
      cases c_23
    ·
      have c_23 := b2_t c_23
      refine ev_aload_n d_M_run_26 rfl rfl ?_
      refine ev_getf (kf := 24) (T := F_M) (C := R_M) (N := 30) (v := .int (nI ((Wb c (Eb c td 0 0)).1.length))) d_M_run_27 fl_M_149 rfl i_M (by decide) (by omega) (hM 0 _ rfl) rfl ?_
      refine ev_goto d_M_run_30 ?_
      refine ev_ireturn d_M_run_34 rfl rfl ?_
      subst hQ
      rw [e1, e2, ← nI_iI]
      exact ⟨rfl, rfl, ⟨hc, hn, _, _, _, bw, bk, me, cl, mt, _, pit, pat, psz, hM, htd0.up (by omega) hS64, rfl, rfl, rfl, hPc, wk_ok hc (c.st + 1) 0 6 0 q (by omega) (by omega) hD⟩, hF⟩
theorem ct_M_variant_ok {pl0 : List (Nat × Nat) × Nat × Nat} (hul : ul ≤ 6) (htl : tl < 16) (htd : TdOK tl ts td) (hP : MP c (some pl0) pc pw pn pit pat psz) (hn : 41 ≤ n) (hM : ML μ (mmL G c cd true tl pc pw pn bw bk me cl mt ts pit pat psz)) (hc : CfOK c) : Ct G k_M_variant (d + 5) 0 0 [.ref (G.1 + 20), .int (nI ul)] n μ (MR G n μ (.int (iI (fdV (c, tl, td, some pl0) ul))) (fdS (c, tl, td, some pl0) ul) 0) := by
  generalize hQ : (MR G n μ (.int (iI (fdV (c, tl, td, some pl0) ul))) (fdS (c, tl, td, some pl0) ul) 0) = Q
  refine Ct.ofp (r := 0) (ls := [some (.ref (G.1 + 20)), some (.int (nI ul))]) rfl (Nat.le_of_ble_eq_true rfl) ?_
  have hF : FrM μ μ := fun t _ => rfl
  refine ev_aload_n d_M_variant_0 rfl rfl ?_
  refine ev_aload_n d_M_variant_1 rfl rfl ?_
  refine ev_getf (kf := 21) (T := F_M) (C := R_M) (N := 30) (v := .int (b2 (true))) d_M_variant_2 fl_M_79 rfl i_M (by decide) (by omega) (hM 0 _ rfl) rfl ?_
  refine ev_if_eq d_M_variant_5 (fun c_5 => ?_) (fun c_5 => ?_)
  ·
    have c_5 := b2_f c_5
    cases c_5
  ·
    have c_5 := b2_t c_5
    refine ev_aload_n d_M_variant_8 rfl rfl ?_
    refine ev_getf (kf := 22) (T := F_M) (C := R_M) (N := 30) (v := .int (nI (tl))) d_M_variant_9 fl_M_159 rfl i_M (by decide) (by omega) (hM 0 _ rfl) rfl ?_
    refine ev_bipush (v := (nI (16))) d_M_variant_12 (by decide) ?_
    refine ev_icmp_ne d_M_variant_14 (fun c_14 => ?_) (fun c_14 => ?_)
    ·
      simp (disch := omega) only [nI_ltI, nI_leI, nI_eq, Nat.not_lt, Nat.not_le] at c_14
      refine ev_iload_n d_M_variant_21 rfl rfl ?_
      refine ev_i2l d_M_variant_22 ?_
      refine ev_topl (w := (lN (ul))) (nI_l (by omega)) ?_
      refine ev_lconst (v := lN 0) d_M_variant_23 (by decide) ?_
      refine ev_ldc2 (v := (6)) d_M_variant_24 ck_M_182 ?_
      refine ev_topl (w := lN 6) (by decide) ?_
      refine cs (mc' := 0) (ms' := 0) (k' := k_M_isIn) (As := [.long (lN (ul)), .long (lN (0)), .long (lN (6))]) (stk := [.ref (G.1 + 20)]) d_M_variant_27 ml_M_91 kk_M_isIn rfl rfl (Nat.le_of_ble_eq_true rfl) (ct_M_isInV (d := d + 4) (LZ_n (by omega)) (LZ_n (by omega)) (LZ_n (by omega))) (rd ?_)
      refine ev_if_eq d_M_variant_30 (fun c_30 => ?_) (fun c_30 => ?_)
      ·
        have c_30 := b2_f c_30
        exfalso; rw [decide_eq_false_iff_not] at c_30; omega
      ·
        have c_30 := b2_t c_30
        refine ev_iconst (v := (nI (0))) d_M_variant_33 (by decide) ?_
        refine ev_goto d_M_variant_34 ?_
        refine ev_putM (kf := 0) d_M_variant_38 fl_M_76 (by decide) rfl rfl rfl rfl (by omega) hM rfl (Nat.le_of_ble_eq_true rfl) (fun ν hM hf => ?_)
        have hM : ML ν (mmL G c 0 true tl pc pw pn bw bk me cl mt ts pit pat psz) := hM
        have hF := frT hf hF
        refine ev_aload_n d_M_variant_41 rfl rfl ?_
        refine ev_getf (kf := 0) (T := F_M) (C := R_M) (N := 30) (v := .int (nI (0))) d_M_variant_42 fl_M_76 rfl i_M (by decide) (by omega) (hM 0 _ rfl) rfl ?_
        refine ev_if_le d_M_variant_45 (fun c_45 => ?_) (fun c_45 => ?_)
        ·
          skip
          refine ev_aload_n d_M_variant_50 rfl rfl ?_
          refine ev_iload_n d_M_variant_51 rfl rfl ?_
          refine cv (mc' := 0) (ms' := 0) (k' := k_M_find) (As := [.int (nI (ul))]) (stk := []) d_M_variant_52 ml_M_179 kk_M_find rfl rfl (Nat.le_of_ble_eq_true rfl) (by omega) (hM 0 _ rfl) rfl rfl (ct_M_find (d := d) (ul := ul) (td := td) hul htd htl hn hM hc) (af fun n1 ν hq => ?_)
          obtain ⟨hn1, hf, hN, hS⟩ := hq
          subst n1
          have hF := frT hf hF
          cases hD : Db c (Eb c td tl ul) with
          | none =>
            obtain ⟨bw, bk, me, cl, mt, hM⟩ := hN hD
            have e1 : fdV (c, tl, td, some pl0) ul = -1 := by
              show (match Db c (Eb c td tl ul) with | none => (-1 : Int) | some _ => _) = _
              rw [hD]
            have e2 : fdS (c, tl, td, some pl0) ul = (c, tl, td, some pl0) := by
              show (match Db c (Eb c td tl ul) with | none => ((c, tl, td, some pl0) : Sg) | some _ => _) = _
              rw [hD]
            refine ev_if_eq d_M_variant_55 (fun c_55 => ?_) (fun c_55 => ?_)
            ·
              have c_55 := b2_f c_55
              refine ev_iconst (v := (iI ((-1)))) d_M_variant_65 (by decide) ?_
              refine ev_ireturn d_M_variant_66 rfl rfl ?_
              subst hQ
              rw [e1, e2]
              exact ⟨rfl, rfl, ⟨hc, hn, _, _, _, bw, bk, me, cl, mt, ts, pit, pat, psz, hM, htd, hP⟩, hF⟩
            ·
              have c_55 := b2_t c_55
              cases c_55
          | some q =>
            obtain ⟨bw, bk, me, cl, mt, pit, pat, psz, hM, hPc⟩ := hS q hD
            have e1 : fdV (c, tl, td, some pl0) ul = ((Wb c (Eb c td tl ul)).1.length : Int) := by
              show (match Db c (Eb c td tl ul) with | none => (-1 : Int) | some _ => _) = _
              rw [hD]
            have e2 : fdS (c, tl, td, some pl0) ul = (c, tl + 1, (fun j => if j = tl then (Wb c (Eb c td tl ul)).2 else td j), some ((Wb c (Eb c td tl ul)).1, q.1, q.2)) := by
              show (match Db c (Eb c td tl ul) with | none => ((c, tl, td, some pl0) : Sg) | some _ => _) = _
              rw [hD]
            have hS64 : (Wb c (Eb c td tl ul)).2 < 64 := Nat.lt_of_lt_of_le (wk_set _ _ _ _ (Nat.two_pow_pos _)) (Nat.pow_le_pow_right (n := 2) (i := c.mn) (j := 6) (by omega) hc.2.2.2.2.1)
            refine ev_if_eq d_M_variant_55 (fun c_55 => ?_) (fun c_55 => ?_)
            ·
              have c_55 := b2_f c_55
              cases c_55
            ·
              have c_55 := b2_t c_55
              refine ev_aload_n d_M_variant_58 rfl rfl ?_
              refine ev_getf (kf := 24) (T := F_M) (C := R_M) (N := 30) (v := .int (nI ((Wb c (Eb c td tl ul)).1.length))) d_M_variant_59 fl_M_149 rfl i_M (by decide) (by omega) (hM 0 _ rfl) rfl ?_
              refine ev_goto d_M_variant_62 ?_
              refine ev_ireturn d_M_variant_66 rfl rfl ?_
              subst hQ
              rw [e1, e2, ← nI_iI]
              exact ⟨rfl, rfl, ⟨hc, hn, _, _, _, bw, bk, me, cl, mt, _, pit, pat, psz, hM, htd.up htl hS64, rfl, rfl, rfl, hPc, wk_ok hc (c.st + 1) 0 6 0 q (by omega) (by omega) hD⟩, hF⟩
        ·
          skip
          exact absurd (by decide) c_45
    ·
      simp (disch := omega) only [nI_ltI, nI_leI, nI_eq, Nat.not_lt, Nat.not_le] at c_14
      omega
theorem ct_M_variant_no1a {a : Int} (ha1 : -2147483648 ≤ a) (ha2 : a < 2147483648)  (hn : 41 ≤ n) (hM : ML μ (mmL G c cd false tl pc pw pn bw bk me cl mt ts pit pat psz)) : Ct G k_M_variant (d + 5) 0 0 [.ref (G.1 + 20), .int (iI a)] n μ (MU G n μ (some (.int (nI 0))) (mmL G c 1 false tl pc pw pn bw bk me cl mt ts pit pat psz)) := by
  have hF : FrM μ μ := fun t _ => rfl
  refine Ct.ofp (r := 0) (ls := [some (.ref (G.1 + 20)), some (.int (iI (a)))]) rfl (Nat.le_of_ble_eq_true rfl) ?_
  refine ev_aload_n d_M_variant_0 rfl rfl ?_
  refine ev_aload_n d_M_variant_1 rfl rfl ?_
  refine ev_getf (kf := 21) (T := F_M) (C := R_M) (N := 30) (v := .int (b2 (false))) d_M_variant_2 fl_M_79 rfl i_M (by decide) (by omega) (hM 0 _ rfl) rfl ?_
  refine ev_if_eq d_M_variant_5 (fun c_5 => ?_) (fun c_5 => ?_)
  ·
    have c_5 := b2_f c_5
    refine ev_iconst (v := (nI (1))) d_M_variant_17 (by decide) ?_
    refine ev_goto d_M_variant_18 ?_
    refine ev_putM (kf := 0) d_M_variant_38 fl_M_76 (by decide) rfl rfl rfl rfl (by omega) hM rfl (Nat.le_of_ble_eq_true rfl) (fun ν hM hf => ?_)
    have hM : ML ν (mmL G c 1 false tl pc pw pn bw bk me cl mt ts pit pat psz) := hM
    have hF := frT hf hF
    refine ev_aload_n d_M_variant_41 rfl rfl ?_
    refine ev_getf (kf := 0) (T := F_M) (C := R_M) (N := 30) (v := .int (nI (1))) d_M_variant_42 fl_M_76 rfl i_M (by decide) (by omega) (hM 0 _ rfl) rfl ?_
    refine ev_if_le d_M_variant_45 (fun c_45 => ?_) (fun c_45 => ?_)
    ·
      skip
      exact absurd c_45 (by decide)
    ·
      skip
      refine ev_iconst (v := (nI (0))) d_M_variant_48 (by decide) ?_
      refine ev_ireturn d_M_variant_49 rfl rfl ?_
      exact ⟨rfl, rfl, hM, hF⟩
  ·
    have c_5 := b2_t c_5
    cases c_5
theorem ct_M_variant_no1b {a : Int} (ha1 : -2147483648 ≤ a) (ha2 : a < 2147483648) (htl : ¬ tl < 16) (htl2 : tl ≤ 16) (hn : 41 ≤ n) (hM : ML μ (mmL G c cd true tl pc pw pn bw bk me cl mt ts pit pat psz)) : Ct G k_M_variant (d + 5) 0 0 [.ref (G.1 + 20), .int (iI a)] n μ (MU G n μ (some (.int (nI 0))) (mmL G c 1 true tl pc pw pn bw bk me cl mt ts pit pat psz)) := by
  have hF : FrM μ μ := fun t _ => rfl
  refine Ct.ofp (r := 0) (ls := [some (.ref (G.1 + 20)), some (.int (iI (a)))]) rfl (Nat.le_of_ble_eq_true rfl) ?_
  refine ev_aload_n d_M_variant_0 rfl rfl ?_
  refine ev_aload_n d_M_variant_1 rfl rfl ?_
  refine ev_getf (kf := 21) (T := F_M) (C := R_M) (N := 30) (v := .int (b2 (true))) d_M_variant_2 fl_M_79 rfl i_M (by decide) (by omega) (hM 0 _ rfl) rfl ?_
  refine ev_if_eq d_M_variant_5 (fun c_5 => ?_) (fun c_5 => ?_)
  ·
    have c_5 := b2_f c_5
    cases c_5
  ·
    have c_5 := b2_t c_5
    refine ev_aload_n d_M_variant_8 rfl rfl ?_
    refine ev_getf (kf := 22) (T := F_M) (C := R_M) (N := 30) (v := .int (nI (tl))) d_M_variant_9 fl_M_159 rfl i_M (by decide) (by omega) (hM 0 _ rfl) rfl ?_
    refine ev_bipush (v := (nI (16))) d_M_variant_12 (by decide) ?_
    refine ev_icmp_ne d_M_variant_14 (fun c_14 => ?_) (fun c_14 => ?_)
    ·
      simp (disch := omega) only [nI_ltI, nI_leI, nI_eq, Nat.not_lt, Nat.not_le] at c_14
      omega
    ·
      simp (disch := omega) only [nI_ltI, nI_leI, nI_eq, Nat.not_lt, Nat.not_le] at c_14
      refine ev_iconst (v := (nI (1))) d_M_variant_17 (by decide) ?_
      refine ev_goto d_M_variant_18 ?_
      refine ev_putM (kf := 0) d_M_variant_38 fl_M_76 (by decide) rfl rfl rfl rfl (by omega) hM rfl (Nat.le_of_ble_eq_true rfl) (fun ν hM hf => ?_)
      have hM : ML ν (mmL G c 1 true tl pc pw pn bw bk me cl mt ts pit pat psz) := hM
      have hF := frT hf hF
      refine ev_aload_n d_M_variant_41 rfl rfl ?_
      refine ev_getf (kf := 0) (T := F_M) (C := R_M) (N := 30) (v := .int (nI (1))) d_M_variant_42 fl_M_76 rfl i_M (by decide) (by omega) (hM 0 _ rfl) rfl ?_
      refine ev_if_le d_M_variant_45 (fun c_45 => ?_) (fun c_45 => ?_)
      ·
        skip
        exact absurd c_45 (by decide)
      ·
        skip
        refine ev_iconst (v := (nI (0))) d_M_variant_48 (by decide) ?_
        refine ev_ireturn d_M_variant_49 rfl rfl ?_
        exact ⟨rfl, rfl, hM, hF⟩
theorem ct_M_variant_no2 {a : Int} (ha1 : -2147483648 ≤ a) (ha2 : a < 2147483648) (htl : tl < 16) (hno : ¬ (0 ≤ a ∧ a ≤ 6)) (hn : 41 ≤ n) (hM : ML μ (mmL G c cd true tl pc pw pn bw bk me cl mt ts pit pat psz)) : Ct G k_M_variant (d + 5) 0 0 [.ref (G.1 + 20), .int (iI a)] n μ (MU G n μ (some (.int (nI 0))) (mmL G c 2 true tl pc pw pn bw bk me cl mt ts pit pat psz)) := by
  have hF : FrM μ μ := fun t _ => rfl
  refine Ct.ofp (r := 0) (ls := [some (.ref (G.1 + 20)), some (.int (iI (a)))]) rfl (Nat.le_of_ble_eq_true rfl) ?_
  refine ev_aload_n d_M_variant_0 rfl rfl ?_
  refine ev_aload_n d_M_variant_1 rfl rfl ?_
  refine ev_getf (kf := 21) (T := F_M) (C := R_M) (N := 30) (v := .int (b2 (true))) d_M_variant_2 fl_M_79 rfl i_M (by decide) (by omega) (hM 0 _ rfl) rfl ?_
  refine ev_if_eq d_M_variant_5 (fun c_5 => ?_) (fun c_5 => ?_)
  ·
    have c_5 := b2_f c_5
    cases c_5
  ·
    have c_5 := b2_t c_5
    refine ev_aload_n d_M_variant_8 rfl rfl ?_
    refine ev_getf (kf := 22) (T := F_M) (C := R_M) (N := 30) (v := .int (nI (tl))) d_M_variant_9 fl_M_159 rfl i_M (by decide) (by omega) (hM 0 _ rfl) rfl ?_
    refine ev_bipush (v := (nI (16))) d_M_variant_12 (by decide) ?_
    refine ev_icmp_ne d_M_variant_14 (fun c_14 => ?_) (fun c_14 => ?_)
    ·
      simp (disch := omega) only [nI_ltI, nI_leI, nI_eq, Nat.not_lt, Nat.not_le] at c_14
      refine ev_iload_n d_M_variant_21 rfl rfl ?_
      refine ev_i2l d_M_variant_22 ?_
      refine ev_lconst (v := lN 0) d_M_variant_23 (by decide) ?_
      refine ev_ldc2 (v := (6)) d_M_variant_24 ck_M_182 ?_
      refine ev_topl (w := lN 6) (by decide) ?_
      refine cs (mc' := 0) (ms' := 0) (k' := k_M_isIn) (As := [.long (((iI (a))).toInt64), .long (lN (0)), .long (lN (6))]) (stk := [.ref (G.1 + 20)]) d_M_variant_27 ml_M_91 kk_M_isIn rfl rfl (Nat.le_of_ble_eq_true rfl) (ct_M_isInV (d := d + 4) (LZ_z (by omega) (by omega)) (LZ_n (by omega)) (LZ_n (by omega))) (rd ?_)
      refine ev_if_eq d_M_variant_30 (fun c_30 => ?_) (fun c_30 => ?_)
      ·
        have c_30 := b2_f c_30
        refine ev_iconst (v := (nI (2))) d_M_variant_37 (by decide) ?_
        refine ev_putM (kf := 0) d_M_variant_38 fl_M_76 (by decide) rfl rfl rfl rfl (by omega) hM rfl (Nat.le_of_ble_eq_true rfl) (fun ν hM hf => ?_)
        have hM : ML ν (mmL G c 2 true tl pc pw pn bw bk me cl mt ts pit pat psz) := hM
        have hF := frT hf hF
        refine ev_aload_n d_M_variant_41 rfl rfl ?_
        refine ev_getf (kf := 0) (T := F_M) (C := R_M) (N := 30) (v := .int (nI (2))) d_M_variant_42 fl_M_76 rfl i_M (by decide) (by omega) (hM 0 _ rfl) rfl ?_
        refine ev_if_le d_M_variant_45 (fun c_45 => ?_) (fun c_45 => ?_)
        ·
          skip
          exact absurd c_45 (by decide)
        ·
          skip
          refine ev_iconst (v := (nI (0))) d_M_variant_48 (by decide) ?_
          refine ev_ireturn d_M_variant_49 rfl rfl ?_
          exact ⟨rfl, rfl, hM, hF⟩
      ·
        have c_30 := b2_t c_30
        exact absurd (of_decide_eq_true c_30) hno
    ·
      simp (disch := omega) only [nI_ltI, nI_leI, nI_eq, Nat.not_lt, Nat.not_le] at c_14
      omega
end MFD
