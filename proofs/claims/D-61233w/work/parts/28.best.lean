/-! ===== best ===== -/
def ndm (c : Cf) : Nat → Nat
  | 0 => 0
  | i + 1 => ndm c i ||| (if c.ms i then 2 ^ i else 0)
theorem ndm_bit (c : Cf) (k : Nat) : ∀ i, (ndm c i).testBit k = (decide (k < i) && c.ms k)
  | 0 => by simp [ndm]
  | i + 1 => by
    simp only [ndm]
    rw [Nat.testBit_or, ndm_bit c k i]
    by_cases h : k = i
    · subst h
      cases hm : c.ms k <;> simp [Nat.testBit_two_pow_self]
    · have e : decide (k < i + 1) = decide (k < i) := by simp; omega
      rw [e]
      cases hm : c.ms i
      · simp
      · simp only [if_true]
        rw [Nat.testBit_two_pow, decide_eq_false (show ¬ i = k by omega), Bool.or_false]
theorem ndm_lt (c : Cf) : ∀ i, i ≤ 6 → ndm c i < 64
  | 0, _ => Nat.zero_lt_succ _
  | i + 1, h => by
    simp only [ndm]
    refine Nat.or_lt_two_pow (n := 6) (ndm_lt c i (by omega)) ?_
    split
    · exact Nat.pow_lt_pow_right (by omega) (by omega)
    · decide
theorem or_dec : ∀ u, u < 64 → ∀ v, v < 64 → nI u ||| nI v = nI (u ||| v) := by decide +kernel
theorem and_dec : ∀ u, u < 64 → ∀ v, v < 64 → (nI u &&& nI v = nI v ↔ u &&& v = v) := by decide +kernel
/-- the sets that a plan may end with -/
def Eb (c : Cf) (td : Nat → Nat) (tl ul : Nat) (S : Nat) : Bool := (List.range c.mn).all (fun k => !c.ms k || S.testBit k) && unl td tl ul S
theorem nd_all {c : Cf} {S : Nat} : SubS S (ndm c c.mn) ↔ (List.range c.mn).all (fun k => !c.ms k || S.testBit k) = true := by
  simp only [List.all_eq_true, List.mem_range, Bool.or_eq_true, Bool.not_eq_true']
  constructor
  · intro h k hk
    cases hm : c.ms k with
    | false => exact Or.inl rfl
    | true => exact Or.inr (h k (by rw [ndm_bit, hm]; simpa using hk))
  · intro h j hj
    rw [ndm_bit, Bool.and_eq_true, decide_eq_true_eq] at hj
    rcases h j hj.1 with q | q
    · rw [hj.2] at q; cases q
    · exact q
/-- the plan that is the best of all -/
abbrev Db (c : Cf) (E : Nat → Bool) : Kv := Dv c Tt E 0 6 0
abbrev Wb (c : Cf) (E : Nat → Bool) : List (Nat × Nat) × Nat := wk c Tt E (c.st + 1) 0 6 0
abbrev Ws (c : Cf) (S : Nat) : List (Nat × Nat) := (wk c S.testBit (Eq' S) (c.st + 1) 0 6 0).1
/-- the best so far -/
def BN (c : Cf) (E : Nat → Bool) (k : Nat) : Prop := Db c E = none ∨ k ≤ (Wb c E).2
def BR (G : Gm) (n0 n : Nat) (ν : Mem) (c : Cf) (E : Nat → Bool) (k t Sb : Nat) (p : Nat × Nat) : Prop := n0 ≤ t ∧ E Sb = true ∧ Sb < 2 ^ c.mn ∧ DvS c Sb 0 6 0 = some p ∧ PM G n ν t (Ws c Sb) Sb p.1 p.2 ∧ ((Wb c E).2 < k → Sb = (Wb c E).2)
section BST
variable {c : Cf} {E : Nat → Bool} {G : Gm} {n0 n k t Sb : Nat} {ν : Mem} {p : Nat × Nat}
theorem best_is (hc : CfOK c) {q : Nat × Nat} (h : Db c E = some q) : E (Wb c E).2 = true ∧ DvS c (Wb c E).2 0 6 0 = some q ∧ Ws c (Wb c E).2 = (Wb c E).1 := by
  obtain ⟨h1, -, h3, h4⟩ := opt_b hc (c.st + 1) 0 6 0 q (by omega) (by omega) h
  exact ⟨h1, h3, congrArg Prod.fst h4⟩
theorem BN.skip (h : BN c E k) (hs : ∀ q, Db c E = some q → (Wb c E).2 ≠ k) : BN c E (k + 1) := by
  rcases h with h | h
  · exact Or.inl h
  · cases hD : Db c E with
    | none => exact Or.inl hD
    | some q => have := hs q hD; exact Or.inr (by omega)
theorem BR.skip (hc : CfOK c) (h : BR G n0 n ν c E k t Sb p) (hs : ∀ q, Db c E = some q → (Wb c E).2 ≠ k) : BR G n0 n ν c E (k + 1) t Sb p := by
  obtain ⟨h1, h2, h3, h4, h5, h6⟩ := h
  refine ⟨h1, h2, h3, h4, h5, fun q => h6 ?_⟩
  obtain ⟨r, hr, -⟩ := Dv_monoS hc h2 (Nat.zero_le _) p h4
  have := hs r hr
  omega
theorem sk_E (hc : CfOK c) (h : E k = false) : ∀ q, Db c E = some q → (Wb c E).2 ≠ k := fun q hq e => by
  have := (best_is hc hq).1
  rw [e, h] at this; cases this
theorem sk_D (hc : CfOK c) (h : DvS c k 0 6 0 = none) : ∀ q, Db c E = some q → (Wb c E).2 ≠ k := fun q hq e => by
  have := (best_is hc hq).2.1
  rw [e, h] at this; cases this
theorem sk_R (hc : CfOK c) (hk : k < 2 ^ c.mn) (h : ¬ ssm k c.wd c.mn ≤ nf c 0) : ∀ q, Db c E = some q → (Wb c E).2 ≠ k := fun q hq e => by
  have := (best_is hc hq).2.1
  rw [e] at this
  exact h (DvS_start hc hk this).2.2
theorem sk_A (hc : CfOK c) (hk : k < 2 ^ c.mn) (hb : BR G n0 n ν c E k t Sb p) (h : am c k < p.1) : ∀ q, Db c E = some q → (Wb c E).2 ≠ k := fun q hq e => by
  have h1 := (best_is hc hq).2.1
  rw [e] at h1
  have h2 := (DvS_start hc hk h1).2.1
  obtain ⟨h3, h4, h5, h6, h7, h8⟩ := hb
  obtain ⟨r, hr, e2⟩ := Dv_monoS hc h4 (Nat.zero_le _) p h6
  rw [show Dv c Tt E 0 6 0 = some q from hq] at hr
  cases hr
  omega
/-- a first plan -/
theorem BN.new (hc : CfOK c) (h : BN c E k) (hk : k < 2 ^ c.mn) (hE : E k = true) (hD : DvS c k 0 6 0 = some p) (ht : n0 ≤ t) (hP : PM G n ν t (Ws c k) k p.1 p.2) : BR G n0 n ν c E (k + 1) t k p := by
  refine ⟨ht, hE, hk, hD, hP, fun q => ?_⟩
  obtain ⟨r, hr, -⟩ := Dv_monoS hc hE (Nat.zero_le _) p hD
  rcases h with h | h
  · rw [show Dv c Tt E 0 6 0 = none from h] at hr; cases hr
  · omega
theorem BR.new (hc : CfOK c) {t' : Nat} {p' : Nat × Nat} {n' : Nat} {ν' : Mem} (h : BR G n0 n' ν' c E k t' Sb p') (hk : k < 2 ^ c.mn) (hE : E k = true) (hD : DvS c k 0 6 0 = some p) (ht : n0 ≤ t) (hP : PM G n ν t (Ws c k) k p.1 p.2)
    (hb : betB p.1 p.2 ((Ws c k).map Prod.fst) p'.1 p'.2 ((Ws c Sb).map Prod.fst) = true) : BR G n0 n ν c E (k + 1) t k p := by
  obtain ⟨h1, h2, h3, h4, h5, h6⟩ := h
  refine ⟨ht, hE, hk, hD, hP, fun q => ?_⟩
  rcases Nat.lt_or_ge (Wb c E).2 k with hlt | hge
  · exfalso
    obtain ⟨r, hr, -⟩ := Dv_monoS hc hE (Nat.zero_le _) p hD
    have e := h6 hlt
    have hb2 := opt_best hc hE hr hD (by show k ≠ (Wb c E).2; omega)
    obtain ⟨b1, b2, b3⟩ := best_is hc hr
    subst e
    rw [b2] at h4
    cases h4
    have hb3 := betB_asym hb2
    rw [show (wk c Tt E (c.st + 1) 0 6 0).1 = Ws c (Wb c E).2 from b3.symm] at hb3
    exact absurd (hb.symm.trans hb3) (by decide)
  · omega
theorem BR.old (hc : CfOK c) {p' : Nat × Nat} (h : BR G n0 n ν c E k t Sb p') (hE : E k = true) (hD : DvS c k 0 6 0 = some p)
    (hb : betB p.1 p.2 ((Ws c k).map Prod.fst) p'.1 p'.2 ((Ws c Sb).map Prod.fst) = false) : BR G n0 n ν c E (k + 1) t Sb p' := by
  obtain ⟨h1, h2, h3, h4, h5, h6⟩ := h
  refine ⟨h1, h2, h3, h4, h5, fun q => ?_⟩
  rcases Nat.lt_or_ge (Wb c E).2 k with hlt | hge
  · exact h6 hlt
  · have e : (Wb c E).2 = k := by omega
    obtain ⟨r, hr, -⟩ := Dv_monoS hc hE (Nat.zero_le _) p hD
    obtain ⟨b1, b2, b3⟩ := best_is hc hr
    by_cases hS : Sb = (Wb c E).2
    · exact hS
    · exfalso
      have hb2 := opt_best hc h2 hr h4 hS
      rw [show (wk c Tt E (c.st + 1) 0 6 0).1 = Ws c (Wb c E).2 from b3.symm, e] at hb2
      rw [e, hD] at b2
      cases b2
      exact absurd (hb.symm.trans hb2) (by decide)
end BST
theorem BR.mv {G : Gm} {n0 n n' : Nat} {ν ν' : Mem} {c : Cf} {E : Nat → Bool} {k t Sb : Nat} {p : Nat × Nat} (h : BR G n0 n ν c E k t Sb p) (hn : n ≤ n') (hf : ∀ j, t ≤ j → j ≤ t + 2 → ν' j = ν j) : BR G n0 n' ν' c E k t Sb p := by
  obtain ⟨h1, h2, h3, h4, h5, h6⟩ := h
  exact ⟨h1, h2, h3, h4, h5.frame hn hf, h6⟩
theorem am_bnd {c : Cf} (hc : CfOK c) (k : Nat) : am c k ≤ 4200000 := by
  have hmn := hc.2.2.2.2.1
  have h1 : am c k ≤ 700000 * c.mn := sm_bnd c.mn (fun i hi => by
    have h2 : ssm k (c.nr i) i ≤ 100000 * i := sm_bnd i (fun j hj => by
      have := (hc.2.2.2.2.2.2.2.2.1 i j).1
      show (if k.testBit j = true then c.nr i j else 0) ≤ _
      split <;> omega)
    have := (hc.2.2.2.2.2.1 i hi)
    show (if k.testBit i = true then amt c k i else 0) ≤ _
    unfold amt
    split <;> omega)
  omega
section BS
variable {G : Gm} {d n : Nat} {μ : Mem} {c : Cf} {lx : Nat} {ik : Nat → Nat} {tb0 : Nat → Int64} {tl : Nat} {ts : Nat → Int32} {lat : Value} {td : Nat → Nat} {ul : Nat}
theorem lp_X_best (hX : XM G n μ c lx ik tb0 tl ts lat) (hc : CfOK c) (hlx : LxOK c lx) (hul : ul ≤ 6) (htd : TdOK tl ts td) : ∀ (m k n1 : Nat) (ν : Mem) (tb : Nat → Int64) (bv : Value), k ≤ 2 ^ c.mn → 2 ^ c.mn < k + m → n ≤ n1 → XM G n1 ν c lx ik tb tl ts lat → (∀ t, t < n → t ≠ 18 → ν t = μ t) → (bv = .null ∧ BN c (Eb c td tl ul) k ∨ ∃ (t Sb : Nat) (p : Nat × Nat), bv = .ref (G.1 + t) ∧ BR G n n1 ν c (Eb c td tl ul) k t Sb p) → Ev G k_X_best (d + 5) (3 * m) (88 * m) 45 [some (.ref (G.1 + 0)), some (.int (nI (ul))), some (.int (nI (ndm c c.mn))), some (bv), some (.int (nI (k))), none] [] n1 ν (fun (o : Oc) (n' : Nat) (μ' : Mem) => ∃ bv, o = .inl (some bv) ∧ n ≤ n' ∧ (∃ tb, XM G n' μ' c lx ik tb tl ts lat) ∧ (∀ t, t < n → t ≠ 18 → μ' t = μ t) ∧ (Db c (Eb c td tl ul) = none → bv = .null) ∧ (∀ q, Db c (Eb c td tl ul) = some q → ∃ t : Nat, n ≤ t ∧ bv = .ref (G.1 + t) ∧ PM G n' μ' t (Wb c (Eb c td tl ul)).1 (Wb c (Eb c td tl ul)).2 q.1 q.2)) := by
  generalize hQ : (fun (o : Oc) (n' : Nat) (μ' : Mem) => ∃ bv, o = .inl (some bv) ∧ n ≤ n' ∧ (∃ tb, XM G n' μ' c lx ik tb tl ts lat) ∧ (∀ t, t < n → t ≠ 18 → μ' t = μ t) ∧ (Db c (Eb c td tl ul) = none → bv = .null) ∧ (∀ q, Db c (Eb c td tl ul) = some q → ∃ t : Nat, n ≤ t ∧ bv = .ref (G.1 + t) ∧ PM G n' μ' t (Wb c (Eb c td tl ul)).1 (Wb c (Eb c td tl ul)).2 q.1 q.2)) = Q
  intro m
  induction m with
  | zero =>
    intro k n1 ν tb bv h1 h2
    exact absurd h2 (by omega)
  | succ m ih =>
    intro k n1 ν tb bv hk hkm hnn hXv hff hB
    obtain ⟨hn, x0, x1, x2, x3, x4, x5, x11, x12, x18, x19, xi, xj⟩ := id hXv
    obtain ⟨⟨hst1, hst2⟩, hfr, hpn, hpp, hmn, hwd, hnd, hpu, hnr, hbr, hle, hdef⟩ := id hc
    have hn0 := hX.1
    have hpw : 2 ^ c.mn ≤ 64 := Nat.pow_le_pow_right (n := 2) (by omega) hmn
    have hndl := ndm_lt c c.mn hmn
    rw [show 3 * (m + 1) = 3 * m + 3 from rfl, show 88 * (m + 1) = 88 * m + 88 from rfl]
    rcases hB with ⟨rfl, hB⟩ | ⟨tq, Sb, pb, rfl, hB⟩
    ·
      refine ev_iload d_X_best_45 rfl ?_
      refine ev_iconst (v := (nI (1))) d_X_best_47 (by decide) ?_
      refine ev_aload_n d_X_best_48 rfl rfl ?_
      refine ev_getf (kf := 5) (T := F_X) (C := R_X) (N := 14) (v := .int (nI (c.mn))) d_X_best_49 fl_X_81 rfl i_X (by decide) (by omega) x0 rfl ?_
      refine ev_ishl d_X_best_52 ?_
      refine ev_topi (w := (nI (2 ^ c.mn))) (bit_shl c.mn (by omega)) ?_
      refine ev_icmp_ge d_X_best_53 (fun c_53 => ?_) (fun c_53 => ?_)
      ·
        simp (disch := omega) only [nI_ltI, nI_leI, nI_eq, Nat.not_lt, Nat.not_le] at c_53
        refine ev_aload_nN d_X_best_164 rfl rfl ?_
        refine ev_areturn d_X_best_165 rfl (Or.inl rfl) ?_
        subst hQ
        have hk2 : k = 2 ^ c.mn := by omega
        have hws : (Wb c (Eb c td tl ul)).2 < 2 ^ c.mn := wk_set _ _ _ _ (Nat.two_pow_pos _)
        refine ⟨_, rfl, hnn, ⟨tb, hXv⟩, hff, fun _ => rfl, fun q hq => ?_⟩
        rcases hB with h | h
        · rw [hq] at h; cases h
        · omega
      ·
        simp (disch := omega) only [nI_ltI, nI_leI, nI_eq, Nat.not_lt, Nat.not_le] at c_53
        refine ev_iload d_X_best_56 rfl ?_
        refine ev_iload_n d_X_best_58 rfl rfl ?_
        refine ev_iand d_X_best_59 ?_
        refine ev_iload_n d_X_best_60 rfl rfl ?_
        refine ev_icmp_ne d_X_best_61 (fun c_61 => ?_) (fun c_61 => ?_)
        ·
          have c_61 : ¬ SubS k (ndm c c.mn) := fun q => c_61 ((and_dec k (by omega) _ hndl).mpr ((Nat.and_comm _ _).trans (sub_and.mpr q)))
          refine ev_iinc (v := (nI (k + 1))) (ls' := [_, _, _, _, _, none]) d_X_best_158 rfl (nI_1 _) (by decide) rfl rfl ?_
          refine ev_goto d_X_best_161 ?_
          refine Ev.bud (by omega) (by omega) (Ev.fg [true, true, true, true, true, false] rfl (ih (k + 1) _ _ _ _ (by omega) (by omega) (by omega) hXv hff (Or.inl ⟨rfl, hB.skip (sk_E hc (by unfold Eb; rw [Bool.eq_false_iff.mpr (mt nd_all.mpr c_61), Bool.false_and]))⟩)))
        ·
          have c_61 : SubS k (ndm c c.mn) := sub_and.mp ((Nat.and_comm _ _).trans ((and_dec k (by omega) _ hndl).mp c_61))
          refine ev_aload_n d_X_best_64 rfl rfl ?_
          refine ev_iload d_X_best_65 rfl ?_
          refine ev_iload_n d_X_best_67 rfl rfl ?_
          refine cv (mc' := 0) (ms' := 0) (k' := k_X_isUnlike) (As := [.int (nI (k)), .int (nI (ul))]) (stk := []) d_X_best_68 ml_X_185 kk_X_isUnlike rfl rfl (Nat.le_of_ble_eq_true rfl) (by omega) x0 rfl rfl (ct_X_isUnlike (d := d + 3) (by omega) hul htd hXv hc) (rd ?_)
          refine ev_if_eq d_X_best_71 (fun c_71 => ?_) (fun c_71 => ?_)
          ·
            have c_71 := b2_f c_71
            refine ev_iinc (v := (nI (k + 1))) (ls' := [_, _, _, _, _, none]) d_X_best_158 rfl (nI_1 _) (by decide) rfl rfl ?_
            refine ev_goto d_X_best_161 ?_
            refine Ev.bud (by omega) (by omega) (Ev.fg [true, true, true, true, true, false] rfl (ih (k + 1) _ _ _ _ (by omega) (by omega) (by omega) hXv hff (Or.inl ⟨rfl, hB.skip (sk_E hc (by unfold Eb; rw [c_71, Bool.and_false]))⟩)))
          ·
            have c_71 := b2_t c_71
            refine ev_aload_n d_X_best_74 rfl rfl ?_
            refine ev_iload d_X_best_75 rfl ?_
            refine cv (mc' := 0) (ms' := 0) (k' := k_X_hasRoom) (As := [.int (nI (k))]) (stk := []) d_X_best_77 ml_X_188 kk_X_hasRoom rfl rfl (Nat.le_of_ble_eq_true rfl) (by omega) x0 rfl rfl (ct_X_hasRoom (d := d + 4) (by omega) hXv hc) (rd ?_)
            refine ev_if_eq d_X_best_80 (fun c_80 => ?_) (fun c_80 => ?_)
            ·
              have c_80 := b2_f c_80
              refine ev_iinc (v := (nI (k + 1))) (ls' := [_, _, _, _, _, none]) d_X_best_158 rfl (nI_1 _) (by decide) rfl rfl ?_
              refine ev_goto d_X_best_161 ?_
              refine Ev.bud (by omega) (by omega) (Ev.fg [true, true, true, true, true, false] rfl (ih (k + 1) _ _ _ _ (by omega) (by omega) (by omega) hXv hff (Or.inl ⟨rfl, hB.skip (sk_R hc c_53 (of_decide_eq_false c_80))⟩)))
            ·
              have c_80 := b2_t c_80
              refine ev_aload_nN d_X_best_83 rfl rfl ?_
              refine ev_ifnullN d_X_best_84 ?_
              refine ev_aload_n d_X_best_104 rfl rfl ?_
              refine ev_iload d_X_best_105 rfl ?_
              refine cv (mc' := 0) (ms' := 0) (k' := k_X_fill) (As := [.int (nI (k))]) (stk := []) d_X_best_107 ml_X_196 kk_X_fill rfl rfl (Nat.le_of_ble_eq_true rfl) (by omega) x0 rfl rfl (ct_X_fill (d := d) hXv hc hlx (by omega) c_53) (af fun n2 ν2 hq => ?_)
              obtain ⟨hn2, tbf, rfl, hFin⟩ := hq
              subst n2
              have hXv := hXv.tab tbf
              obtain ⟨hn, x0, x1, x2, x3, x4, x5, x11, x12, x18, x19, xi, xj⟩ := id hXv
              obtain ⟨⟨hst1, hst2⟩, hfr, hpn, hpp, hmn, hwd, hnd, hpu, hnr, hbr, hle, hdef⟩ := id hc
              have hff : ∀ t, t < n → t ≠ 18 → mset ν 18 (aJ 36736 tbf) t = μ t := fun t ht h8 => (mset_ne _ _ h8).trans (hff t ht h8)
              have hE : Eb c td tl ul k = true := by unfold Eb; rw [nd_all.mp c_61, c_71]; rfl
              refine ev_aload_n d_X_best_110 rfl rfl ?_
              refine ev_getf (kf := 10) (T := F_X) (C := R_X) (N := 14) (v := .ref (G.1 + 18)) d_X_best_111 fl_X_34 rfl i_X (by decide) (by omega) x0 rfl ?_
              refine ev_iconst (v := (nI (0))) d_X_best_114 (by decide) ?_
              refine ev_iconst (v := (nI (0))) d_X_best_115 (by decide) ?_
              refine ev_bipush (v := (nI (6))) d_X_best_116 (by decide) ?_
              refine ev_iconst (v := (nI (0))) d_X_best_118 (by decide) ?_
              refine cs (mc' := 0) (ms' := 0) (k' := k_X_cell) (As := [.int (nI (0)), .int (nI (0)), .int (nI (6)), .int (nI (0))]) (stk := [.ref (G.1 + 18)]) d_X_best_119 ml_X_133 kk_X_cell rfl rfl (Nat.le_of_ble_eq_true rfl) (ct_X_cell (d := d + 4) 0 0 6 0) (rd ?_)
              refine ev_lald (j := ((0 * 64 + 0) * 7 + 6) * 2 + 0) d_X_best_122 (by omega) x18 (by decide) (by decide) ?_
              refine ev_topl (w := tvk (DvS c k 0 6 0)) (hFin 0 6 0 (by omega) (by omega) (by omega) (by omega) (fun j hj => by rw [Nat.zero_testBit] at hj; cases hj) (fun q => by omega)) ?_
              refine ev_ldc2 (v := (-1)) d_X_best_123 ck_X_101 ?_
              refine ev_lcmp d_X_best_126 ?_
              refine ev_if_eq d_X_best_127 (fun c_127 => ?_) (fun c_127 => ?_)
              ·
                rw [lc_eq, tv_none (DvS_le hc (Nat.zero_le _))] at c_127
                refine ev_iinc (v := (nI (k + 1))) (ls' := [_, _, _, _, _, none]) d_X_best_158 rfl (nI_1 _) (by decide) rfl rfl ?_
                refine ev_goto d_X_best_161 ?_
                refine Ev.bud (by omega) (by omega) (Ev.fg [true, true, true, true, true, false] rfl (ih (k + 1) _ _ _ _ (by omega) (by omega) (by omega) hXv hff (Or.inl ⟨rfl, hB.skip (sk_D hc c_127)⟩)))
              ·
                rw [lc_eq, tv_none (DvS_le hc (Nat.zero_le _))] at c_127
                obtain ⟨pk, hDk⟩ : ∃ pk, DvS c k 0 6 0 = some pk := Option.ne_none_iff_exists'.mp c_127
                refine ev_aload_n d_X_best_130 rfl rfl ?_
                refine ev_iload d_X_best_131 rfl ?_
                refine cv (mc' := 3) (ms' := 88) (k' := k_X_walk) (As := [.int (nI (k))]) (stk := []) d_X_best_133 ml_X_200 kk_X_walk rfl rfl (Nat.le_of_ble_eq_true rfl) (by omega) x0 rfl rfl (ct_X_walk (d := d + 1) hXv hc hlx (by omega) c_53 hFin hDk) (af fun n2 ν2 hq => ?_)
                obtain ⟨hn2, hPn, hfn⟩ := hq
                subst n2
                have hXv := hXv.frame (n' := n1 + 3) (by omega) (fun t ht _ => hfn t ht)
                obtain ⟨hn, x0, x1, x2, x3, x4, x5, x11, x12, x18, x19, xi, xj⟩ := id hXv
                obtain ⟨⟨hst1, hst2⟩, hfr, hpn, hpp, hmn, hwd, hnd, hpu, hnr, hbr, hle, hdef⟩ := id hc
                have hff : ∀ t, t < n → t ≠ 18 → ν2 t = μ t := fun t ht h8 => (hfn t (by omega)).trans (hff t ht h8)
                refine ev_astore (ls' := [_, _, _, _, _, _]) d_X_best_136 (by decide) rfl rfl ?_
                refine ev_aload_nN d_X_best_138 rfl rfl ?_
                refine ev_ifnullN d_X_best_139 ?_
                refine ev_aload d_X_best_151 rfl ?_
                refine ev_goto d_X_best_153 ?_
                refine ev_astore_n (ls' := [_, _, _, _, _, _]) d_X_best_157 rfl (by decide) rfl rfl ?_
                refine ev_iinc (v := (nI (k + 1))) (ls' := [_, _, _, _, _, _]) d_X_best_158 rfl (nI_1 _) (by decide) rfl rfl ?_
                refine ev_goto d_X_best_161 ?_
                exact Ev.fg [true, true, true, true, true, false] rfl (ih (k + 1) _ _ _ _ (by omega) (by omega) (by omega) hXv hff (Or.inr ⟨_, _, _, rfl, hB.new hc c_53 hE hDk hnn hPn⟩))
    ·
      refine ev_iload d_X_best_45 rfl ?_
      refine ev_iconst (v := (nI (1))) d_X_best_47 (by decide) ?_
      refine ev_aload_n d_X_best_48 rfl rfl ?_
      refine ev_getf (kf := 5) (T := F_X) (C := R_X) (N := 14) (v := .int (nI (c.mn))) d_X_best_49 fl_X_81 rfl i_X (by decide) (by omega) x0 rfl ?_
      refine ev_ishl d_X_best_52 ?_
      refine ev_topi (w := (nI (2 ^ c.mn))) (bit_shl c.mn (by omega)) ?_
      refine ev_icmp_ge d_X_best_53 (fun c_53 => ?_) (fun c_53 => ?_)
      ·
        simp (disch := omega) only [nI_ltI, nI_leI, nI_eq, Nat.not_lt, Nat.not_le] at c_53
        refine ev_aload_n d_X_best_164 rfl rfl ?_
        refine ev_areturn d_X_best_165 rfl (Or.inr ⟨_, rfl⟩) ?_
        subst hQ
        have hk2 : k = 2 ^ c.mn := by omega
        have hws : (Wb c (Eb c td tl ul)).2 < 2 ^ c.mn := wk_set _ _ _ _ (Nat.two_pow_pos _)
        obtain ⟨hb1, hb2, hb3, hb4, hb5, hb6⟩ := id hB
        obtain ⟨r, hr, -⟩ := Dv_monoS hc hb2 (Nat.zero_le _) pb hb4
        refine ⟨_, rfl, hnn, ⟨tb, hXv⟩, hff, fun q => ?_, fun q hq => ⟨tq, hb1, rfl, ?_⟩⟩
        · rw [show Dv c Tt (Eb c td tl ul) 0 6 0 = none from q] at hr; cases hr
        · obtain ⟨e1, e2, e3⟩ := best_is hc hq
          have e := hb6 (by omega)
          subst e
          rw [e2] at hb4
          cases hb4
          rw [← e3]; exact hb5
      ·
        simp (disch := omega) only [nI_ltI, nI_leI, nI_eq, Nat.not_lt, Nat.not_le] at c_53
        refine ev_iload d_X_best_56 rfl ?_
        refine ev_iload_n d_X_best_58 rfl rfl ?_
        refine ev_iand d_X_best_59 ?_
        refine ev_iload_n d_X_best_60 rfl rfl ?_
        refine ev_icmp_ne d_X_best_61 (fun c_61 => ?_) (fun c_61 => ?_)
        ·
          have c_61 : ¬ SubS k (ndm c c.mn) := fun q => c_61 ((and_dec k (by omega) _ hndl).mpr ((Nat.and_comm _ _).trans (sub_and.mpr q)))
          refine ev_iinc (v := (nI (k + 1))) (ls' := [_, _, _, _, _, none]) d_X_best_158 rfl (nI_1 _) (by decide) rfl rfl ?_
          refine ev_goto d_X_best_161 ?_
          refine Ev.bud (by omega) (by omega) (Ev.fg [true, true, true, true, true, false] rfl (ih (k + 1) _ _ _ _ (by omega) (by omega) (by omega) hXv hff (Or.inr ⟨tq, Sb, pb, rfl, hB.skip hc (sk_E hc (by unfold Eb; rw [Bool.eq_false_iff.mpr (mt nd_all.mpr c_61), Bool.false_and]))⟩)))
        ·
          have c_61 : SubS k (ndm c c.mn) := sub_and.mp ((Nat.and_comm _ _).trans ((and_dec k (by omega) _ hndl).mp c_61))
          refine ev_aload_n d_X_best_64 rfl rfl ?_
          refine ev_iload d_X_best_65 rfl ?_
          refine ev_iload_n d_X_best_67 rfl rfl ?_
          refine cv (mc' := 0) (ms' := 0) (k' := k_X_isUnlike) (As := [.int (nI (k)), .int (nI (ul))]) (stk := []) d_X_best_68 ml_X_185 kk_X_isUnlike rfl rfl (Nat.le_of_ble_eq_true rfl) (by omega) x0 rfl rfl (ct_X_isUnlike (d := d + 3) (by omega) hul htd hXv hc) (rd ?_)
          refine ev_if_eq d_X_best_71 (fun c_71 => ?_) (fun c_71 => ?_)
          ·
            have c_71 := b2_f c_71
            refine ev_iinc (v := (nI (k + 1))) (ls' := [_, _, _, _, _, none]) d_X_best_158 rfl (nI_1 _) (by decide) rfl rfl ?_
            refine ev_goto d_X_best_161 ?_
            refine Ev.bud (by omega) (by omega) (Ev.fg [true, true, true, true, true, false] rfl (ih (k + 1) _ _ _ _ (by omega) (by omega) (by omega) hXv hff (Or.inr ⟨tq, Sb, pb, rfl, hB.skip hc (sk_E hc (by unfold Eb; rw [c_71, Bool.and_false]))⟩)))
          ·
            have c_71 := b2_t c_71
            refine ev_aload_n d_X_best_74 rfl rfl ?_
            refine ev_iload d_X_best_75 rfl ?_
            refine cv (mc' := 0) (ms' := 0) (k' := k_X_hasRoom) (As := [.int (nI (k))]) (stk := []) d_X_best_77 ml_X_188 kk_X_hasRoom rfl rfl (Nat.le_of_ble_eq_true rfl) (by omega) x0 rfl rfl (ct_X_hasRoom (d := d + 4) (by omega) hXv hc) (rd ?_)
            refine ev_if_eq d_X_best_80 (fun c_80 => ?_) (fun c_80 => ?_)
            ·
              have c_80 := b2_f c_80
              refine ev_iinc (v := (nI (k + 1))) (ls' := [_, _, _, _, _, none]) d_X_best_158 rfl (nI_1 _) (by decide) rfl rfl ?_
              refine ev_goto d_X_best_161 ?_
              refine Ev.bud (by omega) (by omega) (Ev.fg [true, true, true, true, true, false] rfl (ih (k + 1) _ _ _ _ (by omega) (by omega) (by omega) hXv hff (Or.inr ⟨tq, Sb, pb, rfl, hB.skip hc (sk_R hc c_53 (of_decide_eq_false c_80))⟩)))
            ·
              have c_80 := b2_t c_80
              refine ev_aload_n d_X_best_83 rfl rfl ?_
              refine ev_ifnull d_X_best_84 ?_
              refine ev_aload_n d_X_best_87 rfl rfl ?_
              refine ev_iload d_X_best_88 rfl ?_
              refine cv (mc' := 0) (ms' := 0) (k' := k_X_atMost) (As := [.int (nI (k))]) (stk := []) d_X_best_90 ml_X_192 kk_X_atMost rfl rfl (Nat.le_of_ble_eq_true rfl) (by omega) x0 rfl rfl (ct_X_atMost (d := d + 4) (by omega) hXv hc) (rd ?_)
              have h5 : tq < n1 ∧ ν tq = ob 2 [.ref (G.1 + (tq + 1)), .ref (G.1 + (tq + 2)), .int (nI (Ws c Sb).length), .int (nI Sb), .long (lN pb.1), .long (lN pb.2)] := by
                obtain ⟨hb1, hb2, hb3, hb4, hb5, hb6⟩ := id hB
                obtain ⟨g1, g2, g3, g4, fcx, fbx, g5, g6⟩ := id hb5
                exact ⟨Nat.lt_of_le_of_lt (Nat.le_add_right _ 2) g1, g5⟩
              have hpb := DvS_le hc (Nat.zero_le _) pb hB.2.2.2.1
              have ham := am_bnd hc k
              refine ev_aload_n d_X_best_93 rfl rfl ?_
              refine ev_getN (kf := 4) (T := F_P) (C := R_P) (N := 6) (v := .long (lN (pb.1))) d_X_best_94 fl_X_169 rfl i_P (by decide) h5.1 h5.2 rfl ?_
              refine ev_lcmp d_X_best_97 ?_
              refine ev_if_ge d_X_best_98 (fun c_98 => ?_) (fun c_98 => ?_)
              ·
                simp (disch := omega) only [lc_ge, lN_le] at c_98
                refine ev_aload_n d_X_best_104 rfl rfl ?_
                refine ev_iload d_X_best_105 rfl ?_
                refine cv (mc' := 0) (ms' := 0) (k' := k_X_fill) (As := [.int (nI (k))]) (stk := []) d_X_best_107 ml_X_196 kk_X_fill rfl rfl (Nat.le_of_ble_eq_true rfl) (by omega) x0 rfl rfl (ct_X_fill (d := d) hXv hc hlx (by omega) c_53) (af fun n2 ν2 hq => ?_)
                obtain ⟨hn2, tbf, rfl, hFin⟩ := hq
                subst n2
                have hXv := hXv.tab tbf
                obtain ⟨hn, x0, x1, x2, x3, x4, x5, x11, x12, x18, x19, xi, xj⟩ := id hXv
                obtain ⟨⟨hst1, hst2⟩, hfr, hpn, hpp, hmn, hwd, hnd, hpu, hnr, hbr, hle, hdef⟩ := id hc
                have hff : ∀ t, t < n → t ≠ 18 → mset ν 18 (aJ 36736 tbf) t = μ t := fun t ht h8 => (mset_ne _ _ h8).trans (hff t ht h8)
                have hE : Eb c td tl ul k = true := by unfold Eb; rw [nd_all.mp c_61, c_71]; rfl
                have hB := hB.mv (ν' := mset ν 18 (aJ 36736 tbf)) (Nat.le_refl _) (fun j h1 h2 => mset_ne _ _ (by have := hB.1; omega))
                refine ev_aload_n d_X_best_110 rfl rfl ?_
                refine ev_getf (kf := 10) (T := F_X) (C := R_X) (N := 14) (v := .ref (G.1 + 18)) d_X_best_111 fl_X_34 rfl i_X (by decide) (by omega) x0 rfl ?_
                refine ev_iconst (v := (nI (0))) d_X_best_114 (by decide) ?_
                refine ev_iconst (v := (nI (0))) d_X_best_115 (by decide) ?_
                refine ev_bipush (v := (nI (6))) d_X_best_116 (by decide) ?_
                refine ev_iconst (v := (nI (0))) d_X_best_118 (by decide) ?_
                refine cs (mc' := 0) (ms' := 0) (k' := k_X_cell) (As := [.int (nI (0)), .int (nI (0)), .int (nI (6)), .int (nI (0))]) (stk := [.ref (G.1 + 18)]) d_X_best_119 ml_X_133 kk_X_cell rfl rfl (Nat.le_of_ble_eq_true rfl) (ct_X_cell (d := d + 4) 0 0 6 0) (rd ?_)
                refine ev_lald (j := ((0 * 64 + 0) * 7 + 6) * 2 + 0) d_X_best_122 (by omega) x18 (by decide) (by decide) ?_
                refine ev_topl (w := tvk (DvS c k 0 6 0)) (hFin 0 6 0 (by omega) (by omega) (by omega) (by omega) (fun j hj => by rw [Nat.zero_testBit] at hj; cases hj) (fun q => by omega)) ?_
                refine ev_ldc2 (v := (-1)) d_X_best_123 ck_X_101 ?_
                refine ev_lcmp d_X_best_126 ?_
                refine ev_if_eq d_X_best_127 (fun c_127 => ?_) (fun c_127 => ?_)
                ·
                  rw [lc_eq, tv_none (DvS_le hc (Nat.zero_le _))] at c_127
                  refine ev_iinc (v := (nI (k + 1))) (ls' := [_, _, _, _, _, none]) d_X_best_158 rfl (nI_1 _) (by decide) rfl rfl ?_
                  refine ev_goto d_X_best_161 ?_
                  refine Ev.bud (by omega) (by omega) (Ev.fg [true, true, true, true, true, false] rfl (ih (k + 1) _ _ _ _ (by omega) (by omega) (by omega) hXv hff (Or.inr ⟨tq, Sb, pb, rfl, hB.skip hc (sk_D hc c_127)⟩)))
                ·
                  rw [lc_eq, tv_none (DvS_le hc (Nat.zero_le _))] at c_127
                  obtain ⟨pk, hDk⟩ : ∃ pk, DvS c k 0 6 0 = some pk := Option.ne_none_iff_exists'.mp c_127
                  refine ev_aload_n d_X_best_130 rfl rfl ?_
                  refine ev_iload d_X_best_131 rfl ?_
                  refine cv (mc' := 3) (ms' := 88) (k' := k_X_walk) (As := [.int (nI (k))]) (stk := []) d_X_best_133 ml_X_200 kk_X_walk rfl rfl (Nat.le_of_ble_eq_true rfl) (by omega) x0 rfl rfl (ct_X_walk (d := d + 1) hXv hc hlx (by omega) c_53 hFin hDk) (af fun n2 ν2 hq => ?_)
                  obtain ⟨hn2, hPn, hfn⟩ := hq
                  subst n2
                  have hXv := hXv.frame (n' := n1 + 3) (by omega) (fun t ht _ => hfn t ht)
                  obtain ⟨hn, x0, x1, x2, x3, x4, x5, x11, x12, x18, x19, xi, xj⟩ := id hXv
                  obtain ⟨⟨hst1, hst2⟩, hfr, hpn, hpp, hmn, hwd, hnd, hpu, hnr, hbr, hle, hdef⟩ := id hc
                  have hff : ∀ t, t < n → t ≠ 18 → ν2 t = μ t := fun t ht h8 => (hfn t (by omega)).trans (hff t ht h8)
                  have hB := hB.mv (ν' := ν2) (show n1 ≤ n1 + 3 by omega) (fun j h1 h2 => hfn j (by have := hB.2.2.2.2.1.1; omega))
                  obtain ⟨hb1, hb2, hb3, hb4, hb5, hb6⟩ := id hB
                  obtain ⟨g1, g2, g3, g4, fcx, fbx, g5, g6⟩ := id hb5
                  refine ev_astore (ls' := [_, _, _, _, _, _]) d_X_best_136 (by decide) rfl rfl ?_
                  refine ev_aload_n d_X_best_138 rfl rfl ?_
                  refine ev_ifnull d_X_best_139 ?_
                  obtain ⟨z1, z2, z3, z4, fcy, fby, hPn0, z6⟩ := id hPn
                  refine ev_aload d_X_best_142 rfl ?_
                  refine ev_aload_n d_X_best_144 rfl rfl ?_
                  refine cv (mc' := 0) (ms' := 0) (k' := k_P_isBetter) (As := [.ref (G.1 + tq)]) (stk := []) d_X_best_145 ml_X_204 kk_P_isBetter rfl rfl (Nat.le_of_ble_eq_true rfl) (by omega) hPn0 rfl rfl (ct_P_isBetter (d := d + 3) hPn hb5) (rd ?_)
                  refine ev_if_eq d_X_best_148 (fun c_148 => ?_) (fun c_148 => ?_)
                  ·
                    have c_148 := b2_f c_148
                    refine ev_aload_n d_X_best_156 rfl rfl ?_
                    refine ev_astore_n (ls' := [_, _, _, _, _, _]) d_X_best_157 rfl (by decide) rfl rfl ?_
                    refine ev_iinc (v := (nI (k + 1))) (ls' := [_, _, _, _, _, _]) d_X_best_158 rfl (nI_1 _) (by decide) rfl rfl ?_
                    refine ev_goto d_X_best_161 ?_
                    exact Ev.fg [true, true, true, true, true, false] rfl (ih (k + 1) _ _ _ _ (by omega) (by omega) (by omega) hXv hff (Or.inr ⟨_, _, _, rfl, hB.old hc hE hDk c_148⟩))
                  ·
                    have c_148 := b2_t c_148
                    refine ev_aload d_X_best_151 rfl ?_
                    refine ev_goto d_X_best_153 ?_
                    refine ev_astore_n (ls' := [_, _, _, _, _, _]) d_X_best_157 rfl (by decide) rfl rfl ?_
                    refine ev_iinc (v := (nI (k + 1))) (ls' := [_, _, _, _, _, _]) d_X_best_158 rfl (nI_1 _) (by decide) rfl rfl ?_
                    refine ev_goto d_X_best_161 ?_
                    exact Ev.fg [true, true, true, true, true, false] rfl (ih (k + 1) _ _ _ _ (by omega) (by omega) (by omega) hXv hff (Or.inr ⟨_, _, _, rfl, hB.new hc c_53 hE hDk hnn hPn c_148⟩))
              ·
                simp (disch := omega) only [lc_ge, lN_le, Nat.not_le] at c_98
                refine ev_goto d_X_best_101 ?_
                refine ev_iinc (v := (nI (k + 1))) (ls' := [_, _, _, _, _, none]) d_X_best_158 rfl (nI_1 _) (by decide) rfl rfl ?_
                refine ev_goto d_X_best_161 ?_
                refine Ev.bud (by omega) (by omega) (Ev.fg [true, true, true, true, true, false] rfl (ih (k + 1) _ _ _ _ (by omega) (by omega) (by omega) hXv hff (Or.inr ⟨tq, Sb, pb, rfl, hB.skip hc (sk_A hc c_53 hB c_98)⟩)))
theorem lp_X_best0 (hX : XM G n μ c lx ik tb0 tl ts lat) (hc : CfOK c) (hlx : LxOK c lx) (hul : ul ≤ 6) (htd : TdOK tl ts td) : ∀ (m : Nat) (i : Nat), i ≤ c.mn → c.mn < i + m → Ev G k_X_best (d + 5) 195 5720 4 [some (.ref (G.1 + 0)), some (.int (nI (ul))), some (.int (nI (ndm c i))), some (.int (nI (i))), none, none] [] n μ ((fun (o : Oc) (n' : Nat) (μ' : Mem) => ∃ bv, o = .inl (some bv) ∧ n ≤ n' ∧ (∃ tb, XM G n' μ' c lx ik tb tl ts lat) ∧ (∀ t, t < n → t ≠ 18 → μ' t = μ t) ∧ (Db c (Eb c td tl ul) = none → bv = .null) ∧ (∀ q, Db c (Eb c td tl ul) = some q → ∃ t : Nat, n ≤ t ∧ bv = .ref (G.1 + t) ∧ PM G n' μ' t (Wb c (Eb c td tl ul)).1 (Wb c (Eb c td tl ul)).2 q.1 q.2))) := by
  obtain ⟨hn, x0, x1, x2, x3, x4, x5, x11, x12, x18, x19, xi, xj⟩ := id hX
  obtain ⟨⟨hst1, hst2⟩, hfr, hpn, hpp, hmn, hwd, hnd, hpu, hnr, hbr, hle, hdef⟩ := id hc
  generalize hQ : (fun (o : Oc) (n' : Nat) (μ' : Mem) => ∃ bv, o = .inl (some bv) ∧ n ≤ n' ∧ (∃ tb, XM G n' μ' c lx ik tb tl ts lat) ∧ (∀ t, t < n → t ≠ 18 → μ' t = μ t) ∧ (Db c (Eb c td tl ul) = none → bv = .null) ∧ (∀ q, Db c (Eb c td tl ul) = some q → ∃ t : Nat, n ≤ t ∧ bv = .ref (G.1 + t) ∧ PM G n' μ' t (Wb c (Eb c td tl ul)).1 (Wb c (Eb c td tl ul)).2 q.1 q.2)) = Q
  intro m
  induction m with
  | zero =>
    intro i h1 h2
    exact absurd h2 (by omega)
  | succ m ih =>
    intro i hi him 
    have hndi := ndm_lt c i (by omega)
    refine ev_iload_n d_X_best_4 rfl rfl ?_
    refine ev_aload_n d_X_best_5 rfl rfl ?_
    refine ev_getf (kf := 5) (T := F_X) (C := R_X) (N := 14) (v := .int (nI (c.mn))) d_X_best_6 fl_X_81 rfl i_X (by decide) (by omega) x0 rfl ?_
    refine ev_icmp_ge d_X_best_9 (fun c_9 => ?_) (fun c_9 => ?_)
    ·
      simp (disch := omega) only [nI_ltI, nI_leI, nI_eq, Nat.not_lt, Nat.not_le] at c_9
      refine ev_null d_X_best_40 ?_
      refine ev_astore_nN (ls' := [_, _, _, _, none, none]) d_X_best_41 rfl (by decide) rfl rfl ?_
      refine ev_iconst (v := (nI (0))) d_X_best_42 (by decide) ?_
      refine ev_istore (ls' := [_, _, _, _, _, none]) d_X_best_43 (by decide) rfl rfl ?_
      have hi2 : i = c.mn := by omega
      subst hi2
      subst hQ
      have hpw : 2 ^ c.mn ≤ 64 := Nat.pow_le_pow_right (n := 2) (by omega) hmn
      refine Ev.bud (rc' := 3 * (2 ^ c.mn + 1)) (rs' := 88 * (2 ^ c.mn + 1)) (by omega) (by omega) (Ev.fg [true, true, true, true, true, false] rfl ?_)
      exact lp_X_best hX hc hlx hul htd (2 ^ c.mn + 1) 0 n μ tb0 .null (Nat.zero_le _) (by omega) (by omega) hX (fun t _ _ => rfl) (Or.inl ⟨rfl, Or.inr (Nat.zero_le _)⟩)
    ·
      simp (disch := omega) only [nI_ltI, nI_leI, nI_eq, Nat.not_lt, Nat.not_le] at c_9
      refine ev_iload_n d_X_best_12 rfl rfl ?_
      have hJ_32 : ∀ y : Nat, (y = (if c.ms i then 2 ^ i else 0) ∧ y < 64) → Ev G k_X_best (d + 5) 195 5720 32 [some (.ref (G.1 + 0)), some (.int (nI (ul))), some (.int (nI (ndm c i))), some (.int (nI (i))), none, none] [.int (nI (y)), .int (nI (ndm c i))] n μ Q := by
        intro y hJ
        refine ev_ior d_X_best_32 ?_
        refine ev_topi (w := (nI (ndm c i ||| y))) (or_dec _ hndi _ hJ.2) ?_
        refine ev_istore_n (ls' := [_, _, _, _, none, none]) d_X_best_33 rfl (by decide) rfl rfl ?_
        refine ev_iinc (v := (nI (i + 1))) (ls' := [_, _, _, _, none, none]) d_X_best_34 rfl (nI_1 _) (by decide) rfl rfl ?_
        refine ev_goto d_X_best_37 ?_
        rw [show ndm c i ||| y = ndm c (i + 1) from by rw [hJ.1]; rfl]
        exact ih (i + 1) (by omega) (by omega)
      refine ev_aload_n d_X_best_13 rfl rfl ?_
      refine ev_getf (kf := 4) (T := F_X) (C := R_X) (N := 14) (v := .ref (G.1 + 3)) d_X_best_14 fl_X_19 rfl i_X (by decide) (by omega) x0 rfl ?_
      refine ev_iload_n d_X_best_17 rfl rfl ?_
      refine ev_aald (j := i) d_X_best_18 (by omega) x3 (by decide) (by omega) (by decide) ?_
      refine ev_top (w := .ref (G.1 + ik i)) (by rw [if_pos c_9]; rfl) ?_
      refine ev_getN (kf := 4) (T := F_I) (C := R_I) (N := 6) (v := .int (b2 (c.ms i))) d_X_best_19 fl_X_112 rfl i_I (by decide) (xi i c_9).2.1 (xi i c_9).2.2 rfl ?_
      refine ev_if_eq d_X_best_22 (fun c_22 => ?_) (fun c_22 => ?_)
      ·
        have c_22 := b2_f c_22
        refine ev_iconst (v := (nI (0))) d_X_best_31 (by decide) ?_
        exact hJ_32 (0) ⟨by rw [c_22]; rfl, by decide⟩
      ·
        have c_22 := b2_t c_22
        refine ev_iconst (v := (nI (1))) d_X_best_25 (by decide) ?_
        refine ev_iload_n d_X_best_26 rfl rfl ?_
        refine ev_ishl d_X_best_27 ?_
        refine ev_topi (w := (nI (2 ^ i))) (bit_shl i (by omega)) ?_
        refine ev_goto d_X_best_28 ?_
        exact hJ_32 (2 ^ i) ⟨by rw [c_22]; rfl, Nat.pow_lt_pow_right (a := 2) (n := 6) (m := i) (by omega) (by omega)⟩
theorem ct_X_best (hX : XM G n μ c lx ik tb0 tl ts lat) (hc : CfOK c) (hlx : LxOK c lx) (hul : ul ≤ 6) (htd : TdOK tl ts td) : Ct G k_X_best (d + 5) 195 5720 [.ref (G.1 + 0), .int (nI ul)] n μ (fun (o : Oc) (n' : Nat) (μ' : Mem) => ∃ bv, o = .inl (some bv) ∧ n ≤ n' ∧ (∃ tb, XM G n' μ' c lx ik tb tl ts lat) ∧ (∀ t, t < n → t ≠ 18 → μ' t = μ t) ∧ (Db c (Eb c td tl ul) = none → bv = .null) ∧ (∀ q, Db c (Eb c td tl ul) = some q → ∃ t : Nat, n ≤ t ∧ bv = .ref (G.1 + t) ∧ PM G n' μ' t (Wb c (Eb c td tl ul)).1 (Wb c (Eb c td tl ul)).2 q.1 q.2)) := by
  refine Ct.ofp (r := 4) (ls := [some (.ref (G.1 + 0)), some (.int (nI (ul))), none, none, none, none]) rfl (Nat.le_of_ble_eq_true rfl) ?_
  refine ev_iconst (v := (nI (0))) d_X_best_0 (by decide) ?_
  refine ev_istore_n (ls' := [_, _, _, none, none, none]) d_X_best_1 rfl (by decide) rfl rfl ?_
  refine ev_iconst (v := (nI (0))) d_X_best_2 (by decide) ?_
  refine ev_istore_n (ls' := [_, _, _, _, none, none]) d_X_best_3 rfl (by decide) rfl rfl ?_
  exact lp_X_best0 hX hc hlx hul htd (c.mn + 1) 0 (by omega) (by omega)
end BS
