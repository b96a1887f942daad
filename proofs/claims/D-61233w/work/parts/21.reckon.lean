theorem DBi_bnd8 {c : Cf} (hc : CfOK c) {A : Nat → Bool} {nx : Nat → Nat → Nat → Kv} (hn : Bnd nx) {s b u m : Nat} (hm : m ≤ c.mn) : ∀ p, DBi c A nx s b u m = some p → p.1 ≤ 8000000 := fun p h => Nat.le_trans (DBi_bnd hc hn m hm p h) (by omega)
theorem DBf_bnd8 {c : Cf} (hc : CfOK c) {A : Nat → Bool} {nx : Nat → Nat → Nat → Kv} (hn : Bnd nx) {s b u m : Nat} : ∀ p, DBf c nx s b u (DBi c A nx s b u c.mn) m = some p → p.1 ≤ 8000000 := fun p h => Nat.le_trans (DBf_bnd hn (DBi_bnd hc hn c.mn (Nat.le_refl _)) m p h) (by omega)
theorem kadd_bnd8 {c : Cf} (hc : CfOK c) {nx : Nat → Nat → Nat → Kv} (hn : Bnd nx) {s b b' u i : Nat} (hi : i < c.mn) : ∀ p, kadd (nx (s + c.wd i) b' u) (c.wo i + nbW c b i) (c.ce i) = some p → p.1 ≤ 8000000 := by
  intro p h
  cases hx : nx (s + c.wd i) b' u with
  | none => rw [hx] at h; cases h
  | some z =>
    rw [hx] at h
    simp only [kadd, Option.map_some, Option.some.injEq] at h
    subst h
    have h1 := hn _ _ _ _ hx
    have h2 := hc.2.2.2.2.2.1 i hi
    have h4 : nbW c b i ≤ 100000 := by unfold nbW; split; exact (hc.2.2.2.2.2.2.2.2.1 b i).1; omega
    show z.1 + (c.wo i + nbW c b i) ≤ _
    have h6 : 200000 * (40 - (s + c.wd i)) ≤ 200000 * 39 := Nat.mul_le_mul_left _ (by omega)
    omega
/-! ===== reckon ===== -/
section RK
variable {G : Gm} {d n : Nat} {μ : Mem} {c : Cf} {lx : Nat} {ik : Nat → Nat} {tb : Nat → Int64} {tl : Nat} {ts : Nat → Int32} {lat : Value}
theorem lp_X_reckon2_T {s u b S : Nat} {nx : Nat → Nat → Nat → Kv} (hs : s < c.st) (hfs : c.fr s = false) (hu : u < 64) (hS : S < 64) (hb : b < 6) (hsub : ∀ j, u.testBit j = true → S.testBit j = true) (hTb : TbX c S tb nx s) (hnx : Bnd nx) (hlx : LxOK c lx) (hX : XM G n μ c lx ik tb tl ts lat) (hc : CfOK c) : ∀ (m : Nat) (j : Nat), j ≤ c.mo + 1 - c.le → c.mo + 1 - c.le < j + m → Ev G k_X_reckon (d + 3) 0 0 108 [some (.ref (G.1 + 0)), some (.int (nI (s))), some (.int (nI (u))), some (.int (nI (b))), some (.int (nI (0))), some (.int (nI (S))), some (.long (tvk (DBf c nx s b u (DBi c S.testBit nx s b u c.mn) j))), none, some (.int (nI (c.le + j)))] [] n μ ((Rd (some (.long (tvk (DB c S.testBit (fun v => decide (v = S)) nx s b u)))) n μ)) := by
  obtain ⟨hn, x0, x1, x2, x3, x4, x5, x11, x12, x18, x19, xi, xj⟩ := id hX
  obtain ⟨⟨hst1, hst2⟩, hfr, hpn, hpp, hmn, hwd, hnd, hpu, hnr, hbr, hle, hdef⟩ := id hc
  have hDB : DB c S.testBit (fun v => decide (v = S)) nx s b u = DBf c nx s b u (DBi c S.testBit nx s b u c.mn) (c.mo + 1 - c.le) := by unfold DB; rw [if_neg (by omega), hfs]; rfl
  generalize hQ : (Rd (some (.long (tvk (DB c S.testBit (fun v => decide (v = S)) nx s b u)))) n μ) = Q
  intro m
  induction m with
  | zero =>
    intro j h1 h2
    exact absurd h2 (by omega)
  | succ m ih =>
    intro j hi him 
    refine ev_iload d_X_reckon_108 rfl ?_
    refine ev_aload_n d_X_reckon_110 rfl rfl ?_
    refine ev_getf (kf := 9) (T := F_X) (C := R_X) (N := 14) (v := .int (nI (c.mo))) d_X_reckon_111 fl_X_119 rfl i_X (by decide) (by omega) x0 rfl ?_
    refine ev_icmp_gt d_X_reckon_114 (fun c_114 => ?_) (fun c_114 => ?_)
    ·
      simp (disch := omega) only [nI_ltI, nI_leI, nI_eq, Nat.not_lt, Nat.not_le] at c_114
      refine ev_lload d_X_reckon_166 rfl ?_
      refine ev_lreturn d_X_reckon_168 rfl ?_
      subst hQ
      have hj : j = c.mo + 1 - c.le := by omega
      rw [hDB, ← hj]; exact ⟨rfl, rfl, rfl⟩
    ·
      simp (disch := omega) only [nI_ltI, nI_leI, nI_eq, Nat.not_lt, Nat.not_le] at c_114
      refine ev_iload d_X_reckon_117 rfl ?_
      refine ev_if_le d_X_reckon_119 (fun c_119 => ?_) (fun c_119 => ?_)
      ·
        skip
        exact absurd c_119 (nI_nle (by omega) (by omega))
      ·
        skip
        refine ev_iload d_X_reckon_122 rfl ?_
        refine ev_if_ne d_X_reckon_124 (fun c_124 => ?_) (fun c_124 => ?_)
        ·
          skip
          exact absurd rfl c_124
        ·
          skip
          refine ev_aload_n d_X_reckon_127 rfl rfl ?_
          refine ev_iload_n d_X_reckon_128 rfl rfl ?_
          refine ev_iload d_X_reckon_129 rfl ?_
          refine cv (k' := k_X_isOpen) (As := [.int (nI (s)), .int (nI (c.le + j))]) (stk := []) d_X_reckon_131 ml_X_125 kk_X_isOpen rfl rfl (Nat.le_of_ble_eq_true rfl) (by omega) x0 rfl rfl (ct_X_isOpen (d := d + 2) (by omega) (by omega) hX hc) (rd ?_)
          refine ev_if_eq d_X_reckon_134 (fun c_134 => ?_) (fun c_134 => ?_)
          ·
            have c_134 := b2_f c_134
            refine ev_iinc (v := (nI (c.le + j + 1))) (ls' := [_, _, _, _, _, _, _, none, _]) d_X_reckon_160 rfl (nI_1 _) (by decide) rfl rfl ?_
            refine ev_goto d_X_reckon_163 ?_
            have e : DBf c nx s b u (DBi c S.testBit nx s b u c.mn) (j + 1) = DBf c nx s b u (DBi c S.testBit nx s b u c.mn) j := by simp [DBf, c_134]
            rw [← e]
            exact ih (j + 1) (by omega) (by omega)
          ·
            have c_134 := b2_t c_134
            have hop := opn_le c_134
            have htb := hTb (s + (c.le + j)) 7 u (by omega) hop (by omega) hu hsub (by omega)
            rw [cX_7] at htb
            refine ev_lload d_X_reckon_137 rfl ?_
            refine ev_aload_n d_X_reckon_139 rfl rfl ?_
            refine ev_getf (kf := 10) (T := F_X) (C := R_X) (N := 14) (v := .ref (G.1 + 18)) d_X_reckon_140 fl_X_34 rfl i_X (by decide) (by omega) x0 rfl ?_
            refine ev_iload_n d_X_reckon_143 rfl rfl ?_
            refine ev_iload d_X_reckon_144 rfl ?_
            refine ev_iadd d_X_reckon_146 ?_
            refine ev_topi (w := (nI (s + (c.le + j)))) (nI_add _ _) ?_
            refine ev_iload_n d_X_reckon_147 rfl rfl ?_
            refine ev_bipush (v := (nI (6))) d_X_reckon_148 (by decide) ?_
            refine ev_iconst (v := (nI (1))) d_X_reckon_150 (by decide) ?_
            refine cs (k' := k_X_cell) (As := [.int (nI (s + (c.le + j))), .int (nI (u)), .int (nI (6)), .int (nI (1))]) (stk := [.ref (G.1 + 18), .long (tvk (DBf c nx s b u (DBi c S.testBit nx s b u c.mn) j))]) d_X_reckon_151 ml_X_133 kk_X_cell rfl rfl (Nat.le_of_ble_eq_true rfl) (ct_X_cell (d := d + 2) (s + (c.le + j)) u 6 1) (rd ?_)
            refine ev_lald (j := ((((s + (c.le + j)) * 64 + u) * 7 + 6) * 2 + 1)) d_X_reckon_154 (by omega) x18 (by omega) (by decide) ?_
            refine ev_topl htb ?_
            refine cs (k' := k_J_lmax) (As := [.long (tvk (DBf c nx s b u (DBi c S.testBit nx s b u c.mn) j)), .long (tvk (nx (s + (c.le + j)) 7 u))]) (stk := []) d_X_reckon_155 ml_X_153 kk_J_lmax rfl rfl (Nat.le_of_ble_eq_true rfl) (ct_J_lmax _ _) (rd ?_)
            refine ev_topl (tv_le (DBf_bnd8 hc hnx) hnx.le) ?_
            refine ev_lstore (ls' := [_, _, _, _, _, _, _, none, _]) d_X_reckon_158 (by decide) rfl rfl ?_
            refine ev_iinc (v := (nI (c.le + j + 1))) (ls' := [_, _, _, _, _, _, _, none, _]) d_X_reckon_160 rfl (nI_1 _) (by decide) rfl rfl ?_
            refine ev_goto d_X_reckon_163 ?_
            have e : DBf c nx s b u (DBi c S.testBit nx s b u c.mn) (j + 1) = kmax (DBf c nx s b u (DBi c S.testBit nx s b u c.mn) j) (nx (s + (c.le + j)) 7 u) := by simp [DBf, c_134]; omega
            rw [← e]
            exact ih (j + 1) (by omega) (by omega)
theorem lp_X_reckon0_T {s u b S : Nat} {nx : Nat → Nat → Nat → Kv} (hs : s < c.st) (hfs : c.fr s = false) (hu : u < 64) (hS : S < 64) (hb : b < 6) (hsub : ∀ j, u.testBit j = true → S.testBit j = true) (hTb : TbX c S tb nx s) (hnx : Bnd nx) (hlx : LxOK c lx) (hX : XM G n μ c lx ik tb tl ts lat) (hc : CfOK c) (h1 : lx = 0) (h2 : c.le = 1) (h3 : c.mo = 0) : Ev G k_X_reckon (d + 3) 0 0 108 [some (.ref (G.1 + 0)), some (.int (nI (s))), some (.int (nI (u))), some (.int (nI (b))), some (.int (nI (0))), some (.int (nI (S))), some (.long (tvk (DBi c S.testBit nx s b u c.mn))), none, some (.int (nI (lx)))] [] n μ (Rd (some (.long (tvk (DB c S.testBit (fun v => decide (v = S)) nx s b u)))) n μ) := by
  obtain ⟨hn, x0, x1, x2, x3, x4, x5, x11, x12, x18, x19, xi, xj⟩ := id hX
  obtain ⟨⟨hst1, hst2⟩, hfr, hpn, hpp, hmn, hwd, hnd, hpu, hnr, hbr, hle, hdef⟩ := id hc
  have hDB : DB c S.testBit (fun v => decide (v = S)) nx s b u = DBf c nx s b u (DBi c S.testBit nx s b u c.mn) (c.mo + 1 - c.le) := by unfold DB; rw [if_neg (by omega), hfs]; rfl
  generalize hQ : (Rd (some (.long (tvk (DB c S.testBit (fun v => decide (v = S)) nx s b u)))) n μ) = Q
  subst h1
  refine ev_iload d_X_reckon_108 rfl ?_
  refine ev_aload_n d_X_reckon_110 rfl rfl ?_
  refine ev_getf (kf := 9) (T := F_X) (C := R_X) (N := 14) (v := .int (nI (c.mo))) d_X_reckon_111 fl_X_119 rfl i_X (by decide) (by omega) x0 rfl ?_
  refine ev_icmp_gt d_X_reckon_114 (fun c_114 => ?_) (fun c_114 => ?_)
  ·
    simp (disch := omega) only [nI_ltI, nI_leI, nI_eq, Nat.not_lt, Nat.not_le] at c_114
    omega
  ·
    simp (disch := omega) only [nI_ltI, nI_leI, nI_eq, Nat.not_lt, Nat.not_le] at c_114
    refine ev_iload d_X_reckon_117 rfl ?_
    refine ev_if_le d_X_reckon_119 (fun c_119 => ?_) (fun c_119 => ?_)
    ·
      skip
      refine ev_lload d_X_reckon_166 rfl ?_
      refine ev_lreturn d_X_reckon_168 rfl ?_
      subst hQ
      rw [hDB, show c.mo + 1 - c.le = 0 by omega]; exact ⟨rfl, rfl, rfl⟩
    ·
      skip
      exact absurd (by decide) c_119
theorem lp_X_reckon1_T {s u b S : Nat} {nx : Nat → Nat → Nat → Kv} (hs : s < c.st) (hfs : c.fr s = false) (hu : u < 64) (hS : S < 64) (hb : b < 6) (hsub : ∀ j, u.testBit j = true → S.testBit j = true) (hTb : TbX c S tb nx s) (hnx : Bnd nx) (hlx : LxOK c lx) (hX : XM G n μ c lx ik tb tl ts lat) (hc : CfOK c) : ∀ (m : Nat) (i : Nat), i ≤ c.mn → c.mn < i + m → Ev G k_X_reckon (d + 3) 0 0 57 [some (.ref (G.1 + 0)), some (.int (nI (s))), some (.int (nI (u))), some (.int (nI (b))), some (.int (nI (0))), some (.int (nI (S))), some (.long (tvk (DBi c S.testBit nx s b u i))), none, some (.int (nI (i)))] [] n μ ((Rd (some (.long (tvk (DB c S.testBit (fun v => decide (v = S)) nx s b u)))) n μ)) := by
  obtain ⟨hn, x0, x1, x2, x3, x4, x5, x11, x12, x18, x19, xi, xj⟩ := id hX
  obtain ⟨⟨hst1, hst2⟩, hfr, hpn, hpp, hmn, hwd, hnd, hpu, hnr, hbr, hle, hdef⟩ := id hc
  have hDB : DB c S.testBit (fun v => decide (v = S)) nx s b u = DBf c nx s b u (DBi c S.testBit nx s b u c.mn) (c.mo + 1 - c.le) := by unfold DB; rw [if_neg (by omega), hfs]; rfl
  generalize hQ : (Rd (some (.long (tvk (DB c S.testBit (fun v => decide (v = S)) nx s b u)))) n μ) = Q
  intro m
  induction m with
  | zero =>
    intro i h1 h2
    exact absurd h2 (by omega)
  | succ m ih =>
    intro i hi him 
    refine ev_iload d_X_reckon_57 rfl ?_
    refine ev_aload_n d_X_reckon_59 rfl rfl ?_
    refine ev_getf (kf := 5) (T := F_X) (C := R_X) (N := 14) (v := .int (nI (c.mn))) d_X_reckon_60 fl_X_81 rfl i_X (by decide) (by omega) x0 rfl ?_
    refine ev_icmp_ge d_X_reckon_63 (fun c_63 => ?_) (fun c_63 => ?_)
    ·
      simp (disch := omega) only [nI_ltI, nI_leI, nI_eq, Nat.not_lt, Nat.not_le] at c_63
      refine ev_aload_n d_X_reckon_102 rfl rfl ?_
      refine ev_getf (kf := 8) (T := F_X) (C := R_X) (N := 14) (v := .int (nI (lx))) d_X_reckon_103 fl_X_116 rfl i_X (by decide) (by omega) x0 rfl ?_
      refine ev_istore (ls' := [_, _, _, _, _, _, _, none, _]) d_X_reckon_106 (by decide) rfl rfl ?_
      have hi2 : i = c.mn := by omega
      rw [hi2]
      rcases hlx with h | ⟨h1, h2, h3⟩
      · subst h
        subst hQ
        exact lp_X_reckon2_T hs hfs hu hS hb hsub hTb hnx (Or.inl rfl) hX hc (c.mo + 2) 0 (by omega) (by omega)
      · subst hQ
        exact lp_X_reckon0_T hs hfs hu hS hb hsub hTb hnx (Or.inr ⟨h1, h2, h3⟩) hX hc h1 h2 h3
    ·
      simp (disch := omega) only [nI_ltI, nI_leI, nI_eq, Nat.not_lt, Nat.not_le] at c_63
      refine ev_aload_n d_X_reckon_66 rfl rfl ?_
      refine ev_iload d_X_reckon_67 rfl ?_
      refine ev_iload_n d_X_reckon_69 rfl rfl ?_
      refine ev_iload_n d_X_reckon_70 rfl rfl ?_
      refine ev_iload_n d_X_reckon_71 rfl rfl ?_
      refine ev_iload d_X_reckon_72 rfl ?_
      refine cv (k' := k_X_may) (As := [.int (nI (i)), .int (nI (s)), .int (nI (u)), .int (nI (b)), .int (nI (S))]) (stk := []) d_X_reckon_74 ml_X_145 kk_X_may rfl rfl (Nat.le_of_ble_eq_true rfl) (by omega) x0 rfl rfl (ct_X_mayT (d := d) (b := b) (by omega) (by omega) hu hS hb hX hc) (rd ?_)
      refine ev_if_eq d_X_reckon_77 (fun c_77 => ?_) (fun c_77 => ?_)
      ·
        have c_77 := b2_f c_77
        refine ev_iinc (v := (nI (i + 1))) (ls' := [_, _, _, _, _, _, _, none, _]) d_X_reckon_96 rfl (nI_1 _) (by decide) rfl rfl ?_
        refine ev_goto d_X_reckon_99 ?_
        have e : DBi c S.testBit nx s b u (i + 1) = DBi c S.testBit nx s b u i := by simp [DBi, c_77]
        rw [← e]
        exact ih (i + 1) (by omega) (by omega)
      ·
        have c_77 := b2_t c_77
        have hok := okI_s c_77
        have hop := opn_le hok.2.2.1
        have hwi := hwd i c_63
        have htb := hTb (s + c.wd i) i (u ||| 2 ^ i) (by omega) hop (by omega) (or_lt u hu i (by omega)) (or_sub hok.1 hsub) (fun _ => or_has u i)
        refine ev_lload d_X_reckon_80 rfl ?_
        refine ev_aload_n d_X_reckon_82 rfl rfl ?_
        refine ev_iload d_X_reckon_83 rfl ?_
        refine ev_iload_n d_X_reckon_85 rfl rfl ?_
        refine ev_iload_n d_X_reckon_86 rfl rfl ?_
        refine ev_iload_n d_X_reckon_87 rfl rfl ?_
        refine cv (k' := k_X_withItem) (As := [.int (nI (i)), .int (nI (s)), .int (nI (u)), .int (nI (b))]) (stk := [.long (tvk (DBi c S.testBit nx s b u i))]) d_X_reckon_88 ml_X_149 kk_X_withItem rfl rfl (Nat.le_of_ble_eq_true rfl) (by omega) x0 rfl rfl (ct_X_withItemT (d := d + 1) (b := b) (o := nx (s + c.wd i) i (u ||| 2 ^ i)) hnx.le (by omega) hop hu hb hX hc htb) (rd ?_)
        refine cs (k' := k_J_lmax) (As := [.long (tvk (DBi c S.testBit nx s b u i)), .long (tvk (kadd (nx (s + c.wd i) i (u ||| 2 ^ i)) (c.wo i + nbW c b i) (c.ce i)))]) (stk := []) d_X_reckon_91 ml_X_153 kk_J_lmax rfl rfl (Nat.le_of_ble_eq_true rfl) (ct_J_lmax _ _) (rd ?_)
        refine ev_topl (tv_le (DBi_bnd8 hc hnx (by omega)) (kadd_bnd8 hc hnx (by omega))) ?_
        refine ev_lstore (ls' := [_, _, _, _, _, _, _, none, _]) d_X_reckon_94 (by decide) rfl rfl ?_
        refine ev_iinc (v := (nI (i + 1))) (ls' := [_, _, _, _, _, _, _, none, _]) d_X_reckon_96 rfl (nI_1 _) (by decide) rfl rfl ?_
        refine ev_goto d_X_reckon_99 ?_
        have e : DBi c S.testBit nx s b u (i + 1) = kmax (DBi c S.testBit nx s b u i) (kadd (nx (s + c.wd i) i (u ||| 2 ^ i)) (c.wo i + nbW c b i) (c.ce i)) := by simp [DBi, c_77]
        rw [← e]
        exact ih (i + 1) (by omega) (by omega)
theorem ct_X_reckon_T {s u b S : Nat} {nx : Nat → Nat → Nat → Kv} (hs : s ≤ c.st) (hu : u < 64) (hS : S < 64) (hb : b < 6) (hsub : ∀ j, u.testBit j = true → S.testBit j = true) (hTb : TbX c S tb nx s) (hnx : Bnd nx) (hlx : LxOK c lx) (hX : XM G n μ c lx ik tb tl ts lat) (hc : CfOK c) : Ct G k_X_reckon (d + 3) 0 0 [.ref (G.1 + 0), .int (nI s), .int (nI u), .int (nI (b)), .int (nI (0)), .int (nI S)] n μ (Rd (some (.long (tvk (DB c S.testBit (fun v => decide (v = S)) nx s b u)))) n μ) := by
  obtain ⟨hn, x0, x1, x2, x3, x4, x5, x11, x12, x18, x19, xi, xj⟩ := id hX
  obtain ⟨⟨hst1, hst2⟩, hfr, hpn, hpp, hmn, hwd, hnd, hpu, hnr, hbr, hle, hdef⟩ := id hc
  generalize hQ : (Rd (some (.long (tvk (DB c S.testBit (fun v => decide (v = S)) nx s b u)))) n μ) = Q
  refine Ct.ofp (r := 3) (ls := [some (.ref (G.1 + 0)), some (.int (nI (s))), some (.int (nI (u))), some (.int (nI (b))), some (.int (nI (0))), some (.int (nI (S))), none, none, none]) rfl (Nat.le_of_ble_eq_true rfl) ?_
  refine ev_iload_n d_X_reckon_0 rfl rfl ?_
  refine ev_aload_n d_X_reckon_1 rfl rfl ?_
  refine ev_getf (kf := 0) (T := F_X) (C := R_X) (N := 14) (v := .int (nI (c.st))) d_X_reckon_2 fl_X_50 rfl i_X (by decide) (by omega) x0 rfl ?_
  refine ev_icmp_ne d_X_reckon_5 (fun c_5 => ?_) (fun c_5 => ?_)
  ·
    simp (disch := omega) only [nI_ltI, nI_leI, nI_eq, Nat.not_lt, Nat.not_le] at c_5
    refine ev_aload_n d_X_reckon_22 rfl rfl ?_
    refine ev_getf (kf := 1) (T := F_X) (C := R_X) (N := 14) (v := .ref (G.1 + 1)) d_X_reckon_23 fl_X_7 rfl i_X (by decide) (by omega) x0 rfl ?_
    refine ev_iload_n d_X_reckon_26 rfl rfl ?_
    refine ev_zald (j := s) d_X_reckon_27 (by omega) x1 (by omega) (by decide) ?_
    refine ev_if_eq d_X_reckon_28 (fun c_28 => ?_) (fun c_28 => ?_)
    ·
      have c_28 := b2_f c_28
      refine ev_ldc2 (v := (-1)) d_X_reckon_49 ck_X_101 ?_
      refine ev_lstore (ls' := [_, _, _, _, _, _, _, none, none]) d_X_reckon_52 (by decide) rfl rfl ?_
      refine ev_iconst (v := (nI (0))) d_X_reckon_54 (by decide) ?_
      refine ev_istore (ls' := [_, _, _, _, _, _, _, none, _]) d_X_reckon_55 (by decide) rfl rfl ?_
      subst hQ
      exact lp_X_reckon1_T (by omega) c_28 hu hS hb hsub hTb hnx hlx hX hc (c.mn + 1) 0 (by omega) (by omega)
    ·
      have c_28 := b2_t c_28
      have hbf1 := bf_lt hc c_28
      have hbf2 := bf_le hc hs
      have htb := hTb (c.bf s) 6 u (by omega) (by omega) (by omega) hu hsub (by omega)
      rw [cX_6] at htb
      refine ev_aload_n d_X_reckon_31 rfl rfl ?_
      refine ev_getf (kf := 10) (T := F_X) (C := R_X) (N := 14) (v := .ref (G.1 + 18)) d_X_reckon_32 fl_X_34 rfl i_X (by decide) (by omega) x0 rfl ?_
      refine ev_aload_n d_X_reckon_35 rfl rfl ?_
      refine ev_iload_n d_X_reckon_36 rfl rfl ?_
      refine cv (k' := k_X_behindFree) (As := [.int (nI (s))]) (stk := [.ref (G.1 + 18)]) d_X_reckon_37 ml_X_141 kk_X_behindFree rfl rfl (Nat.le_of_ble_eq_true rfl) (by omega) x0 rfl rfl (ct_X_behindFree (d := d + 2) hX hc hs) (rd ?_)
      refine ev_iload_n d_X_reckon_40 rfl rfl ?_
      refine ev_bipush (v := (nI (6))) d_X_reckon_41 (by decide) ?_
      refine ev_iconst (v := (nI (0))) d_X_reckon_43 (by decide) ?_
      refine cs (k' := k_X_cell) (As := [.int (nI (c.bf s)), .int (nI (u)), .int (nI (6)), .int (nI (0))]) (stk := [.ref (G.1 + 18)]) d_X_reckon_44 ml_X_133 kk_X_cell rfl rfl (Nat.le_of_ble_eq_true rfl) (ct_X_cell (d := d + 2) (c.bf s) u 6 0) (rd ?_)
      refine ev_lald (j := (((c.bf s) * 64 + u) * 7 + 6) * 2 + 0) d_X_reckon_47 (by omega) x18 (by omega) (by decide) ?_
      refine ev_lreturn d_X_reckon_48 rfl ?_
      subst hQ
      have e : DB c S.testBit (fun v => decide (v = S)) nx s b u = nx (c.bf s) 6 u := by unfold DB; rw [if_neg c_5, if_pos c_28]
      rw [e, htb]; exact ⟨rfl, rfl, rfl⟩
  ·
    simp (disch := omega) only [nI_ltI, nI_leI, nI_eq, Nat.not_lt, Nat.not_le] at c_5
    refine ev_iload_n d_X_reckon_8 rfl rfl ?_
    refine ev_iload d_X_reckon_9 rfl ?_
    refine ev_icmp_ne d_X_reckon_11 (fun c_11 => ?_) (fun c_11 => ?_)
    ·
      simp (disch := omega) only [nI_ltI, nI_leI, nI_eq, Nat.not_lt, Nat.not_le] at c_11
      refine ev_ldc2 (v := (-1)) d_X_reckon_18 ck_X_101 ?_
      refine ev_lreturn d_X_reckon_21 rfl ?_
      subst hQ
      have e : DB c S.testBit (fun v => decide (v = S)) nx s b u = none := by unfold DB; rw [if_pos c_5]; simp [c_11]
      rw [e]; exact ⟨rfl, rfl, rfl⟩
    ·
      simp (disch := omega) only [nI_ltI, nI_leI, nI_eq, Nat.not_lt, Nat.not_le] at c_11
      refine ev_lconst (v := lN 0) d_X_reckon_14 (by decide) ?_
      refine ev_goto d_X_reckon_15 ?_
      refine ev_lreturn d_X_reckon_21 rfl ?_
      subst hQ
      have e : DB c S.testBit (fun v => decide (v = S)) nx s b u = some (0, 0) := by unfold DB; rw [if_pos c_5]; simp [c_11]
      rw [e]; exact ⟨rfl, rfl, rfl⟩
theorem lp_X_reckon2_6 {s u S : Nat} {nx : Nat → Nat → Nat → Kv} (hs : s < c.st) (hfs : c.fr s = false) (hu : u < 64) (hS : S < 64) (hsub : ∀ j, u.testBit j = true → S.testBit j = true) (hTb : TbX c S tb nx s) (hnx : Bnd nx) (hlx : LxOK c lx) (hX : XM G n μ c lx ik tb tl ts lat) (hc : CfOK c) : ∀ (m : Nat) (j : Nat), j ≤ c.mo + 1 - c.le → c.mo + 1 - c.le < j + m → Ev G k_X_reckon (d + 3) 0 0 108 [some (.ref (G.1 + 0)), some (.int (nI (s))), some (.int (nI (u))), some (.int (iI ((-1)))), some (.int (nI (0))), some (.int (nI (S))), some (.long (tvk (DBf c nx s 6 u (DBi c S.testBit nx s 6 u c.mn) j))), none, some (.int (nI (c.le + j)))] [] n μ ((Rd (some (.long (tvk (DB c S.testBit (fun v => decide (v = S)) nx s 6 u)))) n μ)) := by
  obtain ⟨hn, x0, x1, x2, x3, x4, x5, x11, x12, x18, x19, xi, xj⟩ := id hX
  obtain ⟨⟨hst1, hst2⟩, hfr, hpn, hpp, hmn, hwd, hnd, hpu, hnr, hbr, hle, hdef⟩ := id hc
  have hDB : DB c S.testBit (fun v => decide (v = S)) nx s 6 u = DBf c nx s 6 u (DBi c S.testBit nx s 6 u c.mn) (c.mo + 1 - c.le) := by unfold DB; rw [if_neg (by omega), hfs]; rfl
  generalize hQ : (Rd (some (.long (tvk (DB c S.testBit (fun v => decide (v = S)) nx s 6 u)))) n μ) = Q
  intro m
  induction m with
  | zero =>
    intro j h1 h2
    exact absurd h2 (by omega)
  | succ m ih =>
    intro j hi him 
    refine ev_iload d_X_reckon_108 rfl ?_
    refine ev_aload_n d_X_reckon_110 rfl rfl ?_
    refine ev_getf (kf := 9) (T := F_X) (C := R_X) (N := 14) (v := .int (nI (c.mo))) d_X_reckon_111 fl_X_119 rfl i_X (by decide) (by omega) x0 rfl ?_
    refine ev_icmp_gt d_X_reckon_114 (fun c_114 => ?_) (fun c_114 => ?_)
    ·
      simp (disch := omega) only [nI_ltI, nI_leI, nI_eq, Nat.not_lt, Nat.not_le] at c_114
      refine ev_lload d_X_reckon_166 rfl ?_
      refine ev_lreturn d_X_reckon_168 rfl ?_
      subst hQ
      have hj : j = c.mo + 1 - c.le := by omega
      rw [hDB, ← hj]; exact ⟨rfl, rfl, rfl⟩
    ·
      simp (disch := omega) only [nI_ltI, nI_leI, nI_eq, Nat.not_lt, Nat.not_le] at c_114
      refine ev_iload d_X_reckon_117 rfl ?_
      refine ev_if_le d_X_reckon_119 (fun c_119 => ?_) (fun c_119 => ?_)
      ·
        skip
        exact absurd c_119 (nI_nle (by omega) (by omega))
      ·
        skip
        refine ev_iload d_X_reckon_122 rfl ?_
        refine ev_if_ne d_X_reckon_124 (fun c_124 => ?_) (fun c_124 => ?_)
        ·
          skip
          exact absurd rfl c_124
        ·
          skip
          refine ev_aload_n d_X_reckon_127 rfl rfl ?_
          refine ev_iload_n d_X_reckon_128 rfl rfl ?_
          refine ev_iload d_X_reckon_129 rfl ?_
          refine cv (k' := k_X_isOpen) (As := [.int (nI (s)), .int (nI (c.le + j))]) (stk := []) d_X_reckon_131 ml_X_125 kk_X_isOpen rfl rfl (Nat.le_of_ble_eq_true rfl) (by omega) x0 rfl rfl (ct_X_isOpen (d := d + 2) (by omega) (by omega) hX hc) (rd ?_)
          refine ev_if_eq d_X_reckon_134 (fun c_134 => ?_) (fun c_134 => ?_)
          ·
            have c_134 := b2_f c_134
            refine ev_iinc (v := (nI (c.le + j + 1))) (ls' := [_, _, _, _, _, _, _, none, _]) d_X_reckon_160 rfl (nI_1 _) (by decide) rfl rfl ?_
            refine ev_goto d_X_reckon_163 ?_
            have e : DBf c nx s 6 u (DBi c S.testBit nx s 6 u c.mn) (j + 1) = DBf c nx s 6 u (DBi c S.testBit nx s 6 u c.mn) j := by simp [DBf, c_134]
            rw [← e]
            exact ih (j + 1) (by omega) (by omega)
          ·
            have c_134 := b2_t c_134
            have hop := opn_le c_134
            have htb := hTb (s + (c.le + j)) 7 u (by omega) hop (by omega) hu hsub (by omega)
            rw [cX_7] at htb
            refine ev_lload d_X_reckon_137 rfl ?_
            refine ev_aload_n d_X_reckon_139 rfl rfl ?_
            refine ev_getf (kf := 10) (T := F_X) (C := R_X) (N := 14) (v := .ref (G.1 + 18)) d_X_reckon_140 fl_X_34 rfl i_X (by decide) (by omega) x0 rfl ?_
            refine ev_iload_n d_X_reckon_143 rfl rfl ?_
            refine ev_iload d_X_reckon_144 rfl ?_
            refine ev_iadd d_X_reckon_146 ?_
            refine ev_topi (w := (nI (s + (c.le + j)))) (nI_add _ _) ?_
            refine ev_iload_n d_X_reckon_147 rfl rfl ?_
            refine ev_bipush (v := (nI (6))) d_X_reckon_148 (by decide) ?_
            refine ev_iconst (v := (nI (1))) d_X_reckon_150 (by decide) ?_
            refine cs (k' := k_X_cell) (As := [.int (nI (s + (c.le + j))), .int (nI (u)), .int (nI (6)), .int (nI (1))]) (stk := [.ref (G.1 + 18), .long (tvk (DBf c nx s 6 u (DBi c S.testBit nx s 6 u c.mn) j))]) d_X_reckon_151 ml_X_133 kk_X_cell rfl rfl (Nat.le_of_ble_eq_true rfl) (ct_X_cell (d := d + 2) (s + (c.le + j)) u 6 1) (rd ?_)
            refine ev_lald (j := ((((s + (c.le + j)) * 64 + u) * 7 + 6) * 2 + 1)) d_X_reckon_154 (by omega) x18 (by omega) (by decide) ?_
            refine ev_topl htb ?_
            refine cs (k' := k_J_lmax) (As := [.long (tvk (DBf c nx s 6 u (DBi c S.testBit nx s 6 u c.mn) j)), .long (tvk (nx (s + (c.le + j)) 7 u))]) (stk := []) d_X_reckon_155 ml_X_153 kk_J_lmax rfl rfl (Nat.le_of_ble_eq_true rfl) (ct_J_lmax _ _) (rd ?_)
            refine ev_topl (tv_le (DBf_bnd8 hc hnx) hnx.le) ?_
            refine ev_lstore (ls' := [_, _, _, _, _, _, _, none, _]) d_X_reckon_158 (by decide) rfl rfl ?_
            refine ev_iinc (v := (nI (c.le + j + 1))) (ls' := [_, _, _, _, _, _, _, none, _]) d_X_reckon_160 rfl (nI_1 _) (by decide) rfl rfl ?_
            refine ev_goto d_X_reckon_163 ?_
            have e : DBf c nx s 6 u (DBi c S.testBit nx s 6 u c.mn) (j + 1) = kmax (DBf c nx s 6 u (DBi c S.testBit nx s 6 u c.mn) j) (nx (s + (c.le + j)) 7 u) := by simp [DBf, c_134]
            rw [← e]
            exact ih (j + 1) (by omega) (by omega)
theorem lp_X_reckon0_6 {s u S : Nat} {nx : Nat → Nat → Nat → Kv} (hs : s < c.st) (hfs : c.fr s = false) (hu : u < 64) (hS : S < 64) (hsub : ∀ j, u.testBit j = true → S.testBit j = true) (hTb : TbX c S tb nx s) (hnx : Bnd nx) (hlx : LxOK c lx) (hX : XM G n μ c lx ik tb tl ts lat) (hc : CfOK c) (h1 : lx = 0) (h2 : c.le = 1) (h3 : c.mo = 0) : Ev G k_X_reckon (d + 3) 0 0 108 [some (.ref (G.1 + 0)), some (.int (nI (s))), some (.int (nI (u))), some (.int (iI ((-1)))), some (.int (nI (0))), some (.int (nI (S))), some (.long (tvk (DBi c S.testBit nx s 6 u c.mn))), none, some (.int (nI (lx)))] [] n μ (Rd (some (.long (tvk (DB c S.testBit (fun v => decide (v = S)) nx s 6 u)))) n μ) := by
  obtain ⟨hn, x0, x1, x2, x3, x4, x5, x11, x12, x18, x19, xi, xj⟩ := id hX
  obtain ⟨⟨hst1, hst2⟩, hfr, hpn, hpp, hmn, hwd, hnd, hpu, hnr, hbr, hle, hdef⟩ := id hc
  have hDB : DB c S.testBit (fun v => decide (v = S)) nx s 6 u = DBf c nx s 6 u (DBi c S.testBit nx s 6 u c.mn) (c.mo + 1 - c.le) := by unfold DB; rw [if_neg (by omega), hfs]; rfl
  generalize hQ : (Rd (some (.long (tvk (DB c S.testBit (fun v => decide (v = S)) nx s 6 u)))) n μ) = Q
  subst h1
  refine ev_iload d_X_reckon_108 rfl ?_
  refine ev_aload_n d_X_reckon_110 rfl rfl ?_
  refine ev_getf (kf := 9) (T := F_X) (C := R_X) (N := 14) (v := .int (nI (c.mo))) d_X_reckon_111 fl_X_119 rfl i_X (by decide) (by omega) x0 rfl ?_
  refine ev_icmp_gt d_X_reckon_114 (fun c_114 => ?_) (fun c_114 => ?_)
  ·
    simp (disch := omega) only [nI_ltI, nI_leI, nI_eq, Nat.not_lt, Nat.not_le] at c_114
    omega
  ·
    simp (disch := omega) only [nI_ltI, nI_leI, nI_eq, Nat.not_lt, Nat.not_le] at c_114
    refine ev_iload d_X_reckon_117 rfl ?_
    refine ev_if_le d_X_reckon_119 (fun c_119 => ?_) (fun c_119 => ?_)
    ·
      skip
      refine ev_lload d_X_reckon_166 rfl ?_
      refine ev_lreturn d_X_reckon_168 rfl ?_
      subst hQ
      rw [hDB, show c.mo + 1 - c.le = 0 by omega]; exact ⟨rfl, rfl, rfl⟩
    ·
      skip
      exact absurd (by decide) c_119
theorem lp_X_reckon1_6 {s u S : Nat} {nx : Nat → Nat → Nat → Kv} (hs : s < c.st) (hfs : c.fr s = false) (hu : u < 64) (hS : S < 64) (hsub : ∀ j, u.testBit j = true → S.testBit j = true) (hTb : TbX c S tb nx s) (hnx : Bnd nx) (hlx : LxOK c lx) (hX : XM G n μ c lx ik tb tl ts lat) (hc : CfOK c) : ∀ (m : Nat) (i : Nat), i ≤ c.mn → c.mn < i + m → Ev G k_X_reckon (d + 3) 0 0 57 [some (.ref (G.1 + 0)), some (.int (nI (s))), some (.int (nI (u))), some (.int (iI ((-1)))), some (.int (nI (0))), some (.int (nI (S))), some (.long (tvk (DBi c S.testBit nx s 6 u i))), none, some (.int (nI (i)))] [] n μ ((Rd (some (.long (tvk (DB c S.testBit (fun v => decide (v = S)) nx s 6 u)))) n μ)) := by
  obtain ⟨hn, x0, x1, x2, x3, x4, x5, x11, x12, x18, x19, xi, xj⟩ := id hX
  obtain ⟨⟨hst1, hst2⟩, hfr, hpn, hpp, hmn, hwd, hnd, hpu, hnr, hbr, hle, hdef⟩ := id hc
  have hDB : DB c S.testBit (fun v => decide (v = S)) nx s 6 u = DBf c nx s 6 u (DBi c S.testBit nx s 6 u c.mn) (c.mo + 1 - c.le) := by unfold DB; rw [if_neg (by omega), hfs]; rfl
  generalize hQ : (Rd (some (.long (tvk (DB c S.testBit (fun v => decide (v = S)) nx s 6 u)))) n μ) = Q
  intro m
  induction m with
  | zero =>
    intro i h1 h2
    exact absurd h2 (by omega)
  | succ m ih =>
    intro i hi him 
    refine ev_iload d_X_reckon_57 rfl ?_
    refine ev_aload_n d_X_reckon_59 rfl rfl ?_
    refine ev_getf (kf := 5) (T := F_X) (C := R_X) (N := 14) (v := .int (nI (c.mn))) d_X_reckon_60 fl_X_81 rfl i_X (by decide) (by omega) x0 rfl ?_
    refine ev_icmp_ge d_X_reckon_63 (fun c_63 => ?_) (fun c_63 => ?_)
    ·
      simp (disch := omega) only [nI_ltI, nI_leI, nI_eq, Nat.not_lt, Nat.not_le] at c_63
      refine ev_aload_n d_X_reckon_102 rfl rfl ?_
      refine ev_getf (kf := 8) (T := F_X) (C := R_X) (N := 14) (v := .int (nI (lx))) d_X_reckon_103 fl_X_116 rfl i_X (by decide) (by omega) x0 rfl ?_
      refine ev_istore (ls' := [_, _, _, _, _, _, _, none, _]) d_X_reckon_106 (by decide) rfl rfl ?_
      have hi2 : i = c.mn := by omega
      rw [hi2]
      rcases hlx with h | ⟨h1, h2, h3⟩
      · subst h
        subst hQ
        exact lp_X_reckon2_6 hs hfs hu hS hsub hTb hnx (Or.inl rfl) hX hc (c.mo + 2) 0 (by omega) (by omega)
      · subst hQ
        exact lp_X_reckon0_6 hs hfs hu hS hsub hTb hnx (Or.inr ⟨h1, h2, h3⟩) hX hc h1 h2 h3
    ·
      simp (disch := omega) only [nI_ltI, nI_leI, nI_eq, Nat.not_lt, Nat.not_le] at c_63
      refine ev_aload_n d_X_reckon_66 rfl rfl ?_
      refine ev_iload d_X_reckon_67 rfl ?_
      refine ev_iload_n d_X_reckon_69 rfl rfl ?_
      refine ev_iload_n d_X_reckon_70 rfl rfl ?_
      refine ev_iload_n d_X_reckon_71 rfl rfl ?_
      refine ev_iload d_X_reckon_72 rfl ?_
      refine cv (k' := k_X_may) (As := [.int (nI (i)), .int (nI (s)), .int (nI (u)), .int (iI ((-1))), .int (nI (S))]) (stk := []) d_X_reckon_74 ml_X_145 kk_X_may rfl rfl (Nat.le_of_ble_eq_true rfl) (by omega) x0 rfl rfl (ct_X_mayN (d := d) (b := 6) (by omega) (by omega) hu hS (by decide) hX hc) (rd ?_)
      refine ev_if_eq d_X_reckon_77 (fun c_77 => ?_) (fun c_77 => ?_)
      ·
        have c_77 := b2_f c_77
        refine ev_iinc (v := (nI (i + 1))) (ls' := [_, _, _, _, _, _, _, none, _]) d_X_reckon_96 rfl (nI_1 _) (by decide) rfl rfl ?_
        refine ev_goto d_X_reckon_99 ?_
        have e : DBi c S.testBit nx s 6 u (i + 1) = DBi c S.testBit nx s 6 u i := by simp [DBi, c_77]
        rw [← e]
        exact ih (i + 1) (by omega) (by omega)
      ·
        have c_77 := b2_t c_77
        have hok := okI_s c_77
        have hop := opn_le hok.2.2.1
        have hwi := hwd i c_63
        have htb := hTb (s + c.wd i) i (u ||| 2 ^ i) (by omega) hop (by omega) (or_lt u hu i (by omega)) (or_sub hok.1 hsub) (fun _ => or_has u i)
        refine ev_lload d_X_reckon_80 rfl ?_
        refine ev_aload_n d_X_reckon_82 rfl rfl ?_
        refine ev_iload d_X_reckon_83 rfl ?_
        refine ev_iload_n d_X_reckon_85 rfl rfl ?_
        refine ev_iload_n d_X_reckon_86 rfl rfl ?_
        refine ev_iload_n d_X_reckon_87 rfl rfl ?_
        refine cv (k' := k_X_withItem) (As := [.int (nI (i)), .int (nI (s)), .int (nI (u)), .int (iI ((-1)))]) (stk := [.long (tvk (DBi c S.testBit nx s 6 u i))]) d_X_reckon_88 ml_X_149 kk_X_withItem rfl rfl (Nat.le_of_ble_eq_true rfl) (by omega) x0 rfl rfl (ct_X_withItemN (d := d + 1) (b := 6) (o := nx (s + c.wd i) i (u ||| 2 ^ i)) hnx.le (by omega) hop hu (by decide) hX hc htb) (rd ?_)
        refine cs (k' := k_J_lmax) (As := [.long (tvk (DBi c S.testBit nx s 6 u i)), .long (tvk (kadd (nx (s + c.wd i) i (u ||| 2 ^ i)) (c.wo i + nbW c 6 i) (c.ce i)))]) (stk := []) d_X_reckon_91 ml_X_153 kk_J_lmax rfl rfl (Nat.le_of_ble_eq_true rfl) (ct_J_lmax _ _) (rd ?_)
        refine ev_topl (tv_le (DBi_bnd8 hc hnx (by omega)) (kadd_bnd8 hc hnx (by omega))) ?_
        refine ev_lstore (ls' := [_, _, _, _, _, _, _, none, _]) d_X_reckon_94 (by decide) rfl rfl ?_
        refine ev_iinc (v := (nI (i + 1))) (ls' := [_, _, _, _, _, _, _, none, _]) d_X_reckon_96 rfl (nI_1 _) (by decide) rfl rfl ?_
        refine ev_goto d_X_reckon_99 ?_
        have e : DBi c S.testBit nx s 6 u (i + 1) = kmax (DBi c S.testBit nx s 6 u i) (kadd (nx (s + c.wd i) i (u ||| 2 ^ i)) (c.wo i + nbW c 6 i) (c.ce i)) := by simp [DBi, c_77]
        rw [← e]
        exact ih (i + 1) (by omega) (by omega)
theorem ct_X_reckon_6 {s u S : Nat} {nx : Nat → Nat → Nat → Kv} (hs : s ≤ c.st) (hu : u < 64) (hS : S < 64) (hsub : ∀ j, u.testBit j = true → S.testBit j = true) (hTb : TbX c S tb nx s) (hnx : Bnd nx) (hlx : LxOK c lx) (hX : XM G n μ c lx ik tb tl ts lat) (hc : CfOK c) : Ct G k_X_reckon (d + 3) 0 0 [.ref (G.1 + 0), .int (nI s), .int (nI u), .int (iI ((-1))), .int (nI (0)), .int (nI S)] n μ (Rd (some (.long (tvk (DB c S.testBit (fun v => decide (v = S)) nx s 6 u)))) n μ) := by
  obtain ⟨hn, x0, x1, x2, x3, x4, x5, x11, x12, x18, x19, xi, xj⟩ := id hX
  obtain ⟨⟨hst1, hst2⟩, hfr, hpn, hpp, hmn, hwd, hnd, hpu, hnr, hbr, hle, hdef⟩ := id hc
  generalize hQ : (Rd (some (.long (tvk (DB c S.testBit (fun v => decide (v = S)) nx s 6 u)))) n μ) = Q
  refine Ct.ofp (r := 3) (ls := [some (.ref (G.1 + 0)), some (.int (nI (s))), some (.int (nI (u))), some (.int (iI ((-1)))), some (.int (nI (0))), some (.int (nI (S))), none, none, none]) rfl (Nat.le_of_ble_eq_true rfl) ?_
  refine ev_iload_n d_X_reckon_0 rfl rfl ?_
  refine ev_aload_n d_X_reckon_1 rfl rfl ?_
  refine ev_getf (kf := 0) (T := F_X) (C := R_X) (N := 14) (v := .int (nI (c.st))) d_X_reckon_2 fl_X_50 rfl i_X (by decide) (by omega) x0 rfl ?_
  refine ev_icmp_ne d_X_reckon_5 (fun c_5 => ?_) (fun c_5 => ?_)
  ·
    simp (disch := omega) only [nI_ltI, nI_leI, nI_eq, Nat.not_lt, Nat.not_le] at c_5
    refine ev_aload_n d_X_reckon_22 rfl rfl ?_
    refine ev_getf (kf := 1) (T := F_X) (C := R_X) (N := 14) (v := .ref (G.1 + 1)) d_X_reckon_23 fl_X_7 rfl i_X (by decide) (by omega) x0 rfl ?_
    refine ev_iload_n d_X_reckon_26 rfl rfl ?_
    refine ev_zald (j := s) d_X_reckon_27 (by omega) x1 (by omega) (by decide) ?_
    refine ev_if_eq d_X_reckon_28 (fun c_28 => ?_) (fun c_28 => ?_)
    ·
      have c_28 := b2_f c_28
      refine ev_ldc2 (v := (-1)) d_X_reckon_49 ck_X_101 ?_
      refine ev_lstore (ls' := [_, _, _, _, _, _, _, none, none]) d_X_reckon_52 (by decide) rfl rfl ?_
      refine ev_iconst (v := (nI (0))) d_X_reckon_54 (by decide) ?_
      refine ev_istore (ls' := [_, _, _, _, _, _, _, none, _]) d_X_reckon_55 (by decide) rfl rfl ?_
      subst hQ
      exact lp_X_reckon1_6 (by omega) c_28 hu hS hsub hTb hnx hlx hX hc (c.mn + 1) 0 (by omega) (by omega)
    ·
      have c_28 := b2_t c_28
      have hbf1 := bf_lt hc c_28
      have hbf2 := bf_le hc hs
      have htb := hTb (c.bf s) 6 u (by omega) (by omega) (by omega) hu hsub (by omega)
      rw [cX_6] at htb
      refine ev_aload_n d_X_reckon_31 rfl rfl ?_
      refine ev_getf (kf := 10) (T := F_X) (C := R_X) (N := 14) (v := .ref (G.1 + 18)) d_X_reckon_32 fl_X_34 rfl i_X (by decide) (by omega) x0 rfl ?_
      refine ev_aload_n d_X_reckon_35 rfl rfl ?_
      refine ev_iload_n d_X_reckon_36 rfl rfl ?_
      refine cv (k' := k_X_behindFree) (As := [.int (nI (s))]) (stk := [.ref (G.1 + 18)]) d_X_reckon_37 ml_X_141 kk_X_behindFree rfl rfl (Nat.le_of_ble_eq_true rfl) (by omega) x0 rfl rfl (ct_X_behindFree (d := d + 2) hX hc hs) (rd ?_)
      refine ev_iload_n d_X_reckon_40 rfl rfl ?_
      refine ev_bipush (v := (nI (6))) d_X_reckon_41 (by decide) ?_
      refine ev_iconst (v := (nI (0))) d_X_reckon_43 (by decide) ?_
      refine cs (k' := k_X_cell) (As := [.int (nI (c.bf s)), .int (nI (u)), .int (nI (6)), .int (nI (0))]) (stk := [.ref (G.1 + 18)]) d_X_reckon_44 ml_X_133 kk_X_cell rfl rfl (Nat.le_of_ble_eq_true rfl) (ct_X_cell (d := d + 2) (c.bf s) u 6 0) (rd ?_)
      refine ev_lald (j := (((c.bf s) * 64 + u) * 7 + 6) * 2 + 0) d_X_reckon_47 (by omega) x18 (by omega) (by decide) ?_
      refine ev_lreturn d_X_reckon_48 rfl ?_
      subst hQ
      have e : DB c S.testBit (fun v => decide (v = S)) nx s 6 u = nx (c.bf s) 6 u := by unfold DB; rw [if_neg c_5, if_pos c_28]
      rw [e, htb]; exact ⟨rfl, rfl, rfl⟩
  ·
    simp (disch := omega) only [nI_ltI, nI_leI, nI_eq, Nat.not_lt, Nat.not_le] at c_5
    refine ev_iload_n d_X_reckon_8 rfl rfl ?_
    refine ev_iload d_X_reckon_9 rfl ?_
    refine ev_icmp_ne d_X_reckon_11 (fun c_11 => ?_) (fun c_11 => ?_)
    ·
      simp (disch := omega) only [nI_ltI, nI_leI, nI_eq, Nat.not_lt, Nat.not_le] at c_11
      refine ev_ldc2 (v := (-1)) d_X_reckon_18 ck_X_101 ?_
      refine ev_lreturn d_X_reckon_21 rfl ?_
      subst hQ
      have e : DB c S.testBit (fun v => decide (v = S)) nx s 6 u = none := by unfold DB; rw [if_pos c_5]; simp [c_11]
      rw [e]; exact ⟨rfl, rfl, rfl⟩
    ·
      simp (disch := omega) only [nI_ltI, nI_leI, nI_eq, Nat.not_lt, Nat.not_le] at c_11
      refine ev_lconst (v := lN 0) d_X_reckon_14 (by decide) ?_
      refine ev_goto d_X_reckon_15 ?_
      refine ev_lreturn d_X_reckon_21 rfl ?_
      subst hQ
      have e : DB c S.testBit (fun v => decide (v = S)) nx s 6 u = some (0, 0) := by unfold DB; rw [if_pos c_5]; simp [c_11]
      rw [e]; exact ⟨rfl, rfl, rfl⟩
theorem lp_X_reckon1_7 {s u S : Nat} {nx : Nat → Nat → Nat → Kv} (hs : s < c.st) (hfs : c.fr s = false) (hu : u < 64) (hS : S < 64) (hsub : ∀ j, u.testBit j = true → S.testBit j = true) (hTb : TbX c S tb nx s) (hnx : Bnd nx) (hlx : LxOK c lx) (hX : XM G n μ c lx ik tb tl ts lat) (hc : CfOK c) : ∀ (m : Nat) (i : Nat), i ≤ c.mn → c.mn < i + m → Ev G k_X_reckon (d + 3) 0 0 57 [some (.ref (G.1 + 0)), some (.int (nI (s))), some (.int (nI (u))), some (.int (iI ((-1)))), some (.int (nI (1))), some (.int (nI (S))), some (.long (tvk (DBi c S.testBit nx s 7 u i))), none, some (.int (nI (i)))] [] n μ ((Rd (some (.long (tvk (DB c S.testBit (fun v => decide (v = S)) nx s 7 u)))) n μ)) := by
  obtain ⟨hn, x0, x1, x2, x3, x4, x5, x11, x12, x18, x19, xi, xj⟩ := id hX
  obtain ⟨⟨hst1, hst2⟩, hfr, hpn, hpp, hmn, hwd, hnd, hpu, hnr, hbr, hle, hdef⟩ := id hc
  have hDB : DB c S.testBit (fun v => decide (v = S)) nx s 7 u = DBf c nx s 7 u (DBi c S.testBit nx s 7 u c.mn) (c.mo + 1 - c.le) := by unfold DB; rw [if_neg (by omega), hfs]; rfl
  generalize hQ : (Rd (some (.long (tvk (DB c S.testBit (fun v => decide (v = S)) nx s 7 u)))) n μ) = Q
  intro m
  induction m with
  | zero =>
    intro i h1 h2
    exact absurd h2 (by omega)
  | succ m ih =>
    intro i hi him 
    refine ev_iload d_X_reckon_57 rfl ?_
    refine ev_aload_n d_X_reckon_59 rfl rfl ?_
    refine ev_getf (kf := 5) (T := F_X) (C := R_X) (N := 14) (v := .int (nI (c.mn))) d_X_reckon_60 fl_X_81 rfl i_X (by decide) (by omega) x0 rfl ?_
    refine ev_icmp_ge d_X_reckon_63 (fun c_63 => ?_) (fun c_63 => ?_)
    ·
      simp (disch := omega) only [nI_ltI, nI_leI, nI_eq, Nat.not_lt, Nat.not_le] at c_63
      refine ev_aload_n d_X_reckon_102 rfl rfl ?_
      refine ev_getf (kf := 8) (T := F_X) (C := R_X) (N := 14) (v := .int (nI (lx))) d_X_reckon_103 fl_X_116 rfl i_X (by decide) (by omega) x0 rfl ?_
      refine ev_istore (ls' := [_, _, _, _, _, _, _, none, _]) d_X_reckon_106 (by decide) rfl rfl ?_
      refine ev_iload d_X_reckon_108 rfl ?_
      refine ev_aload_n d_X_reckon_110 rfl rfl ?_
      refine ev_getf (kf := 9) (T := F_X) (C := R_X) (N := 14) (v := .int (nI (c.mo))) d_X_reckon_111 fl_X_119 rfl i_X (by decide) (by omega) x0 rfl ?_
      refine ev_icmp_gt d_X_reckon_114 (fun c_114 => ?_) (fun c_114 => ?_)
      ·
        skip
        refine ev_lload d_X_reckon_166 rfl ?_
        refine ev_lreturn d_X_reckon_168 rfl ?_
        subst hQ
        have hi2 : i = c.mn := by omega
        rw [hDB, DBf_7, ← hi2]; exact ⟨rfl, rfl, rfl⟩
      ·
        skip
        refine ev_iload d_X_reckon_117 rfl ?_
        refine ev_if_le d_X_reckon_119 (fun c_119 => ?_) (fun c_119 => ?_)
        ·
          skip
          refine ev_lload d_X_reckon_166 rfl ?_
          refine ev_lreturn d_X_reckon_168 rfl ?_
          subst hQ
          have hi2 : i = c.mn := by omega
          rw [hDB, DBf_7, ← hi2]; exact ⟨rfl, rfl, rfl⟩
        ·
          skip
          refine ev_iload d_X_reckon_122 rfl ?_
          refine ev_if_ne d_X_reckon_124 (fun c_124 => ?_) (fun c_124 => ?_)
          ·
            skip
            refine ev_lload d_X_reckon_166 rfl ?_
            refine ev_lreturn d_X_reckon_168 rfl ?_
            subst hQ
            have hi2 : i = c.mn := by omega
            rw [hDB, DBf_7, ← hi2]; exact ⟨rfl, rfl, rfl⟩
          ·
            skip
            exact absurd c_124 (by decide)
    ·
      simp (disch := omega) only [nI_ltI, nI_leI, nI_eq, Nat.not_lt, Nat.not_le] at c_63
      refine ev_aload_n d_X_reckon_66 rfl rfl ?_
      refine ev_iload d_X_reckon_67 rfl ?_
      refine ev_iload_n d_X_reckon_69 rfl rfl ?_
      refine ev_iload_n d_X_reckon_70 rfl rfl ?_
      refine ev_iload_n d_X_reckon_71 rfl rfl ?_
      refine ev_iload d_X_reckon_72 rfl ?_
      refine cv (k' := k_X_may) (As := [.int (nI (i)), .int (nI (s)), .int (nI (u)), .int (iI ((-1))), .int (nI (S))]) (stk := []) d_X_reckon_74 ml_X_145 kk_X_may rfl rfl (Nat.le_of_ble_eq_true rfl) (by omega) x0 rfl rfl (ct_X_mayN (d := d) (b := 7) (by omega) (by omega) hu hS (by decide) hX hc) (rd ?_)
      refine ev_if_eq d_X_reckon_77 (fun c_77 => ?_) (fun c_77 => ?_)
      ·
        have c_77 := b2_f c_77
        refine ev_iinc (v := (nI (i + 1))) (ls' := [_, _, _, _, _, _, _, none, _]) d_X_reckon_96 rfl (nI_1 _) (by decide) rfl rfl ?_
        refine ev_goto d_X_reckon_99 ?_
        have e : DBi c S.testBit nx s 7 u (i + 1) = DBi c S.testBit nx s 7 u i := by simp [DBi, c_77]
        rw [← e]
        exact ih (i + 1) (by omega) (by omega)
      ·
        have c_77 := b2_t c_77
        have hok := okI_s c_77
        have hop := opn_le hok.2.2.1
        have hwi := hwd i c_63
        have htb := hTb (s + c.wd i) i (u ||| 2 ^ i) (by omega) hop (by omega) (or_lt u hu i (by omega)) (or_sub hok.1 hsub) (fun _ => or_has u i)
        refine ev_lload d_X_reckon_80 rfl ?_
        refine ev_aload_n d_X_reckon_82 rfl rfl ?_
        refine ev_iload d_X_reckon_83 rfl ?_
        refine ev_iload_n d_X_reckon_85 rfl rfl ?_
        refine ev_iload_n d_X_reckon_86 rfl rfl ?_
        refine ev_iload_n d_X_reckon_87 rfl rfl ?_
        refine cv (k' := k_X_withItem) (As := [.int (nI (i)), .int (nI (s)), .int (nI (u)), .int (iI ((-1)))]) (stk := [.long (tvk (DBi c S.testBit nx s 7 u i))]) d_X_reckon_88 ml_X_149 kk_X_withItem rfl rfl (Nat.le_of_ble_eq_true rfl) (by omega) x0 rfl rfl (ct_X_withItemN (d := d + 1) (b := 7) (o := nx (s + c.wd i) i (u ||| 2 ^ i)) hnx.le (by omega) hop hu (by decide) hX hc htb) (rd ?_)
        refine cs (k' := k_J_lmax) (As := [.long (tvk (DBi c S.testBit nx s 7 u i)), .long (tvk (kadd (nx (s + c.wd i) i (u ||| 2 ^ i)) (c.wo i + nbW c 7 i) (c.ce i)))]) (stk := []) d_X_reckon_91 ml_X_153 kk_J_lmax rfl rfl (Nat.le_of_ble_eq_true rfl) (ct_J_lmax _ _) (rd ?_)
        refine ev_topl (tv_le (DBi_bnd8 hc hnx (by omega)) (kadd_bnd8 hc hnx (by omega))) ?_
        refine ev_lstore (ls' := [_, _, _, _, _, _, _, none, _]) d_X_reckon_94 (by decide) rfl rfl ?_
        refine ev_iinc (v := (nI (i + 1))) (ls' := [_, _, _, _, _, _, _, none, _]) d_X_reckon_96 rfl (nI_1 _) (by decide) rfl rfl ?_
        refine ev_goto d_X_reckon_99 ?_
        have e : DBi c S.testBit nx s 7 u (i + 1) = kmax (DBi c S.testBit nx s 7 u i) (kadd (nx (s + c.wd i) i (u ||| 2 ^ i)) (c.wo i + nbW c 7 i) (c.ce i)) := by simp [DBi, c_77]
        rw [← e]
        exact ih (i + 1) (by omega) (by omega)
theorem ct_X_reckon_7 {s u S : Nat} {nx : Nat → Nat → Nat → Kv} (hs : s ≤ c.st) (hu : u < 64) (hS : S < 64) (hsub : ∀ j, u.testBit j = true → S.testBit j = true) (hTb : TbX c S tb nx s) (hnx : Bnd nx) (hlx : LxOK c lx) (hX : XM G n μ c lx ik tb tl ts lat) (hc : CfOK c) : Ct G k_X_reckon (d + 3) 0 0 [.ref (G.1 + 0), .int (nI s), .int (nI u), .int (iI ((-1))), .int (nI (1)), .int (nI S)] n μ (Rd (some (.long (tvk (DB c S.testBit (fun v => decide (v = S)) nx s 7 u)))) n μ) := by
  obtain ⟨hn, x0, x1, x2, x3, x4, x5, x11, x12, x18, x19, xi, xj⟩ := id hX
  obtain ⟨⟨hst1, hst2⟩, hfr, hpn, hpp, hmn, hwd, hnd, hpu, hnr, hbr, hle, hdef⟩ := id hc
  generalize hQ : (Rd (some (.long (tvk (DB c S.testBit (fun v => decide (v = S)) nx s 7 u)))) n μ) = Q
  refine Ct.ofp (r := 3) (ls := [some (.ref (G.1 + 0)), some (.int (nI (s))), some (.int (nI (u))), some (.int (iI ((-1)))), some (.int (nI (1))), some (.int (nI (S))), none, none, none]) rfl (Nat.le_of_ble_eq_true rfl) ?_
  refine ev_iload_n d_X_reckon_0 rfl rfl ?_
  refine ev_aload_n d_X_reckon_1 rfl rfl ?_
  refine ev_getf (kf := 0) (T := F_X) (C := R_X) (N := 14) (v := .int (nI (c.st))) d_X_reckon_2 fl_X_50 rfl i_X (by decide) (by omega) x0 rfl ?_
  refine ev_icmp_ne d_X_reckon_5 (fun c_5 => ?_) (fun c_5 => ?_)
  ·
    simp (disch := omega) only [nI_ltI, nI_leI, nI_eq, Nat.not_lt, Nat.not_le] at c_5
    refine ev_aload_n d_X_reckon_22 rfl rfl ?_
    refine ev_getf (kf := 1) (T := F_X) (C := R_X) (N := 14) (v := .ref (G.1 + 1)) d_X_reckon_23 fl_X_7 rfl i_X (by decide) (by omega) x0 rfl ?_
    refine ev_iload_n d_X_reckon_26 rfl rfl ?_
    refine ev_zald (j := s) d_X_reckon_27 (by omega) x1 (by omega) (by decide) ?_
    refine ev_if_eq d_X_reckon_28 (fun c_28 => ?_) (fun c_28 => ?_)
    ·
      have c_28 := b2_f c_28
      refine ev_ldc2 (v := (-1)) d_X_reckon_49 ck_X_101 ?_
      refine ev_lstore (ls' := [_, _, _, _, _, _, _, none, none]) d_X_reckon_52 (by decide) rfl rfl ?_
      refine ev_iconst (v := (nI (0))) d_X_reckon_54 (by decide) ?_
      refine ev_istore (ls' := [_, _, _, _, _, _, _, none, _]) d_X_reckon_55 (by decide) rfl rfl ?_
      subst hQ
      exact lp_X_reckon1_7 (by omega) c_28 hu hS hsub hTb hnx hlx hX hc (c.mn + 1) 0 (by omega) (by omega)
    ·
      have c_28 := b2_t c_28
      have hbf1 := bf_lt hc c_28
      have hbf2 := bf_le hc hs
      have htb := hTb (c.bf s) 6 u (by omega) (by omega) (by omega) hu hsub (by omega)
      rw [cX_6] at htb
      refine ev_aload_n d_X_reckon_31 rfl rfl ?_
      refine ev_getf (kf := 10) (T := F_X) (C := R_X) (N := 14) (v := .ref (G.1 + 18)) d_X_reckon_32 fl_X_34 rfl i_X (by decide) (by omega) x0 rfl ?_
      refine ev_aload_n d_X_reckon_35 rfl rfl ?_
      refine ev_iload_n d_X_reckon_36 rfl rfl ?_
      refine cv (k' := k_X_behindFree) (As := [.int (nI (s))]) (stk := [.ref (G.1 + 18)]) d_X_reckon_37 ml_X_141 kk_X_behindFree rfl rfl (Nat.le_of_ble_eq_true rfl) (by omega) x0 rfl rfl (ct_X_behindFree (d := d + 2) hX hc hs) (rd ?_)
      refine ev_iload_n d_X_reckon_40 rfl rfl ?_
      refine ev_bipush (v := (nI (6))) d_X_reckon_41 (by decide) ?_
      refine ev_iconst (v := (nI (0))) d_X_reckon_43 (by decide) ?_
      refine cs (k' := k_X_cell) (As := [.int (nI (c.bf s)), .int (nI (u)), .int (nI (6)), .int (nI (0))]) (stk := [.ref (G.1 + 18)]) d_X_reckon_44 ml_X_133 kk_X_cell rfl rfl (Nat.le_of_ble_eq_true rfl) (ct_X_cell (d := d + 2) (c.bf s) u 6 0) (rd ?_)
      refine ev_lald (j := (((c.bf s) * 64 + u) * 7 + 6) * 2 + 0) d_X_reckon_47 (by omega) x18 (by omega) (by decide) ?_
      refine ev_lreturn d_X_reckon_48 rfl ?_
      subst hQ
      have e : DB c S.testBit (fun v => decide (v = S)) nx s 7 u = nx (c.bf s) 6 u := by unfold DB; rw [if_neg c_5, if_pos c_28]
      rw [e, htb]; exact ⟨rfl, rfl, rfl⟩
  ·
    simp (disch := omega) only [nI_ltI, nI_leI, nI_eq, Nat.not_lt, Nat.not_le] at c_5
    refine ev_iload_n d_X_reckon_8 rfl rfl ?_
    refine ev_iload d_X_reckon_9 rfl ?_
    refine ev_icmp_ne d_X_reckon_11 (fun c_11 => ?_) (fun c_11 => ?_)
    ·
      simp (disch := omega) only [nI_ltI, nI_leI, nI_eq, Nat.not_lt, Nat.not_le] at c_11
      refine ev_ldc2 (v := (-1)) d_X_reckon_18 ck_X_101 ?_
      refine ev_lreturn d_X_reckon_21 rfl ?_
      subst hQ
      have e : DB c S.testBit (fun v => decide (v = S)) nx s 7 u = none := by unfold DB; rw [if_pos c_5]; simp [c_11]
      rw [e]; exact ⟨rfl, rfl, rfl⟩
    ·
      simp (disch := omega) only [nI_ltI, nI_leI, nI_eq, Nat.not_lt, Nat.not_le] at c_11
      refine ev_lconst (v := lN 0) d_X_reckon_14 (by decide) ?_
      refine ev_goto d_X_reckon_15 ?_
      refine ev_lreturn d_X_reckon_21 rfl ?_
      subst hQ
      have e : DB c S.testBit (fun v => decide (v = S)) nx s 7 u = some (0, 0) := by unfold DB; rw [if_pos c_5]; simp [c_11]
      rw [e]; exact ⟨rfl, rfl, rfl⟩
end RK
