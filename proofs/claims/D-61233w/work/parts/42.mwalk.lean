/-! ===== the model's walk ===== -/
theorem gN_app1 {l : List (Nat × Nat)} {x : Nat × Nat} {k : Nat} (h : k < l.length) : gN (l ++ [x]) k = gN l k := by
  unfold gN; rw [List.getElem?_append_left h]
theorem gN_app2 {l : List (Nat × Nat)} {x : Nat × Nat} : gN (l ++ [x]) l.length = x := by
  unfold gN; rw [List.getElem?_append_right (Nat.le_refl _), Nat.sub_self]; rfl
theorem MPc.app {c : Cf} {l : List (Nat × Nat)} {pit pat psz : Nat → Int32} (h : MPc c l pit pat psz) {x : Nat × Nat} {a b e : Int32} (ha : a = iI (plF c x 0)) (hb : b = nI x.2) (he : e = nI (wdt c x)) : MPc c (l ++ [x]) (upd pit l.length a) (upd pat l.length b) (upd psz l.length e) := by
  intro k hk
  rw [List.length_append] at hk
  simp only [List.length_singleton] at hk
  unfold upd
  by_cases q : k = l.length
  · subst q
    rw [gN_app2, if_pos rfl, if_pos rfl, if_pos rfl]; exact ⟨ha, hb, he⟩
  · rw [gN_app1 (by omega), if_neg q, if_neg q, if_neg q]; exact h k (by omega)
section MWK
variable {G : Gm} {d n : Nat} {μ : Mem} {c : Cf} {cd : Nat} {hp : Bool} {tl pc : Nat} {pw pn : Int64} {bw bk : Nat → Int64} {me cl mt ts pit pat psz : Nat → Int32} {E : Nat → Bool}
theorem ct_M_goesOn {hq : Bool} {fr to w ct : Nat} {F : Kv} {p : Nat × Nat} (hto : to < 20992) (hfr0 : fr < 20992) (hw : w ≤ 200000) (hct : ct ≤ 200000) (hp : p.1 ≤ 100000000 ∧ p.2 ≤ 100000000) (hFk : KvB F) (a1 : bw fr = lN p.1) (a2 : bk fr = lN p.2) (f1 : bw to = wv F) (f2 : bk to = cv' F) (hn : 41 ≤ n) (hM : ML μ (mmL G c cd hq tl pc pw pn bw bk me cl mt ts pit pat psz)) (hc : CfOK c) : Ct G k_M_goesOn d 0 0 [.ref (G.1 + 20), .int (nI fr), .int (nI to), .long (lN w), .long (lN ct)] n μ (Rd (some (.int (b2 (decide (kadd F w ct = some p))))) n μ) := by
  refine Ct.ofp (r := 0) (ls := [some (.ref (G.1 + 20)), some (.int (nI (fr))), some (.int (nI (to))), some (.long (lN (w))), none, some (.long (lN (ct))), none]) rfl (Nat.le_of_ble_eq_true rfl) ?_
  cases F with
  | none =>
    refine ev_aload_n d_M_goesOn_0 rfl rfl ?_
    refine ev_getf (kf := 16) (T := F_M) (C := R_M) (N := 30) (v := .ref (G.1 + 31)) d_M_goesOn_1 fl_M_42 rfl i_M (by decide) (by omega) (hM 0 _ rfl) rfl ?_
    refine ev_iload_n d_M_goesOn_4 rfl rfl ?_
    refine ev_lald (j := to) d_M_goesOn_5 (by omega) (hM 11 _ rfl) (by omega) (by decide) ?_
    refine ev_topl (w := (wv none)) f1 ?_
    refine ev_lconst (v := lN 0) d_M_goesOn_6 (by decide) ?_
    refine ev_lcmp d_M_goesOn_7 ?_
    refine ev_if_lt d_M_goesOn_8 (fun c_8 => ?_) (fun c_8 => ?_)
    ·
      skip
      refine ev_iconst (v := (nI (0))) d_M_goesOn_52 (by decide) ?_
      refine ev_ireturn d_M_goesOn_53 rfl rfl ?_
      exact ret0 (by simp [kadd])
    ·
      have c_8 : False := c_8 (lc_lt.mpr ((wv_lt hFk).mpr rfl))
      exact c_8.elim
  | some y =>
    have hy := hFk y rfl
    refine ev_aload_n d_M_goesOn_0 rfl rfl ?_
    refine ev_getf (kf := 16) (T := F_M) (C := R_M) (N := 30) (v := .ref (G.1 + 31)) d_M_goesOn_1 fl_M_42 rfl i_M (by decide) (by omega) (hM 0 _ rfl) rfl ?_
    refine ev_iload_n d_M_goesOn_4 rfl rfl ?_
    refine ev_lald (j := to) d_M_goesOn_5 (by omega) (hM 11 _ rfl) (by omega) (by decide) ?_
    refine ev_topl (w := (lN (y.1))) f1 ?_
    refine ev_lconst (v := lN 0) d_M_goesOn_6 (by decide) ?_
    refine ev_lcmp d_M_goesOn_7 ?_
    refine ev_if_lt d_M_goesOn_8 (fun c_8 => ?_) (fun c_8 => ?_)
    ·
      simp (disch := omega) only [lc_lt, lN_lt] at c_8
      omega
    ·
      simp (disch := omega) only [lc_lt, lN_lt] at c_8
      refine ev_aload_n d_M_goesOn_11 rfl rfl ?_
      refine ev_getf (kf := 16) (T := F_M) (C := R_M) (N := 30) (v := .ref (G.1 + 31)) d_M_goesOn_12 fl_M_42 rfl i_M (by decide) (by omega) (hM 0 _ rfl) rfl ?_
      refine ev_iload_n d_M_goesOn_15 rfl rfl ?_
      refine ev_lald (j := to) d_M_goesOn_16 (by omega) (hM 11 _ rfl) (by omega) (by decide) ?_
      refine ev_topl (w := (lN (y.1))) f1 ?_
      refine ev_lload_n d_M_goesOn_17 rfl rfl ?_
      refine ev_ladd d_M_goesOn_18 ?_
      refine ev_topl (w := (lN (y.1 + w))) (lN_add _ _) ?_
      refine ev_aload_n d_M_goesOn_19 rfl rfl ?_
      refine ev_getf (kf := 16) (T := F_M) (C := R_M) (N := 30) (v := .ref (G.1 + 31)) d_M_goesOn_20 fl_M_42 rfl i_M (by decide) (by omega) (hM 0 _ rfl) rfl ?_
      refine ev_iload_n d_M_goesOn_23 rfl rfl ?_
      refine ev_lald (j := fr) d_M_goesOn_24 (by omega) (hM 11 _ rfl) (by omega) (by decide) ?_
      refine ev_topl (w := (lN (p.1))) a1 ?_
      refine ev_lcmp d_M_goesOn_25 ?_
      refine ev_if_ne d_M_goesOn_26 (fun c_26 => ?_) (fun c_26 => ?_)
      ·
        simp (disch := omega) only [lc_eq, lN_eq] at c_26
        refine ev_iconst (v := (nI (0))) d_M_goesOn_52 (by decide) ?_
        refine ev_ireturn d_M_goesOn_53 rfl rfl ?_
        exact ret0 (decide_eq_false (fun q => c_26 (congrArg Prod.fst (Option.some.inj q))))
      ·
        simp (disch := omega) only [lc_eq, lN_eq] at c_26
        refine ev_aload_n d_M_goesOn_29 rfl rfl ?_
        refine ev_getf (kf := 17) (T := F_M) (C := R_M) (N := 30) (v := .ref (G.1 + 32)) d_M_goesOn_30 fl_M_45 rfl i_M (by decide) (by omega) (hM 0 _ rfl) rfl ?_
        refine ev_iload_n d_M_goesOn_33 rfl rfl ?_
        refine ev_lald (j := to) d_M_goesOn_34 (by omega) (hM 12 _ rfl) (by omega) (by decide) ?_
        refine ev_topl (w := (lN (y.2))) f2 ?_
        refine ev_lload d_M_goesOn_35 rfl ?_
        refine ev_ladd d_M_goesOn_37 ?_
        refine ev_topl (w := (lN (y.2 + ct))) (lN_add _ _) ?_
        refine ev_aload_n d_M_goesOn_38 rfl rfl ?_
        refine ev_getf (kf := 17) (T := F_M) (C := R_M) (N := 30) (v := .ref (G.1 + 32)) d_M_goesOn_39 fl_M_45 rfl i_M (by decide) (by omega) (hM 0 _ rfl) rfl ?_
        refine ev_iload_n d_M_goesOn_42 rfl rfl ?_
        refine ev_lald (j := fr) d_M_goesOn_43 (by omega) (hM 12 _ rfl) (by omega) (by decide) ?_
        refine ev_topl (w := (lN (p.2))) a2 ?_
        refine ev_lcmp d_M_goesOn_44 ?_
        refine ev_if_ne d_M_goesOn_45 (fun c_45 => ?_) (fun c_45 => ?_)
        ·
          simp (disch := omega) only [lc_eq, lN_eq] at c_45
          refine ev_iconst (v := (nI (0))) d_M_goesOn_52 (by decide) ?_
          refine ev_ireturn d_M_goesOn_53 rfl rfl ?_
          exact ret0 (decide_eq_false (fun q => c_45 (congrArg Prod.snd (Option.some.inj q))))
        ·
          simp (disch := omega) only [lc_eq, lN_eq] at c_45
          refine ev_iconst (v := (nI (1))) d_M_goesOn_48 (by decide) ?_
          refine ev_goto d_M_goesOn_49 ?_
          refine ev_ireturn d_M_goesOn_53 rfl rfl ?_
          exact ret1 (decide_eq_true (congrArg some (Prod.ext c_26 c_45)))
theorem ct_M_add {a b e : Int32} (hpc : pc < 41) (hn : 41 ≤ n) (hM : ML μ (mmL G c cd hp tl pc pw pn bw bk me cl mt ts pit pat psz)) : Ct G k_M_add d 0 0 [.ref (G.1 + 20), .int a, .int b, .int e] n μ (MU G n μ (none) (mmL G c cd hp tl (pc + 1) pw pn bw bk me cl mt ts (upd pit pc a) (upd pat pc b) (upd psz pc e))) := by
  have hF : FrM μ μ := fun t _ => rfl
  refine Ct.ofp (r := 0) (ls := [some (.ref (G.1 + 20)), some (.int (a)), some (.int (b)), some (.int (e))]) rfl (Nat.le_of_ble_eq_true rfl) ?_
  refine ev_aload_n d_M_add_0 rfl rfl ?_
  refine ev_getf (kf := 25) (T := F_M) (C := R_M) (N := 30) (v := .ref (G.1 + 37)) d_M_add_1 fl_M_60 rfl i_M (by decide) (by omega) (hM 0 _ rfl) rfl ?_
  refine ev_aload_n d_M_add_4 rfl rfl ?_
  refine ev_getf (kf := 24) (T := F_M) (C := R_M) (N := 30) (v := .int (nI (pc))) d_M_add_5 fl_M_149 rfl i_M (by decide) (by omega) (hM 0 _ rfl) rfl ?_
  refine ev_iload_n d_M_add_8 rfl rfl ?_
  refine ev_iastM (a := 17) (j := pc) d_M_add_9 (by decide) (by omega) hM rfl (by omega) (by decide) (rfl) (fun ν hM hf => ?_)
  have hM : ML ν (mmL G c cd hp tl pc pw pn bw bk me cl mt ts (upd pit (pc) ((a))) pat psz) := hM
  have hF := frT hf hF
  refine ev_aload_n d_M_add_10 rfl rfl ?_
  refine ev_getf (kf := 26) (T := F_M) (C := R_M) (N := 30) (v := .ref (G.1 + 38)) d_M_add_11 fl_M_63 rfl i_M (by decide) (by omega) (hM 0 _ rfl) rfl ?_
  refine ev_aload_n d_M_add_14 rfl rfl ?_
  refine ev_getf (kf := 24) (T := F_M) (C := R_M) (N := 30) (v := .int (nI (pc))) d_M_add_15 fl_M_149 rfl i_M (by decide) (by omega) (hM 0 _ rfl) rfl ?_
  refine ev_iload_n d_M_add_18 rfl rfl ?_
  refine ev_iastM (a := 18) (j := pc) d_M_add_19 (by decide) (by omega) hM rfl (by omega) (by decide) (rfl) (fun ν hM hf => ?_)
  have hM : ML ν (mmL G c cd hp tl pc pw pn bw bk me cl mt ts (upd pit (pc) ((a))) (upd pat (pc) ((b))) psz) := hM
  have hF := frT hf hF
  refine ev_aload_n d_M_add_20 rfl rfl ?_
  refine ev_getf (kf := 27) (T := F_M) (C := R_M) (N := 30) (v := .ref (G.1 + 39)) d_M_add_21 fl_M_66 rfl i_M (by decide) (by omega) (hM 0 _ rfl) rfl ?_
  refine ev_aload_n d_M_add_24 rfl rfl ?_
  refine ev_getf (kf := 24) (T := F_M) (C := R_M) (N := 30) (v := .int (nI (pc))) d_M_add_25 fl_M_149 rfl i_M (by decide) (by omega) (hM 0 _ rfl) rfl ?_
  refine ev_iload_n d_M_add_28 rfl rfl ?_
  refine ev_iastM (a := 19) (j := pc) d_M_add_29 (by decide) (by omega) hM rfl (by omega) (by decide) (rfl) (fun ν hM hf => ?_)
  have hM : ML ν (mmL G c cd hp tl pc pw pn bw bk me cl mt ts (upd pit (pc) ((a))) (upd pat (pc) ((b))) (upd psz (pc) ((e)))) := hM
  have hF := frT hf hF
  refine ev_aload_n d_M_add_30 rfl rfl ?_
  refine ev_dup d_M_add_31 rfl ?_
  refine ev_getf (kf := 24) (T := F_M) (C := R_M) (N := 30) (v := .int (nI (pc))) d_M_add_32 fl_M_149 rfl i_M (by decide) (by omega) (hM 0 _ rfl) rfl ?_
  refine ev_iconst (v := (nI (1))) d_M_add_35 (by decide) ?_
  refine ev_iadd d_M_add_36 ?_
  refine ev_topi (w := (nI (pc + 1))) (nI_add _ _) ?_
  refine ev_putM (kf := 24) d_M_add_37 fl_M_149 (by decide) rfl rfl rfl rfl (by omega) hM rfl (Nat.le_of_ble_eq_true rfl) (fun ν hM hf => ?_)
  have hM : ML ν (mmL G c cd hp tl (pc + 1) pw pn bw bk me cl mt ts (upd pit (pc) ((a))) (upd pat (pc) ((b))) (upd psz (pc) ((e)))) := hM
  have hF := frT hf hF
  refine ev_return d_M_add_40 rfl ?_
  exact ⟨rfl, rfl, hM, hF⟩
theorem lp_M_walkI {ν : Mem} {Q : Oc → Nat → Mem → Prop} (hn : 41 ≤ n) (hM : ML ν (mmL G c cd hp tl pc pw pn bw bk me cl mt ts pit pat psz)) (hc : CfOK c) (hL : LkC c cl 0) (hT : LkM c mt 0) (hFin : MFin c E bw bk 0) {s b u : Nat} {p : Nat × Nat} (hs : s < c.st) (hb : b ≤ 7) (hu : u < 2 ^ c.mn) (hD : Dv c Tt E s b u = some p) (hK : ∀ i, (fI c Tt (Dv c Tt E) s b u = some i ∨ (i = c.mn ∧ fI c Tt (Dv c Tt E) s b u = none)) → Ev G k_M_walk (d + 2) 0 0 122 [some (.ref (G.1 + 20)), some (.int (nI (s))), some (.int (nI (b))), some (.int (nI (u))), some (.int (nI (512 * s + 64 * b + u))), some (.int (nI (i))), none] [] n ν Q) : ∀ (m i : Nat), i ≤ c.mn → c.mn < i + m → (∀ j, j < i → ¬ (okI c Tt s b u j = true ∧ kadd (Dv c Tt E (s + c.wd j) j (u ||| 2 ^ j)) (c.wo j + nbW c b j) (c.ce j) = Dv c Tt E s b u)) → Ev G k_M_walk (d + 2) 0 0 52 [some (.ref (G.1 + 20)), some (.int (nI (s))), some (.int (nI (b))), some (.int (nI (u))), some (.int (nI (512 * s + 64 * b + u))), some (.int (nI (i))), none] [] n ν Q := by
  obtain ⟨⟨hst1, hst2⟩, hfr, hpn, hpp, hmn, hwd, hnd, hpu, hnr, hbr, hle, hdef⟩ := id hc
  have hpw : 2 ^ c.mn ≤ 64 := Nat.pow_le_pow_right (n := 2) (by omega) hmn
  have hte0 := hFin s b u (by omega) (by omega) hb hu
  have hw0 : bw (512 * s + 64 * b + u) = lN p.1 := by rw [show 512 * s + 64 * b + u = mI s b u from rfl, hte0.1, hD]; rfl
  have hk0 : bk (512 * s + 64 * b + u) = lN p.2 := by rw [show 512 * s + 64 * b + u = mI s b u from rfl, hte0.2, hD]; rfl
  have hpb := Dv_kb hc (Nat.le_of_lt hs) p hD
  intro m
  induction m with
  | zero =>
    intro i h1 h2
    exact absurd h2 (by omega)
  | succ m ih =>
    intro i hi him hno
    refine ev_iload d_M_walk_52 rfl ?_
    refine ev_aload_n d_M_walk_54 rfl rfl ?_
    refine ev_getf (kf := 5) (T := F_M) (C := R_M) (N := 30) (v := .int (nI (c.mn))) d_M_walk_55 fl_M_97 rfl i_M (by decide) (by omega) (hM 0 _ rfl) rfl ?_
    refine ev_icmp_ge d_M_walk_58 (fun c_58 => ?_) (fun c_58 => ?_)
    ·
      simp (disch := omega) only [nI_ltI, nI_leI, nI_eq, Nat.not_lt, Nat.not_le] at c_58
      exact hK i (Or.inr ⟨by omega, fI_none.mpr fun j hj => hno j (by omega)⟩)
    ·
      simp (disch := omega) only [nI_ltI, nI_leI, nI_eq, Nat.not_lt, Nat.not_le] at c_58
      refine ev_aload_n d_M_walk_61 rfl rfl ?_
      refine ev_iload d_M_walk_62 rfl ?_
      refine ev_iload_n d_M_walk_64 rfl rfl ?_
      refine ev_iload_n d_M_walk_65 rfl rfl ?_
      refine ev_iload_n d_M_walk_66 rfl rfl ?_
      refine cv (mc' := 0) (ms' := 0) (k' := k_M_mayStand) (As := [.int (nI (i)), .int (nI (s)), .int (nI (b)), .int (nI (u))]) (stk := []) d_M_walk_67 ml_M_134 kk_M_mayStand rfl rfl (Nat.le_of_ble_eq_true rfl) (by omega) (hM 0 _ rfl) rfl rfl (ct_M_mayStand (d := d) c_58 (by omega) hb (by omega) hL hT hn hM hc) (rd ?_)
      refine ev_if_eq d_M_walk_70 (fun c_70 => ?_) (fun c_70 => ?_)
      ·
        have c_70 := b2_f c_70
        refine ev_iinc (v := (nI (i + 1))) (ls' := [_, _, _, _, _, _, none]) d_M_walk_116 rfl (nI_1 _) (by decide) rfl rfl ?_
        refine ev_goto d_M_walk_119 ?_
        refine ih (i + 1) (by omega) (by omega) (fun j hj q => ?_)
        rcases Nat.lt_or_ge j i with h | h
        · exact hno j h q
        · have : j = i := by omega
          subst this
          rw [c_70] at q; exact absurd q.1 (by decide)
      ·
        have c_70 := b2_t c_70
        have hwi := hwd i c_58
        have hop := opn_le (okI_s c_70).2.2.1
        have hul : u ||| 2 ^ i < 2 ^ c.mn := Nat.or_lt_two_pow hu (Nat.pow_lt_pow_right (by omega) c_58)
        have hte := hFin (s + c.wd i) i (u ||| 2 ^ i) (by omega) hop (by omega) hul
        have hnb := nbW_le hc b i
        refine ev_aload_n d_M_walk_73 rfl rfl ?_
        refine ev_iload d_M_walk_74 rfl ?_
        refine ev_iload_n d_M_walk_76 rfl rfl ?_
        refine ev_aload_n d_M_walk_77 rfl rfl ?_
        refine ev_getf (kf := 6) (T := F_M) (C := R_M) (N := 30) (v := .ref (G.1 + 23)) d_M_walk_78 fl_M_17 rfl i_M (by decide) (by omega) (hM 0 _ rfl) rfl ?_
        refine ev_iload d_M_walk_81 rfl ?_
        refine ev_iald (j := i) d_M_walk_83 (by omega) (hM 3 _ rfl) (by omega) (by decide) ?_
        refine ev_iadd d_M_walk_84 ?_
        refine ev_topi (w := (nI (s + (c.wd i)))) (nI_add _ _) ?_
        refine ev_iload d_M_walk_85 rfl ?_
        refine ev_iload_n d_M_walk_87 rfl rfl ?_
        refine ev_iconst (v := (nI (1))) d_M_walk_88 (by decide) ?_
        refine ev_iload d_M_walk_89 rfl ?_
        refine ev_ishl d_M_walk_91 ?_
        refine ev_ior d_M_walk_92 ?_
        refine ev_topi (w := (nI (u ||| 2 ^ i))) (bit_or u (by omega) i (by omega)) ?_
        refine cs (mc' := 0) (ms' := 0) (k' := k_M_index) (As := [.int (nI (s + (c.wd i))), .int (nI (i)), .int (nI (u ||| 2 ^ i))]) (stk := [.int (nI (512 * s + 64 * b + u)), .ref (G.1 + 20)]) d_M_walk_93 ml_M_122 kk_M_index rfl rfl (Nat.le_of_ble_eq_true rfl) (ct_M_index (d := d + 1) (s + c.wd i) i (u ||| 2 ^ i)) (rd ?_)
        refine ev_aload_n d_M_walk_96 rfl rfl ?_
        refine ev_iload d_M_walk_97 rfl ?_
        refine ev_iload_n d_M_walk_99 rfl rfl ?_
        refine cv (mc' := 0) (ms' := 0) (k' := k_M_worthBehind) (As := [.int (nI (i)), .int (nI (b))]) (stk := [.int (nI (512 * (s + c.wd i) + 64 * i + (u ||| 2 ^ i))), .int (nI (512 * s + 64 * b + u)), .ref (G.1 + 20)]) d_M_walk_100 ml_M_138 kk_M_worthBehind rfl rfl (Nat.le_of_ble_eq_true rfl) (by omega) (hM 0 _ rfl) rfl rfl (ct_M_worthBehind (d := d + 1) c_58 hb hn hM hc) (rd ?_)
        refine ev_aload_n d_M_walk_103 rfl rfl ?_
        refine ev_getf (kf := 8) (T := F_M) (C := R_M) (N := 30) (v := .ref (G.1 + 25)) d_M_walk_104 fl_M_24 rfl i_M (by decide) (by omega) (hM 0 _ rfl) rfl ?_
        refine ev_iload d_M_walk_107 rfl ?_
        refine ev_lald (j := i) d_M_walk_109 (by omega) (hM 5 _ rfl) (by omega) (by decide) ?_
        refine cv (mc' := 0) (ms' := 0) (k' := k_M_goesOn) (As := [.int (nI (512 * s + 64 * b + u)), .int (nI (512 * (s + c.wd i) + 64 * i + (u ||| 2 ^ i))), .long (lN (c.wo i + nbW c b i)), .long (lN (c.ce i))]) (stk := []) d_M_walk_110 ml_M_152 kk_M_goesOn rfl rfl (Nat.le_of_ble_eq_true rfl) (by omega) (hM 0 _ rfl) rfl rfl (ct_M_goesOn (d := d + 1) (F := Dv c Tt E (s + c.wd i) i (u ||| 2 ^ i)) (p := p) (by omega) (by omega) (by omega) (by omega) (by omega) (Dv_KvB hc hop) hw0 hk0 hte.1 hte.2 hn hM hc) (rd ?_)
        refine ev_if_ne d_M_walk_113 (fun c_113 => ?_) (fun c_113 => ?_)
        ·
          have c_113 := of_decide_eq_true (b2_t c_113)
          exact hK i (Or.inl (fI_some.mpr ⟨⟨c_58, c_70, c_113.trans hD.symm⟩, hno⟩))
        ·
          have c_113 := of_decide_eq_false (b2_f c_113)
          refine ev_iinc (v := (nI (i + 1))) (ls' := [_, _, _, _, _, _, none]) d_M_walk_116 rfl (nI_1 _) (by decide) rfl rfl ?_
          refine ev_goto d_M_walk_119 ?_
          refine ih (i + 1) (by omega) (by omega) (fun j hj q => ?_)
          rcases Nat.lt_or_ge j i with h | h
          · exact hno j h q
          · have : j = i := by omega
            subst this
            exact c_113 (q.2.trans hD)
theorem lp_M_walkF {ν : Mem} {Q : Oc → Nat → Mem → Prop} (hn : 41 ≤ n) (hM : ML ν (mmL G c cd hp tl pc pw pn bw bk me cl mt ts pit pat psz)) (hc : CfOK c) (hL : LkC c cl 0) (hT : LkM c mt 0) (hFin : MFin c E bw bk 0) {s b u : Nat} {p : Nat × Nat} (hs : s < c.st) (hb : b ≤ 7) (hu : u < 2 ^ c.mn) (hD : Dv c Tt E s b u = some p) {j : Nat} (hj : fF c (Dv c Tt E) s b u = some j) (hK : Ev G k_M_walk (d + 2) 0 0 211 [some (.ref (G.1 + 20)), some (.int (nI (s))), some (.int (nI (b))), some (.int (nI (u))), some (.int (nI (512 * s + 64 * b + u))), none, some (.int (nI (c.le + j)))] [] n ν Q) : ∀ (m i : Nat), i ≤ j → j < i + m → Ev G k_M_walk (d + 2) 0 0 174 [some (.ref (G.1 + 20)), some (.int (nI (s))), some (.int (nI (b))), some (.int (nI (u))), some (.int (nI (512 * s + 64 * b + u))), none, some (.int (nI (c.le + i)))] [] n ν Q := by
  obtain ⟨⟨hst1, hst2⟩, hfr, hpn, hpp, hmn, hwd, hnd, hpu, hnr, hbr, hle, hdef⟩ := id hc
  have hpw : 2 ^ c.mn ≤ 64 := Nat.pow_le_pow_right (n := 2) (by omega) hmn
  have hte0 := hFin s b u (by omega) (by omega) hb hu
  have hw0 : bw (512 * s + 64 * b + u) = lN p.1 := by rw [show 512 * s + 64 * b + u = mI s b u from rfl, hte0.1, hD]; rfl
  have hk0 : bk (512 * s + 64 * b + u) = lN p.2 := by rw [show 512 * s + 64 * b + u = mI s b u from rfl, hte0.2, hD]; rfl
  have hpb := Dv_kb hc (Nat.le_of_lt hs) p hD
  obtain ⟨⟨hj1, hj2, hj3, hj4⟩, hj5⟩ := fF_some.mp hj
  intro m
  induction m with
  | zero =>
    intro i h1 h2
    exact absurd h2 (by omega)
  | succ m ih =>
    intro i hi him
    refine ev_aload_n d_M_walk_174 rfl rfl ?_
    refine ev_iload_n d_M_walk_175 rfl rfl ?_
    refine ev_iload d_M_walk_176 rfl ?_
    refine cv (mc' := 0) (ms' := 0) (k' := k_M_isClear) (As := [.int (nI (s)), .int (nI (c.le + i))]) (stk := []) d_M_walk_178 ml_M_119 kk_M_isClear rfl rfl (Nat.le_of_ble_eq_true rfl) (by omega) (hM 0 _ rfl) rfl rfl (ct_M_isClear (d := d + 1) (s := s) (w := c.le + i) (by omega) (by omega) hL hn hM hc) (rd ?_)
    refine ev_if_eq d_M_walk_181 (fun c_181 => ?_) (fun c_181 => ?_)
    ·
      have c_181 := b2_f c_181
      refine ev_iinc (v := (nI (c.le + (i + 1)))) (ls' := [_, _, _, _, _, none, _]) d_M_walk_205 rfl (by rw [show nI (c.le + i) + Int32.ofInt 1 = nI (c.le + i + 1) from nI_1 _, Nat.add_assoc]) (by decide) rfl rfl ?_
      refine ev_goto d_M_walk_208 ?_
      refine ih (i + 1) ?_ (by omega)
      rcases Nat.lt_or_ge i j with h | h
      · exact h
      · have : i = j := by omega
        subst this
        rw [hj3] at c_181; cases c_181
    ·
      have c_181 := b2_t c_181
      have hop := opn_le c_181
      have hte := hFin (s + (c.le + i)) 7 u (by omega) hop (by omega) hu
      refine ev_aload_n d_M_walk_184 rfl rfl ?_
      refine ev_iload d_M_walk_185 rfl ?_
      refine ev_iload_n d_M_walk_187 rfl rfl ?_
      refine ev_iload d_M_walk_188 rfl ?_
      refine ev_iadd d_M_walk_190 ?_
      refine ev_topi (w := (nI (s + (c.le + i)))) (nI_add _ _) ?_
      refine ev_bipush (v := (nI (7))) d_M_walk_191 (by decide) ?_
      refine ev_iload_n d_M_walk_193 rfl rfl ?_
      refine cs (mc' := 0) (ms' := 0) (k' := k_M_index) (As := [.int (nI (s + (c.le + i))), .int (nI (7)), .int (nI (u))]) (stk := [.int (nI (512 * s + 64 * b + u)), .ref (G.1 + 20)]) d_M_walk_194 ml_M_122 kk_M_index rfl rfl (Nat.le_of_ble_eq_true rfl) (ct_M_index (d := d + 1) (s + (c.le + i)) 7 u) (rd ?_)
      refine ev_lconst (v := lN 0) d_M_walk_197 (by decide) ?_
      refine ev_lconst (v := lN 0) d_M_walk_198 (by decide) ?_
      refine cv (mc' := 0) (ms' := 0) (k' := k_M_goesOn) (As := [.int (nI (512 * s + 64 * b + u)), .int (nI (512 * (s + (c.le + i)) + 64 * 7 + u)), .long (lN (0)), .long (lN (0))]) (stk := []) d_M_walk_199 ml_M_152 kk_M_goesOn rfl rfl (Nat.le_of_ble_eq_true rfl) (by omega) (hM 0 _ rfl) rfl rfl (ct_M_goesOn (d := d + 1) (F := Dv c Tt E (s + (c.le + i)) 7 u) (p := p) (w := 0) (ct := 0) (by omega) (by omega) (by omega) (by omega) (by omega) (Dv_KvB hc hop) hw0 hk0 hte.1 hte.2 hn hM hc) (rd ?_)
      refine ev_if_ne d_M_walk_202 (fun c_202 => ?_) (fun c_202 => ?_)
      ·
        have c_202 := of_decide_eq_true (b2_t c_202)
        rw [kadd_0] at c_202
        have hij : i = j := by
          rcases Nat.lt_or_ge i j with h | h
          · exact absurd ⟨hj2, c_181, c_202.trans hD.symm⟩ (hj5 i h)
          · omega
        subst hij
        exact Ev.fg [true, true, true, true, true, false, true] rfl hK
      ·
        have c_202 := of_decide_eq_false (b2_f c_202)
        rw [kadd_0] at c_202
        refine ev_iinc (v := (nI (c.le + (i + 1)))) (ls' := [_, _, _, _, _, none, _]) d_M_walk_205 rfl (by rw [show nI (c.le + i) + Int32.ofInt 1 = nI (c.le + i + 1) from nI_1 _, Nat.add_assoc]) (by decide) rfl rfl ?_
        refine ev_goto d_M_walk_208 ?_
        refine ih (i + 1) ?_ (by omega)
        rcases Nat.lt_or_ge i j with h | h
        · exact h
        · have : i = j := by omega
          subst this
          exact absurd (hj4.trans hD) c_202
theorem lp_M_walk {L : List (Nat × Nat)} {Sx : Nat} (hn : 41 ≤ n) (hc : CfOK c) (hL : LkC c cl 0) (hT : LkM c mt 0) (hFin : MFin c E bw bk 0) : ∀ (m s b u : Nat) (l : List (Nat × Nat)) (ν : Mem) (p : Nat × Nat) (pit pat psz : Nat → Int32), s ≤ c.st → c.st < s + m → b ≤ 7 → u < 2 ^ c.mn → Dv c Tt E s b u = some p → l ++ (wk c Tt E m s b u).1 = L → (wk c Tt E m s b u).2 = Sx → MPc c l pit pat psz → l.length ≤ s → ML ν (mmL G c cd hp tl l.length pw pn bw bk me cl mt ts pit pat psz) → FrM ν μ → Ev G k_M_walk (d + 2) 0 0 12 [some (.ref (G.1 + 20)), some (.int (nI (s))), some (.int (nI (b))), some (.int (nI (u))), none, none, none] [] n ν (fun (o : Oc) (n' : Nat) (μ' : Mem) => o = .inl (some (.int (nI Sx))) ∧ n' = n ∧ ∃ pit' pat' psz', ML μ' (mmL G c cd hp tl L.length pw pn bw bk me cl mt ts (pit') (pat') (psz')) ∧ FrM μ' μ ∧ MPc c L pit' pat' psz') := by
  obtain ⟨⟨hst1, hst2⟩, hfr, hpn, hpp, hmn, hwd, hnd, hpu, hnr, hbr, hle, hdef⟩ := id hc
  have hpw : 2 ^ c.mn ≤ 64 := Nat.pow_le_pow_right (n := 2) (by omega) hmn
  generalize hQ : (fun (o : Oc) (n' : Nat) (μ' : Mem) => o = .inl (some (.int (nI Sx))) ∧ n' = n ∧ ∃ pit' pat' psz', ML μ' (mmL G c cd hp tl L.length pw pn bw bk me cl mt ts (pit') (pat') (psz')) ∧ FrM μ' μ ∧ MPc c L pit' pat' psz') = Q
  intro m
  induction m with
  | zero =>
    intro s b u l ν p pit pat psz h1 h2
    exact absurd h2 (by omega)
  | succ m ih =>
    intro s b u l ν p pit pat psz hs hm hb hu hD hLL hSx hP hlen hM hF
    refine ev_iload_n d_M_walk_12 rfl rfl ?_
    refine ev_aload_n d_M_walk_13 rfl rfl ?_
    refine ev_getf (kf := 1) (T := F_M) (C := R_M) (N := 30) (v := .int (nI (c.st))) d_M_walk_14 fl_M_69 rfl i_M (by decide) (by omega) (hM 0 _ rfl) rfl ?_
    refine ev_icmp_ge d_M_walk_17 (fun c_17 => ?_) (fun c_17 => ?_)
    ·
      simp (disch := omega) only [nI_ltI, nI_leI, nI_eq, Nat.not_lt, Nat.not_le] at c_17
      refine ev_iload_n d_M_walk_230 rfl rfl ?_
      refine ev_ireturn d_M_walk_231 rfl rfl ?_
      subst hQ
      have hse : s = c.st := by omega
      subst hse
      rw [wk_end] at hLL hSx
      rw [List.append_nil] at hLL
      subst hLL
      subst hSx
      exact ⟨rfl, rfl, pit, pat, psz, hM, hF, hP⟩
    ·
      simp (disch := omega) only [nI_ltI, nI_leI, nI_eq, Nat.not_lt, Nat.not_le] at c_17
      refine ev_iload_n d_M_walk_20 rfl rfl ?_
      refine ev_iload_n d_M_walk_21 rfl rfl ?_
      refine ev_iload_n d_M_walk_22 rfl rfl ?_
      refine cs (mc' := 0) (ms' := 0) (k' := k_M_index) (As := [.int (nI (s)), .int (nI (b)), .int (nI (u))]) (stk := []) d_M_walk_23 ml_M_122 kk_M_index rfl rfl (Nat.le_of_ble_eq_true rfl) (ct_M_index (d := d + 1) s b u) (rd ?_)
      refine ev_istore (ls' := [_, _, _, _, _, none, none]) d_M_walk_26 (by decide) rfl rfl ?_
      refine ev_aload_n d_M_walk_28 rfl rfl ?_
      refine ev_getf (kf := 2) (T := F_M) (C := R_M) (N := 30) (v := .ref (G.1 + 21)) d_M_walk_29 fl_M_7 rfl i_M (by decide) (by omega) (hM 0 _ rfl) rfl ?_
      refine ev_iload_n d_M_walk_32 rfl rfl ?_
      refine ev_zald (j := s) d_M_walk_33 (by omega) (hM 1 _ rfl) (by omega) (by decide) ?_
      refine ev_if_eq d_M_walk_34 (fun c_34 => ?_) (fun c_34 => ?_)
      ·
        have c_34 := b2_f c_34
        refine ev_iconst (v := (nI (0))) d_M_walk_49 (by decide) ?_
        refine ev_istore (ls' := [_, _, _, _, _, _, none]) d_M_walk_50 (by decide) rfl rfl ?_
        refine lp_M_walkI hn hM hc hL hT hFin c_17 hb hu hD (fun i hcase => ?_) (c.mn + 1) 0 (by omega) (by omega) (fun j hj => by omega)
        have hile : i ≤ c.mn := hcase.elim (fun q => Nat.le_of_lt (fI_some.mp q).1.1) (fun q => Nat.le_of_eq q.1)
        refine ev_iload d_M_walk_122 rfl ?_
        refine ev_aload_n d_M_walk_124 rfl rfl ?_
        refine ev_getf (kf := 5) (T := F_M) (C := R_M) (N := 30) (v := .int (nI (c.mn))) d_M_walk_125 fl_M_97 rfl i_M (by decide) (by omega) (hM 0 _ rfl) rfl ?_
        refine ev_icmp_ge d_M_walk_128 (fun c_128 => ?_) (fun c_128 => ?_)
        ·
          simp (disch := omega) only [nI_ltI, nI_leI, nI_eq, Nat.not_lt, Nat.not_le] at c_128
          have hIn : fI c Tt (Dv c Tt E) s b u = none := by
            rcases hcase with q | q
            · have := (fI_some.mp q).1.1; omega
            · exact q.2
          obtain ⟨j, hj⟩ : ∃ j, fF c (Dv c Tt E) s b u = some j := by
            rcases pick hc c_17 c_34 hD with ⟨i', q⟩ | ⟨_, q⟩
            · exact absurd (hIn.symm.trans q) (by intro h; cases h)
            · exact q
          have hpj := (fF_some.mp hj).1
          have hopj := opn_le hpj.2.2.1
          refine ev_aload_n d_M_walk_168 rfl rfl ?_
          refine ev_getf (kf := 13) (T := F_M) (C := R_M) (N := 30) (v := .int (nI (c.le))) d_M_walk_169 fl_M_73 rfl i_M (by decide) (by omega) (hM 0 _ rfl) rfl ?_
          refine ev_istore (ls' := [_, _, _, _, _, _, _]) d_M_walk_172 (by decide) rfl rfl ?_
          refine Ev.fg [true, true, true, true, true, false, true] rfl (lp_M_walkF hn hM hc hL hT hFin c_17 hb hu hD hj ?_ (j + 1) 0 (by omega) (by omega))
          refine ev_aload_n d_M_walk_211 rfl rfl ?_
          refine ev_iconst (v := (iI ((-1)))) d_M_walk_212 (by decide) ?_
          refine ev_iload_n d_M_walk_213 rfl rfl ?_
          refine ev_iload d_M_walk_214 rfl ?_
          refine cv (mc' := 0) (ms' := 0) (k' := k_M_add) (As := [.int (iI ((-1))), .int (nI (s)), .int (nI (c.le + j))]) (stk := []) d_M_walk_216 ml_M_156 kk_M_add rfl rfl (Nat.le_of_ble_eq_true rfl) (by omega) (hM 0 _ rfl) rfl rfl (ct_M_add (d := d + 1) (pc := l.length) (a := iI (-1)) (b := nI s) (e := nI (c.le + j)) (by omega) hn hM) (af fun n1 ν hq => ?_)
          obtain ⟨hn1, hM, hf⟩ := hq
          subst n1
          have hF := frT hf hF
          refine ev_iload_n d_M_walk_219 rfl rfl ?_
          refine ev_iload d_M_walk_220 rfl ?_
          refine ev_iadd d_M_walk_222 ?_
          refine ev_topi (w := (nI (s + (c.le + j)))) (nI_add _ _) ?_
          refine ev_istore_n (ls' := [_, _, _, _, _, none, _]) d_M_walk_223 rfl (by decide) rfl rfl ?_
          refine ev_bipush (v := (nI (7))) d_M_walk_224 (by decide) ?_
          refine ev_istore_n (ls' := [_, _, _, _, _, none, _]) d_M_walk_226 rfl (by decide) rfl rfl ?_
          refine ev_goto d_M_walk_227 ?_
          subst hQ
          have hP2 := hP.app (x := (100 + (c.le + j), s)) (a := iI (-1)) (b := nI s) (e := nI (c.le + j)) (by congr 1; show (-1 : Int) = if (0 : Nat) = 0 then (if 100 ≤ 100 + (c.le + j) then (-1 : Int) else ((100 + (c.le + j) : Nat) : Int)) else _; rw [if_pos rfl, if_pos (by omega)]) rfl (by rw [show wdt c (100 + (c.le + j), s) = 100 + (c.le + j) - 100 from if_pos (by show 100 ≤ 100 + (c.le + j); omega)]; congr 1; omega)
          have hM2 : ML ν (mmL G c cd hp tl ((l ++ [(100 + (c.le + j), s)]).length) pw pn bw bk me cl mt ts (upd pit l.length (iI (-1))) (upd pat l.length (nI s)) (upd psz l.length (nI (c.le + j)))) := by rw [List.length_append]; exact hM
          exact Ev.fg [true, true, true, true, false, false, false] rfl (ih (s + (c.le + j)) 7 u (l ++ [(100 + (c.le + j), s)]) ν p _ _ _ hopj (by omega) (by omega) hu (hpj.2.2.2.trans hD) (by rw [← hLL, wk_F (by omega) c_34 hIn hj]; simp) (by rw [← hSx, wk_F (by omega) c_34 hIn hj]) hP2 (by simp; omega) hM2 hF)
        ·
          simp (disch := omega) only [nI_ltI, nI_leI, nI_eq, Nat.not_lt, Nat.not_le] at c_128
          have hI : fI c Tt (Dv c Tt E) s b u = some i := hcase.resolve_right (fun q => by omega)
          have hpi := (fI_some.mp hI).1
          have hwi := hwd i c_128
          have hopi := opn_le (okI_s hpi.2.1).2.2.1
          obtain ⟨x, hx, hxe⟩ := kadd_some (hpi.2.2.trans hD)
          refine ev_aload_n d_M_walk_131 rfl rfl ?_
          refine ev_iload d_M_walk_132 rfl ?_
          refine ev_iload_n d_M_walk_134 rfl rfl ?_
          refine ev_aload_n d_M_walk_135 rfl rfl ?_
          refine ev_getf (kf := 6) (T := F_M) (C := R_M) (N := 30) (v := .ref (G.1 + 23)) d_M_walk_136 fl_M_17 rfl i_M (by decide) (by omega) (hM 0 _ rfl) rfl ?_
          refine ev_iload d_M_walk_139 rfl ?_
          refine ev_iald (j := i) d_M_walk_141 (by omega) (hM 3 _ rfl) (by omega) (by decide) ?_
          refine cv (mc' := 0) (ms' := 0) (k' := k_M_add) (As := [.int (nI (i)), .int (nI (s)), .int (nI (c.wd i))]) (stk := []) d_M_walk_142 ml_M_156 kk_M_add rfl rfl (Nat.le_of_ble_eq_true rfl) (by omega) (hM 0 _ rfl) rfl rfl (ct_M_add (d := d + 1) (pc := l.length) (a := nI i) (b := nI s) (e := nI (c.wd i)) (by omega) hn hM) (af fun n1 ν hq => ?_)
          obtain ⟨hn1, hM, hf⟩ := hq
          subst n1
          have hF := frT hf hF
          refine ev_iload_n d_M_walk_145 rfl rfl ?_
          refine ev_aload_n d_M_walk_146 rfl rfl ?_
          refine ev_getf (kf := 6) (T := F_M) (C := R_M) (N := 30) (v := .ref (G.1 + 23)) d_M_walk_147 fl_M_17 rfl i_M (by decide) (by omega) (hM 0 _ rfl) rfl ?_
          refine ev_iload d_M_walk_150 rfl ?_
          refine ev_iald (j := i) d_M_walk_152 (by omega) (hM 3 _ rfl) (by omega) (by decide) ?_
          refine ev_iadd d_M_walk_153 ?_
          refine ev_topi (w := (nI (s + (c.wd i)))) (nI_add _ _) ?_
          refine ev_istore_n (ls' := [_, _, _, _, _, _, none]) d_M_walk_154 rfl (by decide) rfl rfl ?_
          refine ev_iload d_M_walk_155 rfl ?_
          refine ev_istore_n (ls' := [_, _, _, _, _, _, none]) d_M_walk_157 rfl (by decide) rfl rfl ?_
          refine ev_iload_n d_M_walk_158 rfl rfl ?_
          refine ev_iconst (v := (nI (1))) d_M_walk_159 (by decide) ?_
          refine ev_iload d_M_walk_160 rfl ?_
          refine ev_ishl d_M_walk_162 ?_
          refine ev_ior d_M_walk_163 ?_
          refine ev_topi (w := (nI (u ||| 2 ^ i))) (bit_or u (by omega) i (by omega)) ?_
          refine ev_istore_n (ls' := [_, _, _, _, _, _, none]) d_M_walk_164 rfl (by decide) rfl rfl ?_
          refine ev_goto d_M_walk_165 ?_
          refine ev_goto d_M_walk_227 ?_
          subst hQ
          have hP2 := hP.app (x := (i, s)) (a := nI i) (b := nI s) (e := nI (c.wd i)) (by rw [nI_iI]; congr 1; show (i : Int) = if (0 : Nat) = 0 then (if 100 ≤ i then (-1 : Int) else (i : Int)) else _; rw [if_pos rfl, if_neg (by omega)]) rfl (by rw [show wdt c (i, s) = c.wd i from if_neg (by show ¬ 100 ≤ i; omega)])
          have hul : u ||| 2 ^ i < 2 ^ c.mn := Nat.or_lt_two_pow hu (Nat.pow_lt_pow_right (by omega) c_128)
          have hM2 : ML ν (mmL G c cd hp tl ((l ++ [(i, s)]).length) pw pn bw bk me cl mt ts (upd pit l.length (nI i)) (upd pat l.length (nI s)) (upd psz l.length (nI (c.wd i)))) := by rw [List.length_append]; exact hM
          exact Ev.fg [true, true, true, true, false, false, false] rfl (ih (s + c.wd i) i (u ||| 2 ^ i) (l ++ [(i, s)]) ν x _ _ _ hopi (by omega) (by omega) hul hx (by rw [← hLL, wk_I (by omega) c_34 hI]; simp) (by rw [← hSx, wk_I (by omega) c_34 hI]) hP2 (by simp; omega) hM2 hF)
      ·
        have c_34 := b2_t c_34
        refine ev_aload_n d_M_walk_37 rfl rfl ?_
        refine ev_iload_n d_M_walk_38 rfl rfl ?_
        refine cv (mc' := 0) (ms' := 0) (k' := k_M_behindFree) (As := [.int (nI (s))]) (stk := []) d_M_walk_39 ml_M_126 kk_M_behindFree rfl rfl (Nat.le_of_ble_eq_true rfl) (by omega) (hM 0 _ rfl) rfl rfl (ct_M_behindFree (d := d + 1) hs hn hM hc) (rd ?_)
        refine ev_istore_n (ls' := [_, _, _, _, _, none, none]) d_M_walk_42 rfl (by decide) rfl rfl ?_
        refine ev_bipush (v := (nI (6))) d_M_walk_43 (by decide) ?_
        refine ev_istore_n (ls' := [_, _, _, _, _, none, none]) d_M_walk_45 rfl (by decide) rfl rfl ?_
        refine ev_goto d_M_walk_46 ?_
        refine ev_goto d_M_walk_227 ?_
        have hbf := bf_lt hc c_34
        subst hQ
        refine Ev.fg [true, true, true, true, false, false, false] rfl (ih (c.bf s) 6 u l ν p pit pat psz (bf_le hc hs).2 (by omega) (by omega) hu ?_ ?_ ?_ hP (by omega) hM hF)
        · rw [← hD]; exact (Dv_free hc c_34).symm
        · rw [← hLL, wk_free (by omega) c_34]
        · rw [← hSx, wk_free (by omega) c_34]
theorem ct_M_walk {p : Nat × Nat} (hD : Dv c Tt E 0 6 0 = some p) (hL : LkC c cl 0) (hT : LkM c mt 0) (hFin : MFin c E bw bk 0) (hn : 41 ≤ n) (hM : ML μ (mmL G c cd hp tl pc pw pn bw bk me cl mt ts pit pat psz)) (hc : CfOK c) : Ct G k_M_walk (d + 2) 0 0 [.ref (G.1 + 20)] n μ (fun (o : Oc) (n' : Nat) (μ' : Mem) => o = .inl (some (.int (nI (wk c Tt E (c.st + 1) 0 6 0).2))) ∧ n' = n ∧ ∃ pit' pat' psz', ML μ' (mmL G c cd hp tl (wk c Tt E (c.st + 1) 0 6 0).1.length pw pn bw bk me cl mt ts (pit') (pat') (psz')) ∧ FrM μ' μ ∧ MPc c (wk c Tt E (c.st + 1) 0 6 0).1 pit' pat' psz') := by
  obtain ⟨⟨hst1, hst2⟩, hfr, hpn, hpp, hmn, hwd, hnd, hpu, hnr, hbr, hle, hdef⟩ := id hc
  have hF : FrM μ μ := fun t _ => rfl
  refine Ct.ofp (r := 6) (ls := [some (.ref (G.1 + 20)), none, none, none, none, none, none]) rfl (Nat.le_of_ble_eq_true rfl) ?_
  refine ev_aload_n d_M_walk_0 rfl rfl ?_
  refine ev_iconst (v := (nI (0))) d_M_walk_1 (by decide) ?_
  refine ev_putM (kf := 24) d_M_walk_2 fl_M_149 (by decide) rfl rfl rfl rfl (by omega) hM rfl (Nat.le_of_ble_eq_true rfl) (fun ν hM hf => ?_)
  have hM : ML ν (mmL G c cd hp tl 0 pw pn bw bk me cl mt ts pit pat psz) := hM
  have hF := frT hf hF
  refine ev_iconst (v := (nI (0))) d_M_walk_5 (by decide) ?_
  refine ev_istore_n (ls' := [_, _, none, none, none, none, none]) d_M_walk_6 rfl (by decide) rfl rfl ?_
  refine ev_bipush (v := (nI (6))) d_M_walk_7 (by decide) ?_
  refine ev_istore_n (ls' := [_, _, _, none, none, none, none]) d_M_walk_9 rfl (by decide) rfl rfl ?_
  refine ev_iconst (v := (nI (0))) d_M_walk_10 (by decide) ?_
  refine ev_istore_n (ls' := [_, _, _, _, none, none, none]) d_M_walk_11 rfl (by decide) rfl rfl ?_
  exact lp_M_walk hn hc hL hT hFin (c.st + 1) 0 6 0 [] ν p pit pat psz (by omega) (by omega) (by omega) (Nat.two_pow_pos _) hD rfl rfl (fun k hk => by simp at hk) (by simp) hM hF
end MWK
