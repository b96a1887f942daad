/-! ===== the model's table: what it looks at first ===== -/
def clA (c : Cf) : Nat → Nat → Nat
  | 0, _ => 0
  | m + 1, s => if c.fr s then 0 else clA c m (s + 1) + 1
def clr (c : Cf) (s : Nat) : Nat := clA c (c.st - s) s
theorem opn_s {c : Cf} {s w : Nat} : opn c s (w + 1) = (!c.fr s && opn c (s + 1) w) := by
  rw [Bool.eq_iff_iff]
  simp only [opn, Bool.and_eq_true, decide_eq_true_eq, List.all_eq_true, List.mem_range, Bool.not_eq_true']
  constructor
  · rintro ⟨h1, h2⟩
    refine ⟨h2 0 (by omega), by omega, fun j hj => ?_⟩
    have := h2 (j + 1) (by omega)
    rwa [show s + (j + 1) = s + 1 + j by omega] at this
  · rintro ⟨h0, h1, h2⟩
    refine ⟨by omega, fun j hj => ?_⟩
    cases j with
    | zero => exact h0
    | succ j =>
      have := h2 j (by omega)
      rwa [show s + (j + 1) = s + 1 + j by omega]
theorem opn_clA {c : Cf} : ∀ (m s w : Nat), s + m = c.st → (opn c s w = true ↔ w ≤ clA c m s)
  | 0, s, 0, h => by simp [opn, clA]; omega
  | 0, s, w + 1, h => by
    simp only [clA]
    constructor
    · intro q; have := opn_le q; omega
    · intro q; omega
  | m + 1, s, 0, h => by simp [opn]; omega
  | m + 1, s, w + 1, h => by
    rw [opn_s]
    simp only [clA]
    cases hf : c.fr s with
    | true => simp
    | false =>
      simp only [Bool.not_false, Bool.true_and, Bool.false_eq_true, if_false]
      rw [opn_clA m (s + 1) w (by omega)]; omega
theorem opn_clr {c : Cf} {s w : Nat} (hs : s ≤ c.st) : opn c s w = decide (w ≤ clr c s) := by
  rw [Bool.eq_iff_iff, decide_eq_true_eq]
  exact opn_clA _ _ _ (by omega)
theorem clr_end (c : Cf) : clr c c.st = 0 := by unfold clr; rw [Nat.sub_self]; rfl
theorem clr_step {c : Cf} {s : Nat} (hs : s < c.st) : clr c s = if c.fr s then 0 else clr c (s + 1) + 1 := by
  unfold clr
  rw [show c.st - s = (c.st - (s + 1)) + 1 by omega]
  rfl
theorem clr_le {c : Cf} {s : Nat} (hs : s ≤ c.st) : s + clr c s ≤ c.st := by
  have : opn c s (clr c s) = true := by rw [opn_clr hs]; simp
  exact opn_le this
def LkC (c : Cf) (cl : Nat → Int32) (m : Nat) : Prop := ∀ s, m ≤ s → s ≤ c.st → cl s = nI (clr c s)
def LkM (c : Cf) (mt : Nat → Int32) (m : Nat) : Prop := ∀ k, k < c.mn → ∀ s, m ≤ s → s < c.st → mt (41 * k + s) = b2 (metB c k s)
/-- a value as the model keeps it -/
def wv (o : Kv) : Int64 := match o with
  | none => -1
  | some p => lN p.1
def cv' (o : Kv) : Int64 := match o with
  | none => lN 0
  | some p => lN p.2
def KvB (o : Kv) : Prop := ∀ p, o = some p → p.1 ≤ 100000000 ∧ p.2 ≤ 100000000
theorem upL_self {f : Nat → Int64} {k : Nat} {x : Int64} (h : f k = x) : vp_updL f k x = f := by
  funext j; unfold vp_updL; split
  · next e => rw [e, h]
  · rfl
theorem upL_upL (f : Nat → Int64) (k : Nat) (x y : Int64) : vp_updL (vp_updL f k x) k y = vp_updL f k y := by
  funext j; unfold vp_updL; split <;> rfl
theorem upL_at (f : Nat → Int64) (k : Nat) (x : Int64) : vp_updL f k x k = x := if_pos rfl
theorem upL_ne (f : Nat → Int64) {k j : Nat} (x : Int64) (h : j ≠ k) : vp_updL f k x j = f j := if_neg h
section MLO
variable {G : Gm} {d n : Nat} {μ : Mem} {c : Cf} {cd : Nat} {hp : Bool} {tl pc : Nat} {pw pn : Int64} {bw bk : Nat → Int64} {me cl mt ts pit pat psz : Nat → Int32}
theorem ct_M_isClear {s w : Nat} (hs : s ≤ c.st) (hw : w ≤ 100) (hL : LkC c cl 0) (hn : 41 ≤ n) (hM : ML μ (mmL G c cd hp tl pc pw pn bw bk me cl mt ts pit pat psz)) (hc : CfOK c) : Ct G k_M_isClear d 0 0 [.ref (G.1 + 20), .int (nI s), .int (nI w)] n μ (Rd (some (.int (b2 (opn c s w)))) n μ) := by
  obtain ⟨⟨hst1, hst2⟩, hfr, hpn, hpp, hmn, hwd, hnd, hpu, hnr, hbr, hle, hdef⟩ := id hc
  have hcr := clr_le hs
  refine Ct.ofp (r := 0) (ls := [some (.ref (G.1 + 20)), some (.int (nI (s))), some (.int (nI (w)))]) rfl (Nat.le_of_ble_eq_true rfl) ?_
  refine ev_aload_n d_M_isClear_0 rfl rfl ?_
  refine ev_getf (kf := 19) (T := F_M) (C := R_M) (N := 30) (v := .ref (G.1 + 34)) d_M_isClear_1 fl_M_51 rfl i_M (by decide) (by omega) (hM 0 _ rfl) rfl ?_
  refine ev_iload_n d_M_isClear_4 rfl rfl ?_
  refine ev_iald (j := s) d_M_isClear_5 (by omega) (hM 14 _ rfl) (by omega) (by decide) ?_
  refine ev_topi (w := nI (clr c s)) (hL s (by omega) hs) ?_
  refine ev_iload_n d_M_isClear_6 rfl rfl ?_
  refine ev_icmp_lt d_M_isClear_7 (fun c_7 => ?_) (fun c_7 => ?_)
  ·
    simp (disch := omega) only [nI_ltI, nI_leI, nI_eq, Nat.not_lt, Nat.not_le] at c_7
    refine ev_iconst (v := (nI (0))) d_M_isClear_14 (by decide) ?_
    refine ev_ireturn d_M_isClear_15 rfl rfl ?_
    exact ret0 (by rw [opn_clr hs]; simp; omega)
  ·
    simp (disch := omega) only [nI_ltI, nI_leI, nI_eq, Nat.not_lt, Nat.not_le] at c_7
    refine ev_iconst (v := (nI (1))) d_M_isClear_10 (by decide) ?_
    refine ev_goto d_M_isClear_11 ?_
    refine ev_ireturn d_M_isClear_15 rfl rfl ?_
    exact ret1 (by rw [opn_clr hs]; simp; omega)
theorem ct_M_mayStand {k s b u : Nat} (hk : k < c.mn) (hs : s ≤ c.st) (hb : b ≤ 7) (hu : u < 64) (hL : LkC c cl 0) (hT : LkM c mt 0) (hn : 41 ≤ n) (hM : ML μ (mmL G c cd hp tl pc pw pn bw bk me cl mt ts pit pat psz)) (hc : CfOK c) : Ct G k_M_mayStand (d + 1) 0 0 [.ref (G.1 + 20), .int (nI k), .int (nI s), .int (nI b), .int (nI u)] n μ (Rd (some (.int (b2 (okI c Tt s b u k)))) n μ) := by
  obtain ⟨⟨hst1, hst2⟩, hfr, hpn, hpp, hmn, hwd, hnd, hpu, hnr, hbr, hle, hdef⟩ := id hc
  have hwk := hwd k hk
  refine Ct.ofp (r := 0) (ls := [some (.ref (G.1 + 20)), some (.int (nI (k))), some (.int (nI (s))), some (.int (nI (b))), some (.int (nI (u)))]) rfl (Nat.le_of_ble_eq_true rfl) ?_
  refine ev_iload d_M_mayStand_0 rfl ?_
  refine ev_iload_n d_M_mayStand_2 rfl rfl ?_
  refine ev_ishr d_M_mayStand_3 ?_
  refine ev_iconst (v := (nI (1))) d_M_mayStand_4 (by decide) ?_
  refine ev_iand d_M_mayStand_5 ?_
  refine ev_topi (w := (b2 (u.testBit k))) (bit_shr u hu k (by omega)) ?_
  refine ev_if_ne d_M_mayStand_6 (fun c_6 => ?_) (fun c_6 => ?_)
  ·
    have c_6 := b2_t c_6
    refine ev_iconst (v := (nI (0))) d_M_mayStand_61 (by decide) ?_
    refine ev_ireturn d_M_mayStand_62 rfl rfl ?_
    exact ret0 (by simp [okI, c_6])
  ·
    have c_6 := b2_f c_6
    refine ev_aload_n d_M_mayStand_9 rfl rfl ?_
    refine ev_iload_n d_M_mayStand_10 rfl rfl ?_
    refine ev_aload_n d_M_mayStand_11 rfl rfl ?_
    refine ev_getf (kf := 6) (T := F_M) (C := R_M) (N := 30) (v := .ref (G.1 + 23)) d_M_mayStand_12 fl_M_17 rfl i_M (by decide) (by omega) (hM 0 _ rfl) rfl ?_
    refine ev_iload_n d_M_mayStand_15 rfl rfl ?_
    refine ev_iald (j := k) d_M_mayStand_16 (by omega) (hM 3 _ rfl) (by omega) (by decide) ?_
    refine cv (mc' := 0) (ms' := 0) (k' := k_M_isClear) (As := [.int (nI (s)), .int (nI (c.wd k))]) (stk := []) d_M_mayStand_17 ml_M_119 kk_M_isClear rfl rfl (Nat.le_of_ble_eq_true rfl) (by omega) (hM 0 _ rfl) rfl rfl (ct_M_isClear (d := d) (s := s) (w := c.wd k) hs (by omega) hL hn hM hc) (rd ?_)
    refine ev_if_eq d_M_mayStand_20 (fun c_20 => ?_) (fun c_20 => ?_)
    ·
      have c_20 := b2_f c_20
      refine ev_iconst (v := (nI (0))) d_M_mayStand_61 (by decide) ?_
      refine ev_ireturn d_M_mayStand_62 rfl rfl ?_
      exact ret0 (by simp [okI, c_6, c_20])
    ·
      have c_20 := b2_t c_20
      have hop := opn_le c_20
      refine ev_aload_n d_M_mayStand_23 rfl rfl ?_
      refine ev_getf (kf := 20) (T := F_M) (C := R_M) (N := 30) (v := .ref (G.1 + 35)) d_M_mayStand_24 fl_M_54 rfl i_M (by decide) (by omega) (hM 0 _ rfl) rfl ?_
      refine ev_bipush (v := (nI (41))) d_M_mayStand_27 (by decide) ?_
      refine ev_iload_n d_M_mayStand_29 rfl rfl ?_
      refine ev_imul d_M_mayStand_30 ?_
      refine ev_topi (w := (nI (41 * k))) (pk_mul _ _) ?_
      refine ev_iload_n d_M_mayStand_31 rfl rfl ?_
      refine ev_iadd d_M_mayStand_32 ?_
      refine ev_topi (w := (nI ((41 * k) + s))) (nI_add _ _) ?_
      refine ev_zald (j := 41 * k + s) d_M_mayStand_33 (by omega) (hM 15 _ rfl) (by omega) (by decide) ?_
      refine ev_topi (w := b2 (metB c k s)) (hT k hk s (by omega) (by omega)) ?_
      refine ev_if_eq d_M_mayStand_34 (fun c_34 => ?_) (fun c_34 => ?_)
      ·
        have c_34 := b2_f c_34
        refine ev_iconst (v := (nI (0))) d_M_mayStand_61 (by decide) ?_
        refine ev_ireturn d_M_mayStand_62 rfl rfl ?_
        exact ret0 (by simp [okI, c_6, c_20, c_34])
      ·
        have c_34 := b2_t c_34
        refine ev_iload_n d_M_mayStand_37 rfl rfl ?_
        refine ev_bipush (v := (nI (6))) d_M_mayStand_38 (by decide) ?_
        refine ev_icmp_ge d_M_mayStand_40 (fun c_40 => ?_) (fun c_40 => ?_)
        ·
          simp (disch := omega) only [nI_ltI, nI_leI, nI_eq, Nat.not_lt, Nat.not_le] at c_40
          refine ev_iconst (v := (nI (1))) d_M_mayStand_57 (by decide) ?_
          refine ev_goto d_M_mayStand_58 ?_
          refine ev_ireturn d_M_mayStand_62 rfl rfl ?_
          exact ret1 (by unfold okI; rw [c_6, c_20, c_34]; simp; omega)
        ·
          simp (disch := omega) only [nI_ltI, nI_leI, nI_eq, Nat.not_lt, Nat.not_le] at c_40
          refine ev_aload_n d_M_mayStand_43 rfl rfl ?_
          refine ev_getf (kf := 12) (T := F_M) (C := R_M) (N := 30) (v := .ref (G.1 + 29)) d_M_mayStand_44 fl_M_36 rfl i_M (by decide) (by omega) (hM 0 _ rfl) rfl ?_
          refine ev_bipush (v := (nI (6))) d_M_mayStand_47 (by decide) ?_
          refine ev_iload_n d_M_mayStand_49 rfl rfl ?_
          refine ev_imul d_M_mayStand_50 ?_
          refine ev_topi (w := (nI (6 * b))) (pk_mul _ _) ?_
          refine ev_iload_n d_M_mayStand_51 rfl rfl ?_
          refine ev_iadd d_M_mayStand_52 ?_
          refine ev_topi (w := (nI ((6 * b) + k))) (nI_add _ _) ?_
          refine ev_zald (j := (6 * b) + k) d_M_mayStand_53 (by omega) (hM 9 _ rfl) (by omega) (by decide) ?_
          refine ev_topi (w := b2 (c.br b k)) (by show b2 (c.br ((6 * b + k) / 6) ((6 * b + k) % 6)) = _; rw [dv6 (show k < 6 by omega), md6 (show k < 6 by omega)]) ?_
          refine ev_if_ne d_M_mayStand_54 (fun c_54 => ?_) (fun c_54 => ?_)
          ·
            have c_54 := b2_t c_54
            refine ev_iconst (v := (nI (0))) d_M_mayStand_61 (by decide) ?_
            refine ev_ireturn d_M_mayStand_62 rfl rfl ?_
            exact ret0 (by unfold okI; rw [c_6, c_20, c_34, c_54]; simp; omega)
          ·
            have c_54 := b2_f c_54
            refine ev_iconst (v := (nI (1))) d_M_mayStand_57 (by decide) ?_
            refine ev_goto d_M_mayStand_58 ?_
            refine ev_ireturn d_M_mayStand_62 rfl rfl ?_
            exact ret1 (by unfold okI; rw [c_6, c_20, c_34, c_54]; simp)
theorem wv_lt {o : Kv} (h : KvB o) : wv o < lN 0 ↔ o = none := by
  cases o with
  | none => exact ⟨fun _ => rfl, fun _ => by decide⟩
  | some p =>
    have := h p rfl
    refine ⟨fun q => ?_, fun q => by cases q⟩
    have := (lN_lt (by omega) (by omega)).mp (show lN p.1 < lN 0 from q)
    omega
theorem ct_M_choose {to fr w ct : Nat} {A F : Kv} (hto : to < 20992) (hfr0 : fr < 20992) (hw : w ≤ 200000) (hct : ct ≤ 200000) (hA : KvB A) (hFk : KvB F) (a1 : bw to = wv A) (a2 : bk to = cv' A) (f1 : bw fr = wv F) (f2 : bk fr = cv' F) (hn : 41 ≤ n) (hM : ML μ (mmL G c cd hp tl pc pw pn bw bk me cl mt ts pit pat psz)) (hc : CfOK c) : Ct G k_M_choose d 0 0 [.ref (G.1 + 20), .int (nI to), .int (nI fr), .long (lN w), .long (lN ct)] n μ (MU G n μ (none) (mmL G c cd hp tl pc pw pn (vp_updL bw to (wv (kmax A (kadd F w ct)))) (vp_updL bk to (cv' (kmax A (kadd F w ct)))) me cl mt ts pit pat psz)) := by
  obtain ⟨⟨hst1, hst2⟩, hfr, hpn, hpp, hmn, hwd, hnd, hpu, hnr, hbr, hle, hdef⟩ := id hc
  have hF : FrM μ μ := fun t _ => rfl
  refine Ct.ofp (r := 4) (ls := [some (.ref (G.1 + 20)), some (.int (nI (to))), some (.int (nI (fr))), some (.long (lN (w))), none, some (.long (lN (ct))), none, none, none, none, none]) rfl (Nat.le_of_ble_eq_true rfl) ?_
  cases F with
  | none =>
    rw [show kmax A (kadd none w ct) = A from by cases A <;> rfl, upL_self a1, upL_self a2]
    refine ev_aload_n d_M_choose_0 rfl rfl ?_
    refine ev_getf (kf := 16) (T := F_M) (C := R_M) (N := 30) (v := .ref (G.1 + 31)) d_M_choose_1 fl_M_42 rfl i_M (by decide) (by omega) (hM 0 _ rfl) rfl ?_
    refine ev_iload_n d_M_choose_4 rfl rfl ?_
    refine ev_lald (j := fr) d_M_choose_5 (by omega) (hM 11 _ rfl) (by omega) (by decide) ?_
    refine ev_topl (w := (wv none)) f1 ?_
    refine ev_lconst (v := lN 0) d_M_choose_6 (by decide) ?_
    refine ev_lcmp d_M_choose_7 ?_
    refine ev_if_ge d_M_choose_8 (fun c_8 => ?_) (fun c_8 => ?_)
    ·
      have c_8 : ¬ wv none < lN 0 := fun q => by have := lc_ge.mp c_8; exact absurd this (by decide)
      exact absurd ((wv_lt hFk).mpr rfl) c_8
    ·
      skip
      refine ev_return d_M_choose_11 rfl ?_
      exact ⟨rfl, rfl, hM, hF⟩
  | some y =>
    have hy := hFk y rfl
    cases A with
    | none =>
      rw [show kmax none (kadd (some y) w ct) = some (y.1 + w, y.2 + ct) from rfl]
      refine ev_aload_n d_M_choose_0 rfl rfl ?_
      refine ev_getf (kf := 16) (T := F_M) (C := R_M) (N := 30) (v := .ref (G.1 + 31)) d_M_choose_1 fl_M_42 rfl i_M (by decide) (by omega) (hM 0 _ rfl) rfl ?_
      refine ev_iload_n d_M_choose_4 rfl rfl ?_
      refine ev_lald (j := fr) d_M_choose_5 (by omega) (hM 11 _ rfl) (by omega) (by decide) ?_
      refine ev_topl (w := (lN (y.1))) f1 ?_
      refine ev_lconst (v := lN 0) d_M_choose_6 (by decide) ?_
      refine ev_lcmp d_M_choose_7 ?_
      refine ev_if_ge d_M_choose_8 (fun c_8 => ?_) (fun c_8 => ?_)
      ·
        simp (disch := omega) only [lc_ge, lN_le] at c_8
        refine ev_aload_n d_M_choose_12 rfl rfl ?_
        refine ev_getf (kf := 16) (T := F_M) (C := R_M) (N := 30) (v := .ref (G.1 + 31)) d_M_choose_13 fl_M_42 rfl i_M (by decide) (by omega) (hM 0 _ rfl) rfl ?_
        refine ev_iload_n d_M_choose_16 rfl rfl ?_
        refine ev_lald (j := fr) d_M_choose_17 (by omega) (hM 11 _ rfl) (by omega) (by decide) ?_
        refine ev_topl (w := (lN (y.1))) f1 ?_
        refine ev_lload_n d_M_choose_18 rfl rfl ?_
        refine ev_ladd d_M_choose_19 ?_
        refine ev_topl (w := (lN (y.1 + w))) (lN_add _ _) ?_
        refine ev_lstore (ls' := [_, _, _, _, none, _, none, _, none, none, none]) d_M_choose_20 (by decide) rfl rfl ?_
        refine ev_aload_n d_M_choose_22 rfl rfl ?_
        refine ev_getf (kf := 17) (T := F_M) (C := R_M) (N := 30) (v := .ref (G.1 + 32)) d_M_choose_23 fl_M_45 rfl i_M (by decide) (by omega) (hM 0 _ rfl) rfl ?_
        refine ev_iload_n d_M_choose_26 rfl rfl ?_
        refine ev_lald (j := fr) d_M_choose_27 (by omega) (hM 12 _ rfl) (by omega) (by decide) ?_
        refine ev_topl (w := (lN (y.2))) f2 ?_
        refine ev_lload d_M_choose_28 rfl ?_
        refine ev_ladd d_M_choose_30 ?_
        refine ev_topl (w := (lN (y.2 + ct))) (lN_add _ _) ?_
        refine ev_lstore (ls' := [_, _, _, _, none, _, none, _, none, _, none]) d_M_choose_31 (by decide) rfl rfl ?_
        refine ev_lload d_M_choose_33 rfl ?_
        refine ev_aload_n d_M_choose_35 rfl rfl ?_
        refine ev_getf (kf := 16) (T := F_M) (C := R_M) (N := 30) (v := .ref (G.1 + 31)) d_M_choose_36 fl_M_42 rfl i_M (by decide) (by omega) (hM 0 _ rfl) rfl ?_
        refine ev_iload_n d_M_choose_39 rfl rfl ?_
        refine ev_lald (j := to) d_M_choose_40 (by omega) (hM 11 _ rfl) (by omega) (by decide) ?_
        refine ev_topl (w := ((-1))) a1 ?_
        refine ev_lcmp d_M_choose_41 ?_
        refine ev_if_gt d_M_choose_42 (fun c_42 => ?_) (fun c_42 => ?_)
        ·
          skip
          refine ev_aload_n d_M_choose_69 rfl rfl ?_
          refine ev_getf (kf := 16) (T := F_M) (C := R_M) (N := 30) (v := .ref (G.1 + 31)) d_M_choose_70 fl_M_42 rfl i_M (by decide) (by omega) (hM 0 _ rfl) rfl ?_
          refine ev_iload_n d_M_choose_73 rfl rfl ?_
          refine ev_lload d_M_choose_74 rfl ?_
          refine ev_lastM (a := 11) (j := to) d_M_choose_76 (by decide) (by omega) hM rfl (by omega) (by decide) (rfl) (fun ν hM hf => ?_)
          have hM : ML ν (mmL G c cd hp tl pc pw pn (vp_updL bw (to) ((lN (y.1 + w)))) bk me cl mt ts pit pat psz) := hM
          have hF := frT hf hF
          refine ev_aload_n d_M_choose_77 rfl rfl ?_
          refine ev_getf (kf := 17) (T := F_M) (C := R_M) (N := 30) (v := .ref (G.1 + 32)) d_M_choose_78 fl_M_45 rfl i_M (by decide) (by omega) (hM 0 _ rfl) rfl ?_
          refine ev_iload_n d_M_choose_81 rfl rfl ?_
          refine ev_lload d_M_choose_82 rfl ?_
          refine ev_lastM (a := 12) (j := to) d_M_choose_84 (by decide) (by omega) hM rfl (by omega) (by decide) (rfl) (fun ν hM hf => ?_)
          have hM : ML ν (mmL G c cd hp tl pc pw pn (vp_updL bw (to) ((lN (y.1 + w)))) (vp_updL bk (to) ((lN (y.2 + ct)))) me cl mt ts pit pat psz) := hM
          have hF := frT hf hF
          refine ev_return d_M_choose_85 rfl ?_
          exact ⟨rfl, rfl, hM, hF⟩
        ·
          have c_42 : False := c_42 (lc_gt.mpr (by rw [Int64.lt_iff_toInt_lt, lN_toInt (by omega), show Int64.toInt (-1) = -1 from by decide]; omega))
          exact c_42.elim
      ·
        simp (disch := omega) only [lc_ge, lN_le] at c_8
        omega
    | some x =>
      have hx := hA x rfl
      refine ev_aload_n d_M_choose_0 rfl rfl ?_
      refine ev_getf (kf := 16) (T := F_M) (C := R_M) (N := 30) (v := .ref (G.1 + 31)) d_M_choose_1 fl_M_42 rfl i_M (by decide) (by omega) (hM 0 _ rfl) rfl ?_
      refine ev_iload_n d_M_choose_4 rfl rfl ?_
      refine ev_lald (j := fr) d_M_choose_5 (by omega) (hM 11 _ rfl) (by omega) (by decide) ?_
      refine ev_topl (w := (lN (y.1))) f1 ?_
      refine ev_lconst (v := lN 0) d_M_choose_6 (by decide) ?_
      refine ev_lcmp d_M_choose_7 ?_
      refine ev_if_ge d_M_choose_8 (fun c_8 => ?_) (fun c_8 => ?_)
      ·
        simp (disch := omega) only [lc_ge, lN_le] at c_8
        refine ev_aload_n d_M_choose_12 rfl rfl ?_
        refine ev_getf (kf := 16) (T := F_M) (C := R_M) (N := 30) (v := .ref (G.1 + 31)) d_M_choose_13 fl_M_42 rfl i_M (by decide) (by omega) (hM 0 _ rfl) rfl ?_
        refine ev_iload_n d_M_choose_16 rfl rfl ?_
        refine ev_lald (j := fr) d_M_choose_17 (by omega) (hM 11 _ rfl) (by omega) (by decide) ?_
        refine ev_topl (w := (lN (y.1))) f1 ?_
        refine ev_lload_n d_M_choose_18 rfl rfl ?_
        refine ev_ladd d_M_choose_19 ?_
        refine ev_topl (w := (lN (y.1 + w))) (lN_add _ _) ?_
        refine ev_lstore (ls' := [_, _, _, _, none, _, none, _, none, none, none]) d_M_choose_20 (by decide) rfl rfl ?_
        refine ev_aload_n d_M_choose_22 rfl rfl ?_
        refine ev_getf (kf := 17) (T := F_M) (C := R_M) (N := 30) (v := .ref (G.1 + 32)) d_M_choose_23 fl_M_45 rfl i_M (by decide) (by omega) (hM 0 _ rfl) rfl ?_
        refine ev_iload_n d_M_choose_26 rfl rfl ?_
        refine ev_lald (j := fr) d_M_choose_27 (by omega) (hM 12 _ rfl) (by omega) (by decide) ?_
        refine ev_topl (w := (lN (y.2))) f2 ?_
        refine ev_lload d_M_choose_28 rfl ?_
        refine ev_ladd d_M_choose_30 ?_
        refine ev_topl (w := (lN (y.2 + ct))) (lN_add _ _) ?_
        refine ev_lstore (ls' := [_, _, _, _, none, _, none, _, none, _, none]) d_M_choose_31 (by decide) rfl rfl ?_
        refine ev_lload d_M_choose_33 rfl ?_
        refine ev_aload_n d_M_choose_35 rfl rfl ?_
        refine ev_getf (kf := 16) (T := F_M) (C := R_M) (N := 30) (v := .ref (G.1 + 31)) d_M_choose_36 fl_M_42 rfl i_M (by decide) (by omega) (hM 0 _ rfl) rfl ?_
        refine ev_iload_n d_M_choose_39 rfl rfl ?_
        refine ev_lald (j := to) d_M_choose_40 (by omega) (hM 11 _ rfl) (by omega) (by decide) ?_
        refine ev_topl (w := (lN (x.1))) a1 ?_
        refine ev_lcmp d_M_choose_41 ?_
        refine ev_if_gt d_M_choose_42 (fun c_42 => ?_) (fun c_42 => ?_)
        ·
          simp (disch := omega) only [lc_gt, lN_lt, Nat.not_lt] at c_42
          refine ev_aload_n d_M_choose_69 rfl rfl ?_
          refine ev_getf (kf := 16) (T := F_M) (C := R_M) (N := 30) (v := .ref (G.1 + 31)) d_M_choose_70 fl_M_42 rfl i_M (by decide) (by omega) (hM 0 _ rfl) rfl ?_
          refine ev_iload_n d_M_choose_73 rfl rfl ?_
          refine ev_lload d_M_choose_74 rfl ?_
          refine ev_lastM (a := 11) (j := to) d_M_choose_76 (by decide) (by omega) hM rfl (by omega) (by decide) (rfl) (fun ν hM hf => ?_)
          have hM : ML ν (mmL G c cd hp tl pc pw pn (vp_updL bw (to) ((lN (y.1 + w)))) bk me cl mt ts pit pat psz) := hM
          have hF := frT hf hF
          refine ev_aload_n d_M_choose_77 rfl rfl ?_
          refine ev_getf (kf := 17) (T := F_M) (C := R_M) (N := 30) (v := .ref (G.1 + 32)) d_M_choose_78 fl_M_45 rfl i_M (by decide) (by omega) (hM 0 _ rfl) rfl ?_
          refine ev_iload_n d_M_choose_81 rfl rfl ?_
          refine ev_lload d_M_choose_82 rfl ?_
          refine ev_lastM (a := 12) (j := to) d_M_choose_84 (by decide) (by omega) hM rfl (by omega) (by decide) (rfl) (fun ν hM hf => ?_)
          have hM : ML ν (mmL G c cd hp tl pc pw pn (vp_updL bw (to) ((lN (y.1 + w)))) (vp_updL bk (to) ((lN (y.2 + ct)))) me cl mt ts pit pat psz) := hM
          have hF := frT hf hF
          refine ev_return d_M_choose_85 rfl ?_
          rw [show kmax (some x) (kadd (some y) w ct) = some (y.1 + w, y.2 + ct) from if_pos ((kbet_iff _ _).mpr (by simp only; omega))]
          exact ⟨rfl, rfl, hM, hF⟩
        ·
          simp (disch := omega) only [lc_gt, lN_lt, Nat.not_lt] at c_42
          refine ev_lload d_M_choose_45 rfl ?_
          refine ev_aload_n d_M_choose_47 rfl rfl ?_
          refine ev_getf (kf := 16) (T := F_M) (C := R_M) (N := 30) (v := .ref (G.1 + 31)) d_M_choose_48 fl_M_42 rfl i_M (by decide) (by omega) (hM 0 _ rfl) rfl ?_
          refine ev_iload_n d_M_choose_51 rfl rfl ?_
          refine ev_lald (j := to) d_M_choose_52 (by omega) (hM 11 _ rfl) (by omega) (by decide) ?_
          refine ev_topl (w := (lN (x.1))) a1 ?_
          refine ev_lcmp d_M_choose_53 ?_
          refine ev_if_ne d_M_choose_54 (fun c_54 => ?_) (fun c_54 => ?_)
          ·
            simp (disch := omega) only [lc_eq, lN_eq] at c_54
            refine ev_return d_M_choose_85 rfl ?_
            rw [show kmax (some x) (kadd (some y) w ct) = some x from if_neg (fun q => by have := (kbet_iff _ _).mp q; simp only at this; omega), upL_self a1, upL_self a2]
            exact ⟨rfl, rfl, hM, hF⟩
          ·
            simp (disch := omega) only [lc_eq, lN_eq] at c_54
            refine ev_lload d_M_choose_57 rfl ?_
            refine ev_aload_n d_M_choose_59 rfl rfl ?_
            refine ev_getf (kf := 17) (T := F_M) (C := R_M) (N := 30) (v := .ref (G.1 + 32)) d_M_choose_60 fl_M_45 rfl i_M (by decide) (by omega) (hM 0 _ rfl) rfl ?_
            refine ev_iload_n d_M_choose_63 rfl rfl ?_
            refine ev_lald (j := to) d_M_choose_64 (by omega) (hM 12 _ rfl) (by omega) (by decide) ?_
            refine ev_topl (w := (lN (x.2))) a2 ?_
            refine ev_lcmp d_M_choose_65 ?_
            refine ev_if_ge d_M_choose_66 (fun c_66 => ?_) (fun c_66 => ?_)
            ·
              simp (disch := omega) only [lc_ge, lN_le, Nat.not_le] at c_66
              refine ev_return d_M_choose_85 rfl ?_
              rw [show kmax (some x) (kadd (some y) w ct) = some x from if_neg (fun q => by have := (kbet_iff _ _).mp q; simp only at this; omega), upL_self a1, upL_self a2]
              exact ⟨rfl, rfl, hM, hF⟩
            ·
              simp (disch := omega) only [lc_ge, lN_le, Nat.not_le] at c_66
              refine ev_aload_n d_M_choose_69 rfl rfl ?_
              refine ev_getf (kf := 16) (T := F_M) (C := R_M) (N := 30) (v := .ref (G.1 + 31)) d_M_choose_70 fl_M_42 rfl i_M (by decide) (by omega) (hM 0 _ rfl) rfl ?_
              refine ev_iload_n d_M_choose_73 rfl rfl ?_
              refine ev_lload d_M_choose_74 rfl ?_
              refine ev_lastM (a := 11) (j := to) d_M_choose_76 (by decide) (by omega) hM rfl (by omega) (by decide) (rfl) (fun ν hM hf => ?_)
              have hM : ML ν (mmL G c cd hp tl pc pw pn (vp_updL bw (to) ((lN (y.1 + w)))) bk me cl mt ts pit pat psz) := hM
              have hF := frT hf hF
              refine ev_aload_n d_M_choose_77 rfl rfl ?_
              refine ev_getf (kf := 17) (T := F_M) (C := R_M) (N := 30) (v := .ref (G.1 + 32)) d_M_choose_78 fl_M_45 rfl i_M (by decide) (by omega) (hM 0 _ rfl) rfl ?_
              refine ev_iload_n d_M_choose_81 rfl rfl ?_
              refine ev_lload d_M_choose_82 rfl ?_
              refine ev_lastM (a := 12) (j := to) d_M_choose_84 (by decide) (by omega) hM rfl (by omega) (by decide) (rfl) (fun ν hM hf => ?_)
              have hM : ML ν (mmL G c cd hp tl pc pw pn (vp_updL bw (to) ((lN (y.1 + w)))) (vp_updL bk (to) ((lN (y.2 + ct)))) me cl mt ts pit pat psz) := hM
              have hF := frT hf hF
              refine ev_return d_M_choose_85 rfl ?_
              rw [show kmax (some x) (kadd (some y) w ct) = some (y.1 + w, y.2 + ct) from if_pos ((kbet_iff _ _).mpr (by simp only; omega))]
              exact ⟨rfl, rfl, hM, hF⟩
      ·
        simp (disch := omega) only [lc_ge, lN_le] at c_8
        omega
theorem lp_M_look2 {Q : Oc → Nat → Mem → Prop} {s : Nat} (hs : s < c.st) (hn : 41 ≤ n) (hc : CfOK c) (hK : ∀ (mt : Nat → Int32) (ν : Mem), LkM c mt s → ML ν (mmL G c cd hp tl pc pw pn bw bk me cl mt ts pit pat psz) → FrM ν μ → Ev G k_M_look (d + 1) 0 0 83 [some (.ref (G.1 + 20)), some (.int (nI (s))), none] [] n ν Q) : ∀ (m k : Nat) (mt : Nat → Int32) (ν : Mem), k ≤ c.mn → c.mn < k + m → LkM c mt (s + 1) → (∀ j, j < k → mt (41 * j + s) = b2 (metB c j s)) → ML ν (mmL G c cd hp tl pc pw pn bw bk me cl mt ts pit pat psz) → FrM ν μ → Ev G k_M_look (d + 1) 0 0 52 [some (.ref (G.1 + 20)), some (.int (nI (s))), some (.int (nI (k)))] [] n ν Q := by
  obtain ⟨⟨hst1, hst2⟩, hfr, hpn, hpp, hmn, hwd, hnd, hpu, hnr, hbr, hle, hdef⟩ := id hc
  intro m
  induction m with
  | zero =>
    intro k mt ν h1 h2
    exact absurd h2 (by omega)
  | succ m ih =>
    intro k mt ν hk hkm hT hR hM hF
    refine ev_iload_n d_M_look_52 rfl rfl ?_
    refine ev_aload_n d_M_look_53 rfl rfl ?_
    refine ev_getf (kf := 5) (T := F_M) (C := R_M) (N := 30) (v := .int (nI (c.mn))) d_M_look_54 fl_M_97 rfl i_M (by decide) (by omega) (hM 0 _ rfl) rfl ?_
    refine ev_icmp_ge d_M_look_57 (fun c_57 => ?_) (fun c_57 => ?_)
    ·
      simp (disch := omega) only [nI_ltI, nI_leI, nI_eq, Nat.not_lt, Nat.not_le] at c_57
      have hk2 : k = c.mn := by omega
      subst hk2
      refine Ev.fg [true, true, false] rfl (hK mt ν (fun j hj s' h1 h2 => ?_) hM hF)
      by_cases e : s' = s
      · rw [e]; exact hR j hj
      · exact hT j hj s' (by omega) h2
    ·
      simp (disch := omega) only [nI_ltI, nI_leI, nI_eq, Nat.not_lt, Nat.not_le] at c_57
      refine ev_aload_n d_M_look_60 rfl rfl ?_
      refine ev_getf (kf := 20) (T := F_M) (C := R_M) (N := 30) (v := .ref (G.1 + 35)) d_M_look_61 fl_M_54 rfl i_M (by decide) (by omega) (hM 0 _ rfl) rfl ?_
      refine ev_bipush (v := (nI (41))) d_M_look_64 (by decide) ?_
      refine ev_iload_n d_M_look_66 rfl rfl ?_
      refine ev_imul d_M_look_67 ?_
      refine ev_topi (w := (nI (41 * k))) (pk_mul _ _) ?_
      refine ev_iload_n d_M_look_68 rfl rfl ?_
      refine ev_iadd d_M_look_69 ?_
      refine ev_topi (w := (nI ((41 * k) + s))) (nI_add _ _) ?_
      refine ev_aload_n d_M_look_70 rfl rfl ?_
      refine ev_iload_n d_M_look_71 rfl rfl ?_
      refine ev_iload_n d_M_look_72 rfl rfl ?_
      skip
      refine cv (mc' := 0) (ms' := 0) (k' := k_M_isNeeded) (As := [.int (nI (k)), .int (iI (s : Int))]) (stk := [.int (nI ((41 * k) + s)), .ref (G.1 + 35)]) d_M_look_73 ml_M_115 kk_M_isNeeded rfl rfl (Nat.le_of_ble_eq_true rfl) (by omega) (hM 0 _ rfl) rfl rfl (ct_M_isNeeded (d := d) (k := k) (f := (s : Int)) c_57 (by omega) (by omega) hn hM hc) (rd ?_)
      refine ev_zastM (a := 15) (j := (41 * k) + s) d_M_look_76 (by decide) (by omega) hM rfl (b2_nar _) (by omega) (by decide) (rfl) (fun ν hM hf => ?_)
      have hM : ML ν (mmL G c cd hp tl pc pw pn bw bk me cl (upd mt ((41 * k) + s) ((b2 (metB c k s)))) ts pit pat psz) := hM
      have hF := frT hf hF
      refine ev_iinc (v := (nI (k + 1))) (ls' := [_, _, _]) d_M_look_77 rfl (nI_1 _) (by decide) rfl rfl ?_
      refine ev_goto d_M_look_80 ?_
      refine ih (k + 1) _ ν (by omega) (by omega) (fun j hj s' h1 h2 => ?_) (fun j hj => ?_) hM hF
      · unfold upd
        rw [if_neg (by omega)]; exact hT j hj s' h1 h2
      · unfold upd
        by_cases e : j = k
        · subst e; rw [if_pos rfl]
        · rw [if_neg (by omega)]; exact hR j (by omega)
theorem lp_M_look3 {Q : Oc → Nat → Mem → Prop} {s : Nat} {ν : Mem} (hs : s ≤ 40) (h : Ev G k_M_look (d + 1) 0 0 17 [some (.ref (G.1 + 20)), some (.int (iI ((s : Int) - 1))), none] [] n ν Q) : Ev G k_M_look (d + 1) 0 0 83 [some (.ref (G.1 + 20)), some (.int (nI (s))), none] [] n ν Q := by
  refine ev_iinc (v := (iI ((s : Int) - 1))) (ls' := [_, _, none]) d_M_look_83 rfl (by rw [nI_iI, show Int32.ofInt (-1) = iI (-1) from rfl, iI_add]; rfl) (by decide) rfl rfl ?_
  refine ev_goto d_M_look_86 ?_
  exact h
theorem lp_M_look1 (hn : 41 ≤ n) (hc : CfOK c) : ∀ (m : Nat) (cl mt : Nat → Int32) (ν : Mem), m ≤ c.st → LkC c cl m → LkM c mt m → ML ν (mmL G c cd hp tl pc pw pn bw bk me cl mt ts pit pat psz) → FrM ν μ → Ev G k_M_look (d + 1) 0 0 17 [some (.ref (G.1 + 20)), some (.int (iI ((m : Int) - 1))), none] [] n ν (fun (o : Oc) (n' : Nat) (μ' : Mem) => o = .inl none ∧ n' = n ∧ ∃ cl' mt', ML μ' (mmL G c cd hp tl pc pw pn bw bk me (cl') (mt') ts pit pat psz) ∧ FrM μ' μ ∧ LkC c cl' 0 ∧ LkM c mt' 0) := by
  obtain ⟨⟨hst1, hst2⟩, hfr, hpn, hpp, hmn, hwd, hnd, hpu, hnr, hbr, hle, hdef⟩ := id hc
  generalize hQ : (fun (o : Oc) (n' : Nat) (μ' : Mem) => o = .inl none ∧ n' = n ∧ ∃ cl' mt', ML μ' (mmL G c cd hp tl pc pw pn bw bk me (cl') (mt') ts pit pat psz) ∧ FrM μ' μ ∧ LkC c cl' 0 ∧ LkM c mt' 0) = Q
  intro m
  induction m with
  | zero =>
    intro cl mt ν hm hL hT hM hF
    refine ev_iload_n d_M_look_17 rfl rfl ?_
    refine ev_if_lt d_M_look_18 (fun c_18 => ?_) (fun c_18 => ?_)
    ·
      skip
      refine ev_return d_M_look_89 rfl ?_
      subst hQ
      exact ⟨rfl, rfl, cl, mt, hM, hF, hL, hT⟩
    ·
      skip
      exact absurd (by decide) c_18
  | succ s ih =>
    intro cl mt ν hm hL hT hM hF
    rw [show iI (((s + 1 : Nat) : Int) - 1) = nI s from by rw [nI_iI]; congr 1; omega]
    have hcs := clr_step (c := c) (s := s) (by omega)
    have hcl := clr_le (c := c) (s := s + 1) (by omega)
    refine ev_iload_n d_M_look_17 rfl rfl ?_
    refine ev_if_lt d_M_look_18 (fun c_18 => ?_) (fun c_18 => ?_)
    ·
      skip
      exact absurd c_18 (nI_pos (by omega))
    ·
      skip
      refine ev_aload_n d_M_look_21 rfl rfl ?_
      refine ev_getf (kf := 19) (T := F_M) (C := R_M) (N := 30) (v := .ref (G.1 + 34)) d_M_look_22 fl_M_51 rfl i_M (by decide) (by omega) (hM 0 _ rfl) rfl ?_
      refine ev_iload_n d_M_look_25 rfl rfl ?_
      have hJ_49 : ∀ x : Nat, (x = clr c s) → Ev G k_M_look (d + 1) 0 0 49 [some (.ref (G.1 + 20)), some (.int (nI (s))), none] [.int (nI (x)), .int (nI (s)), .ref (G.1 + 34)] n ν Q := by
        intro x hJ
        refine ev_iastM (a := 14) (j := s) d_M_look_49 (by decide) (by omega) hM rfl (by omega) (by decide) (rfl) (fun ν hM hf => ?_)
        have hM : ML ν (mmL G c cd hp tl pc pw pn bw bk me (upd cl (s) ((nI (x)))) mt ts pit pat psz) := hM
        have hF := frT hf hF
        refine ev_iconst (v := (nI (0))) d_M_look_50 (by decide) ?_
        refine ev_istore_n (ls' := [_, _, _]) d_M_look_51 rfl (by decide) rfl rfl ?_
        subst hJ
        refine lp_M_look2 (by omega) hn hc (fun mt ν hT hM hF => ?_) (c.mn + 1) 0 _ ν (by omega) (by omega) hT (fun j hj => by omega) hM hF
        exact lp_M_look3 (by omega) (ih _ mt ν (by omega) (fun s' h1 h2 => by
          unfold upd
          by_cases e : s' = s
          · subst e; rw [if_pos rfl]
          · rw [if_neg e]; exact hL s' (by omega) h2) hT hM hF)
      refine ev_aload_n d_M_look_26 rfl rfl ?_
      refine ev_getf (kf := 2) (T := F_M) (C := R_M) (N := 30) (v := .ref (G.1 + 21)) d_M_look_27 fl_M_7 rfl i_M (by decide) (by omega) (hM 0 _ rfl) rfl ?_
      refine ev_iload_n d_M_look_30 rfl rfl ?_
      refine ev_zald (j := s) d_M_look_31 (by omega) (hM 1 _ rfl) (by omega) (by decide) ?_
      refine ev_if_eq d_M_look_32 (fun c_32 => ?_) (fun c_32 => ?_)
      ·
        have c_32 := b2_f c_32
        refine ev_aload_n d_M_look_39 rfl rfl ?_
        refine ev_getf (kf := 19) (T := F_M) (C := R_M) (N := 30) (v := .ref (G.1 + 34)) d_M_look_40 fl_M_51 rfl i_M (by decide) (by omega) (hM 0 _ rfl) rfl ?_
        refine ev_iload_n d_M_look_43 rfl rfl ?_
        refine ev_iconst (v := (nI (1))) d_M_look_44 (by decide) ?_
        refine ev_iadd d_M_look_45 ?_
        refine ev_topi (w := (nI (s + 1))) (nI_add _ _) ?_
        refine ev_iald (j := s + 1) d_M_look_46 (by omega) (hM 14 _ rfl) (by omega) (by decide) ?_
        refine ev_topi (w := nI (clr c (s + 1))) (hL (s + 1) (by omega) (by omega)) ?_
        refine ev_iconst (v := (nI (1))) d_M_look_47 (by decide) ?_
        refine ev_iadd d_M_look_48 ?_
        refine ev_topi (w := (nI ((clr c (s + 1)) + 1))) (nI_add _ _) ?_
        exact hJ_49 ((clr c (s + 1)) + 1) (by rw [hcs, c_32]; rfl)
      ·
        have c_32 := b2_t c_32
        refine ev_iconst (v := (nI (0))) d_M_look_35 (by decide) ?_
        refine ev_goto d_M_look_36 ?_
        exact hJ_49 (0) (by rw [hcs, c_32]; rfl)
theorem ct_M_look (hn : 41 ≤ n) (hM : ML μ (mmL G c cd hp tl pc pw pn bw bk me cl mt ts pit pat psz)) (hc : CfOK c) : Ct G k_M_look (d + 1) 0 0 [.ref (G.1 + 20)] n μ (fun (o : Oc) (n' : Nat) (μ' : Mem) => o = .inl none ∧ n' = n ∧ ∃ cl' mt', ML μ' (mmL G c cd hp tl pc pw pn bw bk me (cl') (mt') ts pit pat psz) ∧ FrM μ' μ ∧ LkC c cl' 0 ∧ LkM c mt' 0) := by
  obtain ⟨⟨hst1, hst2⟩, hfr, hpn, hpp, hmn, hwd, hnd, hpu, hnr, hbr, hle, hdef⟩ := id hc
  have hF : FrM μ μ := fun t _ => rfl
  refine Ct.ofp (r := 2) (ls := [some (.ref (G.1 + 20)), none, none]) rfl (Nat.le_of_ble_eq_true rfl) ?_
  refine ev_aload_n d_M_look_0 rfl rfl ?_
  refine ev_getf (kf := 19) (T := F_M) (C := R_M) (N := 30) (v := .ref (G.1 + 34)) d_M_look_1 fl_M_51 rfl i_M (by decide) (by omega) (hM 0 _ rfl) rfl ?_
  refine ev_aload_n d_M_look_4 rfl rfl ?_
  refine ev_getf (kf := 1) (T := F_M) (C := R_M) (N := 30) (v := .int (nI (c.st))) d_M_look_5 fl_M_69 rfl i_M (by decide) (by omega) (hM 0 _ rfl) rfl ?_
  refine ev_iconst (v := (nI (0))) d_M_look_8 (by decide) ?_
  refine ev_iastM (a := 14) (j := c.st) d_M_look_9 (by decide) (by omega) hM rfl (by omega) (by decide) (rfl) (fun ν hM hf => ?_)
  have hM : ML ν (mmL G c cd hp tl pc pw pn bw bk me (upd cl (c.st) ((nI (0)))) mt ts pit pat psz) := hM
  have hF := frT hf hF
  refine ev_aload_n d_M_look_10 rfl rfl ?_
  refine ev_getf (kf := 1) (T := F_M) (C := R_M) (N := 30) (v := .int (nI (c.st))) d_M_look_11 fl_M_69 rfl i_M (by decide) (by omega) (hM 0 _ rfl) rfl ?_
  refine ev_iconst (v := (nI (1))) d_M_look_14 (by decide) ?_
  refine ev_isub d_M_look_15 ?_
  refine ev_topi (w := (iI ((c.st : Int) - 1))) (by rw [nI_iI, nI_iI, iI_sub]; rfl) ?_
  refine ev_istore_n (ls' := [_, _, none]) d_M_look_16 rfl (by decide) rfl rfl ?_
  exact lp_M_look1 hn hc c.st _ mt ν (by omega) (fun s h1 h2 => by
    have : s = c.st := by omega
    subst this
    rw [clr_end]; exact if_pos rfl) (fun k hk s h1 h2 => by omega) hM hF
end MLO
