/-! ===== tell, run, variant ===== -/
def XR (G : Gm) (n : Nat) (μ : Mem) (v : Value) (σ' : Sg) : Oc → Nat → Mem → Prop := fun o n' μ' => o = .inl (some v) ∧ n ≤ n' ∧ XW G n' μ' σ' ∧ ∀ t, 20 ≤ t → t < 41 → μ' t = μ t
/-- a search and what it leaves -/
def fdV (σ : Sg) (ul : Nat) : Int := match Db σ.1 (Eb σ.1 σ.2.2.1 σ.2.1 ul) with
  | none => -1
  | some _ => ((Wb σ.1 (Eb σ.1 σ.2.2.1 σ.2.1 ul)).1.length : Int)
def fdS (σ : Sg) (ul : Nat) : Sg := match Db σ.1 (Eb σ.1 σ.2.2.1 σ.2.1 ul) with
  | none => σ
  | some q => (σ.1, σ.2.1 + 1, (fun j => if j = σ.2.1 then (Wb σ.1 (Eb σ.1 σ.2.2.1 σ.2.1 ul)).2 else σ.2.2.1 j), some ((Wb σ.1 (Eb σ.1 σ.2.2.1 σ.2.1 ul)).1, q.1, q.2))
section TR
variable {G : Gm} {d n : Nat} {μ : Mem} {c : Cf} {lx : Nat} {ik : Nat → Nat} {tb : Nat → Int64} {tl : Nat} {ts : Nat → Int32} {lat : Value}
theorem ct_X_tellN : Ct G k_X_tell d 0 0 [.ref (G.1 + 0), .null] n μ (Rd (some (.int (iI (-1)))) n μ) := by
  refine Ct.ofp (r := 0) (ls := [some (.ref (G.1 + 0)), some (.null)]) rfl (Nat.le_of_ble_eq_true rfl) ?_
  refine ev_aload_nN d_X_tell_0 rfl rfl ?_
  refine ev_ifnonnullN d_X_tell_1 ?_
  refine ev_iconst (v := (iI ((-1)))) d_X_tell_4 (by decide) ?_
  refine ev_ireturn d_X_tell_5 rfl rfl ?_
  exact ⟨rfl, rfl, rfl⟩
theorem ct_X_tell {t S w ct : Nat} {l : List (Nat × Nat)} (ht : 41 ≤ t) (htl : tl < 16) (hP : PM G n μ t l S w ct) (hX : XM G n μ c lx ik tb tl ts lat) : Ct G k_X_tell d 0 0 [.ref (G.1 + 0), .ref (G.1 + t)] n μ (fun (o : Oc) (n' : Nat) (μ' : Mem) => o = .inl (some (.int (nI l.length))) ∧ n' = n ∧ XM G n μ' c lx ik tb (tl + 1) (upd ts tl (nI S)) (.ref (G.1 + t)) ∧ ∀ j, 20 ≤ j → μ' j = μ j) := by
  obtain ⟨hn, x0, x1, x2, x3, x4, x5, x11, x12, x18, x19, xi, xj⟩ := id hX
  obtain ⟨g1, g2, g3, g4, fc, fb, p0, p1, p2, p3⟩ := id hP
  refine Ct.ofp (r := 0) (ls := [some (.ref (G.1 + 0)), some (.ref (G.1 + t))]) rfl (Nat.le_of_ble_eq_true rfl) ?_
  refine ev_aload_n d_X_tell_0 rfl rfl ?_
  refine ev_ifnonnull d_X_tell_1 ?_
  refine ev_aload_n d_X_tell_6 rfl rfl ?_
  refine ev_aload_n d_X_tell_7 rfl rfl ?_
  refine ev_putf (kf := 13) (T := F_X) (C := R_X) (N := 14) (ty0 := t_X) d_X_tell_8 fl_X_63 rfl i_X t_X_ok n_X (by decide) rfl rfl rfl rfl (by omega) x0 (Nat.le_of_ble_eq_true rfl) ?_
  refine ev_aload_n d_X_tell_11 rfl rfl ?_
  refine ev_getf (kf := 11) (T := F_X) (C := R_X) (N := 14) (v := .ref (G.1 + 19)) d_X_tell_12 fl_X_38 rfl i_X (by decide) (by omega) (mset_eq _ _ _) rfl ?_
  refine ev_aload_n d_X_tell_15 rfl rfl ?_
  refine ev_dup d_X_tell_16 rfl ?_
  refine ev_getf (kf := 12) (T := F_X) (C := R_X) (N := 14) (v := .int (nI (tl))) d_X_tell_17 fl_X_177 rfl i_X (by decide) (by omega) (mset_eq _ _ _) rfl ?_
  refine ev_dup_x1 d_X_tell_20 rfl rfl ?_
  refine ev_iconst (v := (nI (1))) d_X_tell_21 (by decide) ?_
  refine ev_iadd d_X_tell_22 ?_
  refine ev_topi (w := (nI (tl + 1))) (nI_add _ _) ?_
  refine ev_putf (kf := 12) (T := F_X) (C := R_X) (N := 14) (ty0 := t_X) d_X_tell_23 fl_X_177 rfl i_X t_X_ok n_X (by decide) rfl rfl rfl rfl (by omega) (mset_eq _ _ _) (Nat.le_of_ble_eq_true rfl) ?_
  rw [mset_mset]
  have q0 : (mset μ 0 (ob 0 [.int (nI c.st), .ref (G.1 + 1), .ref (G.1 + 2), .int (nI c.pn), .ref (G.1 + 3), .int (nI c.mn), .ref (G.1 + 4), .ref (G.1 + 11), .int (nI lx), .int (nI c.mo), .ref (G.1 + 18), .ref (G.1 + 19), .int (nI (tl + 1)), (.ref (G.1 + t))])) t = _ := (mset_ne _ _ (by omega)).trans p0
  refine ev_aload_n d_X_tell_26 rfl rfl ?_
  refine ev_getN (kf := 3) (T := F_P) (C := R_P) (N := 6) (v := .int (nI (S))) d_X_tell_27 fl_X_166 rfl i_P (by decide) (by omega) q0 rfl ?_
  refine ev_iast (j := tl) d_X_tell_30 (by omega) ((mset_ne _ _ (by omega)).trans x19) htl (by decide) ?_
  have q0 : (mset (mset μ 0 (ob 0 [.int (nI c.st), .ref (G.1 + 1), .ref (G.1 + 2), .int (nI c.pn), .ref (G.1 + 3), .int (nI c.mn), .ref (G.1 + 4), .ref (G.1 + 11), .int (nI lx), .int (nI c.mo), .ref (G.1 + 18), .ref (G.1 + 19), .int (nI (tl + 1)), (.ref (G.1 + t))])) 19 (aI 16 (upd ts tl (nI S)))) t = _ := (mset_ne _ _ (by omega)).trans q0
  refine ev_aload_n d_X_tell_31 rfl rfl ?_
  refine ev_getN (kf := 2) (T := F_P) (C := R_P) (N := 6) (v := .int (nI (l.length))) d_X_tell_32 fl_X_208 rfl i_P (by decide) (by omega) q0 rfl ?_
  refine ev_ireturn d_X_tell_35 rfl rfl ?_
  refine ⟨rfl, rfl, ?_, fun j hj => (mset_ne _ _ (by omega)).trans (mset_ne _ _ (by omega))⟩
  exact (XM.m0 hX c lx (tl + 1) (.ref (G.1 + t)) ⟨rfl, rfl, rfl, rfl, rfl, rfl, rfl, rfl, rfl, rfl, rfl⟩).m19 (upd ts tl (nI S))
theorem TdOK.up {td : Nat → Nat} {S : Nat} (h : TdOK tl ts td) (htl : tl < 16) (hS : S < 64) : TdOK (tl + 1) (upd ts tl (nI S)) (fun j => if j = tl then S else td j) := by
  refine ⟨by omega, fun k hk => ?_⟩
  unfold upd
  dsimp only
  by_cases e : k = tl
  · rw [if_pos e, if_pos e]; exact ⟨rfl, hS⟩
  · rw [if_neg e, if_neg e]; exact h.2 k (by omega)
/-- what best and tell leave -/
def FQ (G : Gm) (n : Nat) (μ : Mem) (σ : Sg) (ul : Nat) : Oc → Nat → Mem → Prop := XR G n μ (.int (iI (fdV σ ul))) (fdS σ ul)
theorem tail_X_run {td : Nat → Nat} {ul : Nat} {pl : Pl} {a : Int32} (hX : XM G n μ c lx ik tb tl ts lat) (hc : CfOK c) (hlx : LxOK c lx) (hul : ul ≤ 6) (htd : TdOK tl ts td) (htl : tl < 16) (hL : XL G n μ c lat pl) : Ev G k_X_run (d + 6) 195 5720 13 [some (.ref (G.1 + 0))] [.int (nI ul), .ref (G.1 + 0), .ref (G.1 + 0)] n μ (FQ G n μ (c, tl, td, pl) ul) := by
  have hn := hX.1
  refine cv (rc := 0) (rs := 0) (mc' := 195) (ms' := 5720) (k' := k_X_best) (As := [.int (nI ul)]) (stk := [.ref (G.1 + 0)]) d_X_run_13 ml_X_209 kk_X_best rfl rfl (Nat.le_of_ble_eq_true rfl) (by omega) hX.2.1 rfl rfl (ct_X_best (d := d) hX hc hlx hul htd) (fun o n1 ν hq => ?_)
  obtain ⟨bv, rfl, hnn, ⟨tb1, hX1⟩, hff, hN, hS⟩ := hq
  cases hD : Db c (Eb c td tl ul) with
  | none =>
    have := hN hD
    subst this
    have e1 : fdV (c, tl, td, pl) ul = -1 := by
      show (match Db c (Eb c td tl ul) with | none => (-1 : Int) | some _ => _) = _
      rw [hD]
    have e2 : fdS (c, tl, td, pl) ul = (c, tl, td, pl) := by
      show (match Db c (Eb c td tl ul) with | none => ((c, tl, td, pl) : Sg) | some _ => _) = _
      rw [hD]
    refine cv (rc := 0) (rs := 0) (mc' := 0) (ms' := 0) (k' := k_X_tell) (As := [.null]) (stk := []) d_X_run_16 ml_X_212 kk_X_tell rfl rfl (Nat.le_of_ble_eq_true rfl) (by omega) hX1.2.1 rfl rfl (ct_X_tellN (d := d + 5)) (rd ?_)
    refine ev_ireturn d_X_run_19 rfl rfl ?_
    unfold FQ
    rw [e1, e2]
    exact ⟨rfl, hnn, ⟨hc, lx, ik, tb1, ts, lat, hlx, hX1, htd, hL.frame hnn ⟨rfl, rfl⟩ (fun t h1 h2 _ => hff t h2 (by omega))⟩, fun t h1 h2 => hff t (by omega) (by omega)⟩
  | some q =>
    obtain ⟨t, ht, rfl, hP⟩ := hS q hD
    have e1 : fdV (c, tl, td, pl) ul = ((Wb c (Eb c td tl ul)).1.length : Int) := by
      show (match Db c (Eb c td tl ul) with | none => (-1 : Int) | some _ => _) = _
      rw [hD]
    have e2 : fdS (c, tl, td, pl) ul = (c, tl + 1, (fun j => if j = tl then (Wb c (Eb c td tl ul)).2 else td j), some ((Wb c (Eb c td tl ul)).1, q.1, q.2)) := by
      show (match Db c (Eb c td tl ul) with | none => ((c, tl, td, pl) : Sg) | some _ => _) = _
      rw [hD]
    refine cv (rc := 0) (rs := 0) (mc' := 0) (ms' := 0) (k' := k_X_tell) (As := [.ref (G.1 + t)]) (stk := []) d_X_run_16 ml_X_212 kk_X_tell rfl rfl (Nat.le_of_ble_eq_true rfl) (by omega) hX1.2.1 rfl rfl (ct_X_tell (d := d + 5) (by omega) htl hP hX1) (af fun n2 ν2 hq => ?_)
    obtain ⟨hn2, hX2, hf2⟩ := hq
    subst n2
    refine ev_ireturn d_X_run_19 rfl rfl ?_
    unfold FQ
    rw [e1, e2, ← nI_iI]
    have hS64 : (Wb c (Eb c td tl ul)).2 < 64 := hP.2.2.2.1.2.2
    refine ⟨rfl, hnn, ⟨hc, lx, ik, tb1, _, _, hlx, hX2, htd.up htl hS64, t, _, by omega, rfl, hP.frame (Nat.le_refl _) (fun j h1 h2 => hf2 j (by omega)), wk_ok hc (c.st + 1) 0 6 0 q (by omega) (by omega) hD⟩, fun j h1 h2 => (hf2 j h1).trans (hff j (by omega) (by omega))⟩
theorem tail_X_variant {td : Nat → Nat} {ul : Nat} {pl : Pl} {a : Int32} (hX : XM G n μ c lx ik tb tl ts lat) (hc : CfOK c) (hlx : LxOK c lx) (hul : ul ≤ 6) (htd : TdOK tl ts td) (htl : tl < 16) (hL : XL G n μ c lat pl) : Ev G k_X_variant (d + 7) 195 5720 39 [some (.ref (G.1 + 0)), some (.int (a))] [.int (nI ul), .ref (G.1 + 0), .ref (G.1 + 0)] n μ (FQ G n μ (c, tl, td, pl) ul) := by
  have hn := hX.1
  refine cv (rc := 0) (rs := 0) (mc' := 195) (ms' := 5720) (k' := k_X_best) (As := [.int (nI ul)]) (stk := [.ref (G.1 + 0)]) d_X_variant_39 ml_X_209 kk_X_best rfl rfl (Nat.le_of_ble_eq_true rfl) (by omega) hX.2.1 rfl rfl (ct_X_best (d := d + 1) hX hc hlx hul htd) (fun o n1 ν hq => ?_)
  obtain ⟨bv, rfl, hnn, ⟨tb1, hX1⟩, hff, hN, hS⟩ := hq
  cases hD : Db c (Eb c td tl ul) with
  | none =>
    have := hN hD
    subst this
    have e1 : fdV (c, tl, td, pl) ul = -1 := by
      show (match Db c (Eb c td tl ul) with | none => (-1 : Int) | some _ => _) = _
      rw [hD]
    have e2 : fdS (c, tl, td, pl) ul = (c, tl, td, pl) := by
      show (match Db c (Eb c td tl ul) with | none => ((c, tl, td, pl) : Sg) | some _ => _) = _
      rw [hD]
    refine cv (rc := 0) (rs := 0) (mc' := 0) (ms' := 0) (k' := k_X_tell) (As := [.null]) (stk := []) d_X_variant_42 ml_X_212 kk_X_tell rfl rfl (Nat.le_of_ble_eq_true rfl) (by omega) hX1.2.1 rfl rfl (ct_X_tellN (d := d + 6)) (rd ?_)
    refine ev_ireturn d_X_variant_45 rfl rfl ?_
    unfold FQ
    rw [e1, e2]
    exact ⟨rfl, hnn, ⟨hc, lx, ik, tb1, ts, lat, hlx, hX1, htd, hL.frame hnn ⟨rfl, rfl⟩ (fun t h1 h2 _ => hff t h2 (by omega))⟩, fun t h1 h2 => hff t (by omega) (by omega)⟩
  | some q =>
    obtain ⟨t, ht, rfl, hP⟩ := hS q hD
    have e1 : fdV (c, tl, td, pl) ul = ((Wb c (Eb c td tl ul)).1.length : Int) := by
      show (match Db c (Eb c td tl ul) with | none => (-1 : Int) | some _ => _) = _
      rw [hD]
    have e2 : fdS (c, tl, td, pl) ul = (c, tl + 1, (fun j => if j = tl then (Wb c (Eb c td tl ul)).2 else td j), some ((Wb c (Eb c td tl ul)).1, q.1, q.2)) := by
      show (match Db c (Eb c td tl ul) with | none => ((c, tl, td, pl) : Sg) | some _ => _) = _
      rw [hD]
    refine cv (rc := 0) (rs := 0) (mc' := 0) (ms' := 0) (k' := k_X_tell) (As := [.ref (G.1 + t)]) (stk := []) d_X_variant_42 ml_X_212 kk_X_tell rfl rfl (Nat.le_of_ble_eq_true rfl) (by omega) hX1.2.1 rfl rfl (ct_X_tell (d := d + 6) (by omega) htl hP hX1) (af fun n2 ν2 hq => ?_)
    obtain ⟨hn2, hX2, hf2⟩ := hq
    subst n2
    refine ev_ireturn d_X_variant_45 rfl rfl ?_
    unfold FQ
    rw [e1, e2, ← nI_iI]
    have hS64 : (Wb c (Eb c td tl ul)).2 < 64 := hP.2.2.2.1.2.2
    refine ⟨rfl, hnn, ⟨hc, lx, ik, tb1, _, _, hlx, hX2, htd.up htl hS64, t, _, by omega, rfl, hP.frame (Nat.le_refl _) (fun j h1 h2 => hf2 j (by omega)), wk_ok hc (c.st + 1) 0 6 0 q (by omega) (by omega) hD⟩, fun j h1 h2 => (hf2 j h1).trans (hff j (by omega) (by omega))⟩
theorem ct_X_run {σ : Sg} (hW : XW G n μ σ) : Ct G k_X_run (d + 6) 195 5720 [.ref (G.1 + 0)] n μ (FQ G n μ (σ.1, 0, σ.2.2.1, none) 0) := by
  obtain ⟨hc, lx, ik, tb, ts, lat, hlx, hX, htd, hL⟩ := hW
  have hn := hX.1
  generalize σ.1 = c at hc hlx hX htd hL ⊢
  generalize σ.2.1 = tl at hX htd
  refine Ct.ofp (r := 0) (ls := [some (.ref (G.1 + 0))]) rfl (Nat.le_of_ble_eq_true rfl) ?_
  refine ev_aload_n d_X_run_0 rfl rfl ?_
  refine ev_iconst (v := (nI (0))) d_X_run_1 (by decide) ?_
  refine ev_putf (kf := 12) (T := F_X) (C := R_X) (N := 14) (ty0 := t_X) d_X_run_2 fl_X_177 rfl i_X t_X_ok n_X (by decide) rfl rfl rfl rfl (by omega) hX.2.1 (Nat.le_of_ble_eq_true rfl) ?_
  refine ev_aload_n d_X_run_5 rfl rfl ?_
  refine ev_null d_X_run_6 ?_
  refine ev_putf (kf := 13) (T := F_X) (C := R_X) (N := 14) (ty0 := t_X) d_X_run_7 fl_X_63 rfl i_X t_X_ok n_X (by decide) rfl rfl rfl rfl (by omega) (mset_eq _ _ _) (Nat.le_of_ble_eq_true rfl) ?_
  refine ev_aload_n d_X_run_10 rfl rfl ?_
  refine ev_aload_n d_X_run_11 rfl rfl ?_
  refine ev_iconst (v := (nI (0))) d_X_run_12 (by decide) ?_
  rw [mset_mset]
  have hX2 := XM.m0 hX c lx 0 .null ⟨rfl, rfl, rfl, rfl, rfl, rfl, rfl, rfl, rfl, rfl, rfl⟩
  refine Ev.post ?_ (tail_X_run (d := d) (a := 0) hX2 hc hlx (show 0 ≤ 6 by omega) (td := σ.2.2.1) ⟨by omega, fun k hk => by omega⟩ (by omega) (pl := none) rfl)
  rintro o n' μ' ⟨h1, h2, h3, h4⟩
  exact ⟨h1, h2, h3, fun t q1 q2 => (h4 t q1 q2).trans (mset_ne _ _ (by omega))⟩
theorem ct_X_variant_ok {td : Nat → Nat} {ul t : Nat} {pl : Pl} (hX : XM G n μ c lx ik tb tl ts (.ref (G.1 + t))) (hc : CfOK c) (hlx : LxOK c lx) (hul : ul ≤ 6) (htd : TdOK tl ts td) (htl : tl < 16) (hL : XL G n μ c (.ref (G.1 + t)) pl) : Ct G k_X_variant (d + 7) 197 5732 [.ref (G.1 + 0), .int (nI ul)] n μ (FQ G n μ (c, tl, td, pl) ul) := by
  obtain ⟨hn, x0, x1, x2, x3, x4, x5, x11, x12, x18, x19, xi, xj⟩ := id hX
  refine Ct.ofp (r := 0) (ls := [some (.ref (G.1 + 0)), some (.int (nI ul))]) rfl (Nat.le_of_ble_eq_true rfl) ?_
  refine ev_aload_n d_X_variant_0 rfl rfl ?_
  refine ev_getf (kf := 13) (T := F_X) (C := R_X) (N := 14) (v := .ref (G.1 + t)) d_X_variant_1 fl_X_63 rfl i_X (by decide) (by omega) x0 rfl ?_
  refine ev_ifnull d_X_variant_4 ?_
  refine ev_aload_n d_X_variant_7 rfl rfl ?_
  refine ev_getf (kf := 12) (T := F_X) (C := R_X) (N := 14) (v := .int (nI (tl))) d_X_variant_8 fl_X_177 rfl i_X (by decide) (by omega) x0 rfl ?_
  refine ev_bipush (v := (nI (16))) d_X_variant_11 (by decide) ?_
  refine ev_icmp_ge d_X_variant_13 (fun c_13 => ?_) (fun c_13 => ?_)
  ·
    simp (disch := omega) only [nI_ltI, nI_leI, nI_eq, Nat.not_lt, Nat.not_le] at c_13
    omega
  ·
    simp (disch := omega) only [nI_ltI, nI_leI, nI_eq, Nat.not_lt, Nat.not_le] at c_13
    refine ev_iconst (v := (nI (1))) d_X_variant_16 (by decide) ?_
    refine ev_goto d_X_variant_17 ?_
    refine cs (mc' := 1) (ms' := 6) (k' := k_X_can) (As := [.int (nI (1))]) (stk := []) d_X_variant_21 ml_X_84 kk_X_can rfl rfl (Nat.le_of_ble_eq_true rfl) (ct_can (d := d) (true)) (gdT (rfl) ?_)
    refine ev_iload_n d_X_variant_24 rfl rfl ?_
    refine ev_i2l d_X_variant_25 ?_
    refine ev_topl (w := (lN (ul))) (nI_l (by omega)) ?_
    refine ev_lconst (v := lN 0) d_X_variant_26 (by decide) ?_
    refine ev_ldc2 (v := (6)) d_X_variant_27 ck_X_216 ?_
    refine ev_topl (w := lN 6) (by decide) ?_
    refine cs (mc' := 0) (ms' := 0) (k' := k_X_isIn) (As := [.long (lN (ul)), .long (lN (0)), .long (lN (6))]) (stk := []) d_X_variant_30 ml_X_67 kk_X_isIn rfl rfl (Nat.le_of_ble_eq_true rfl) (ct_X_isInV (d := d + 6) (LZ_n (by omega)) (LZ_n (by omega)) (LZ_n (by omega))) (rd ?_)
    refine cs (mc' := 1) (ms' := 6) (k' := k_X_proper) (As := [.int (b2 (decide (((0 : Nat) : Int) ≤ ((ul : Nat) : Int) ∧ ((ul : Nat) : Int) ≤ ((6 : Nat) : Int))))]) (stk := []) d_X_variant_33 ml_X_71 kk_X_proper rfl rfl (Nat.le_of_ble_eq_true rfl) (ct_proper (d := d) (decide (((0 : Nat) : Int) ≤ ((ul : Nat) : Int) ∧ ((ul : Nat) : Int) ≤ ((6 : Nat) : Int)))) (gdT (decide_eq_true (by omega)) ?_)
    refine ev_aload_n d_X_variant_36 rfl rfl ?_
    refine ev_aload_n d_X_variant_37 rfl rfl ?_
    refine ev_iload_n d_X_variant_38 rfl rfl ?_
    exact tail_X_variant (d := d) (a := nI ul) hX hc hlx hul htd htl hL
theorem ct_X_variant_no1a {a : Int} (ha1 : -2147483648 ≤ a) (ha2 : a < 2147483648) {t : Nat}  (hX : XM G n μ c lx ik tb tl ts .null) : Ct G k_X_variant (d + 7) 197 5732 [.ref (G.1 + 0), .int (iI a)] n μ (XT 5 n μ) := by
  obtain ⟨hn, x0, x1, x2, x3, x4, x5, x11, x12, x18, x19, xi, xj⟩ := id hX
  refine Ct.ofp (r := 0) (ls := [some (.ref (G.1 + 0)), some (.int (iI a))]) rfl (Nat.le_of_ble_eq_true rfl) ?_
  refine ev_aload_n d_X_variant_0 rfl rfl ?_
  refine ev_getf (kf := 13) (T := F_X) (C := R_X) (N := 14) (v := .null) d_X_variant_1 fl_X_63 rfl i_X (by decide) (by omega) x0 rfl ?_
  refine ev_ifnullN d_X_variant_4 ?_
  refine ev_iconst (v := (nI (0))) d_X_variant_20 (by decide) ?_
  refine cs (mc' := 1) (ms' := 6) (k' := k_X_can) (As := [.int (nI (0))]) (stk := []) d_X_variant_21 ml_X_84 kk_X_can rfl rfl (Nat.le_of_ble_eq_true rfl) (ct_can (d := d) (false)) (gdF (rfl) ?_)
  exact ⟨rfl, rfl, rfl⟩
theorem ct_X_variant_no1b {a : Int} (ha1 : -2147483648 ≤ a) (ha2 : a < 2147483648) {t : Nat} (htl : ¬ tl < 16) (htl2 : tl ≤ 16) (hX : XM G n μ c lx ik tb tl ts (.ref (G.1 + t))) : Ct G k_X_variant (d + 7) 197 5732 [.ref (G.1 + 0), .int (iI a)] n μ (XT 5 n μ) := by
  obtain ⟨hn, x0, x1, x2, x3, x4, x5, x11, x12, x18, x19, xi, xj⟩ := id hX
  refine Ct.ofp (r := 0) (ls := [some (.ref (G.1 + 0)), some (.int (iI a))]) rfl (Nat.le_of_ble_eq_true rfl) ?_
  refine ev_aload_n d_X_variant_0 rfl rfl ?_
  refine ev_getf (kf := 13) (T := F_X) (C := R_X) (N := 14) (v := .ref (G.1 + t)) d_X_variant_1 fl_X_63 rfl i_X (by decide) (by omega) x0 rfl ?_
  refine ev_ifnull d_X_variant_4 ?_
  refine ev_aload_n d_X_variant_7 rfl rfl ?_
  refine ev_getf (kf := 12) (T := F_X) (C := R_X) (N := 14) (v := .int (nI (tl))) d_X_variant_8 fl_X_177 rfl i_X (by decide) (by omega) x0 rfl ?_
  refine ev_bipush (v := (nI (16))) d_X_variant_11 (by decide) ?_
  refine ev_icmp_ge d_X_variant_13 (fun c_13 => ?_) (fun c_13 => ?_)
  ·
    simp (disch := omega) only [nI_ltI, nI_leI, nI_eq, Nat.not_lt, Nat.not_le] at c_13
    refine ev_iconst (v := (nI (0))) d_X_variant_20 (by decide) ?_
    refine cs (mc' := 1) (ms' := 6) (k' := k_X_can) (As := [.int (nI (0))]) (stk := []) d_X_variant_21 ml_X_84 kk_X_can rfl rfl (Nat.le_of_ble_eq_true rfl) (ct_can (d := d) (false)) (gdF (rfl) ?_)
    exact ⟨rfl, rfl, rfl⟩
  ·
    simp (disch := omega) only [nI_ltI, nI_leI, nI_eq, Nat.not_lt, Nat.not_le] at c_13
    omega
theorem ct_X_variant_no2 {a : Int} (ha1 : -2147483648 ≤ a) (ha2 : a < 2147483648) {t : Nat} (htl : tl < 16) (hno : ¬ (0 ≤ a ∧ a ≤ 6)) (hX : XM G n μ c lx ik tb tl ts (.ref (G.1 + t))) : Ct G k_X_variant (d + 7) 197 5732 [.ref (G.1 + 0), .int (iI a)] n μ (XT 4 n μ) := by
  obtain ⟨hn, x0, x1, x2, x3, x4, x5, x11, x12, x18, x19, xi, xj⟩ := id hX
  refine Ct.ofp (r := 0) (ls := [some (.ref (G.1 + 0)), some (.int (iI a))]) rfl (Nat.le_of_ble_eq_true rfl) ?_
  refine ev_aload_n d_X_variant_0 rfl rfl ?_
  refine ev_getf (kf := 13) (T := F_X) (C := R_X) (N := 14) (v := .ref (G.1 + t)) d_X_variant_1 fl_X_63 rfl i_X (by decide) (by omega) x0 rfl ?_
  refine ev_ifnull d_X_variant_4 ?_
  refine ev_aload_n d_X_variant_7 rfl rfl ?_
  refine ev_getf (kf := 12) (T := F_X) (C := R_X) (N := 14) (v := .int (nI (tl))) d_X_variant_8 fl_X_177 rfl i_X (by decide) (by omega) x0 rfl ?_
  refine ev_bipush (v := (nI (16))) d_X_variant_11 (by decide) ?_
  refine ev_icmp_ge d_X_variant_13 (fun c_13 => ?_) (fun c_13 => ?_)
  ·
    simp (disch := omega) only [nI_ltI, nI_leI, nI_eq, Nat.not_lt, Nat.not_le] at c_13
    omega
  ·
    simp (disch := omega) only [nI_ltI, nI_leI, nI_eq, Nat.not_lt, Nat.not_le] at c_13
    refine ev_iconst (v := (nI (1))) d_X_variant_16 (by decide) ?_
    refine ev_goto d_X_variant_17 ?_
    refine cs (mc' := 1) (ms' := 6) (k' := k_X_can) (As := [.int (nI (1))]) (stk := []) d_X_variant_21 ml_X_84 kk_X_can rfl rfl (Nat.le_of_ble_eq_true rfl) (ct_can (d := d) (true)) (gdT (rfl) ?_)
    refine ev_iload_n d_X_variant_24 rfl rfl ?_
    refine ev_i2l d_X_variant_25 ?_
    refine ev_lconst (v := lN 0) d_X_variant_26 (by decide) ?_
    refine ev_ldc2 (v := (6)) d_X_variant_27 ck_X_216 ?_
    refine ev_topl (w := lN 6) (by decide) ?_
    refine cs (mc' := 0) (ms' := 0) (k' := k_X_isIn) (As := [.long (((iI (a))).toInt64), .long (lN (0)), .long (lN (6))]) (stk := []) d_X_variant_30 ml_X_67 kk_X_isIn rfl rfl (Nat.le_of_ble_eq_true rfl) (ct_X_isInV (d := d + 6) (LZ_z (by omega) (by omega)) (LZ_n (by omega)) (LZ_n (by omega))) (rd ?_)
    refine cs (mc' := 1) (ms' := 6) (k' := k_X_proper) (As := [.int (b2 (decide (((0 : Nat) : Int) ≤ a ∧ a ≤ ((6 : Nat) : Int))))]) (stk := []) d_X_variant_33 ml_X_71 kk_X_proper rfl rfl (Nat.le_of_ble_eq_true rfl) (ct_proper (d := d) (decide (((0 : Nat) : Int) ≤ a ∧ a ≤ ((6 : Nat) : Int)))) (gdF (decide_eq_false (by omega)) ?_)
    exact ⟨rfl, rfl, rfl⟩
end TR
