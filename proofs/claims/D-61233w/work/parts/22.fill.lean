/-! ===== fill: the table of a set ===== -/
theorem mset_mset (μ : Mem) (t : Nat) (a b : Cn) : mset (mset μ t a) t b = mset μ t b := by
  funext j; unfold mset; split <;> rfl
theorem mset_self {μ : Mem} {t : Nat} {a : Cn} (h : μ t = a) : mset μ t a = μ := by
  funext j; unfold mset; split
  · next q => rw [q, h]
  · rfl
theorem XM.tab {G : Gm} {n : Nat} {μ : Mem} {c : Cf} {lx : Nat} {ik : Nat → Nat} {tb : Nat → Int64} {tl : Nat} {ts : Nat → Int32} {lat : Value} (h : XM G n μ c lx ik tb tl ts lat) (tb' : Nat → Int64) : XM G n (mset μ 18 (aJ 36736 tb')) c lx ik tb' tl ts lat := by
  obtain ⟨hn, x0, x1, x2, x3, x4, x5, x11, x12, x18, x19, xi, xj⟩ := h
  exact ⟨hn, x0, x1, x2, x3, x4, fun i hi => (mset_ne _ _ (by omega)).trans (x5 i hi), x11, fun i hi => (mset_ne _ _ (by omega)).trans (x12 i hi), rfl, x19, fun k hk => ⟨(xi k hk).1, (xi k hk).2.1, (mset_ne _ _ (by have := (xi k hk).1; omega)).trans (xi k hk).2.2⟩, xj⟩
theorem cX_inj {s b u s' b' u' : Nat} (hb : b ≤ 7) (hb' : b' ≤ 7) (hu : u < 64) (hu' : u' < 64) (h : cX s b u = cX s' b' u') : s = s' ∧ b = b' ∧ u = u' := by
  unfold cX at h
  split at h <;> split at h <;> split at h <;> split at h <;> omega
theorem cX_lt {s b u : Nat} (hs : s ≤ 40) (hu : u < 64) : cX s b u < 36736 := by unfold cX; split <;> split <;> omega
theorem sub_dec : ∀ v, v < 64 → ∀ S, S < 64 → (nI v &&& (nI S ^^^ iI (-1)) = 0 ↔ v &&& S = v) := by decide +kernel
def SubS (S u : Nat) : Prop := ∀ j, u.testBit j = true → S.testBit j = true
theorem sub_and {v S : Nat} : v &&& S = v ↔ SubS S v := by
  constructor
  · intro h j hj
    rw [← h, Nat.testBit_and, Bool.and_eq_true] at hj
    exact hj.2
  · intro h
    apply Nat.eq_of_testBit_eq
    intro i
    rw [Nat.testBit_and]
    cases hv : v.testBit i with
    | false => rfl
    | true => rw [h i hv]; rfl
theorem sub_ok {v S : Nat} (hv : v < 64) (hS : S < 64) (h : nI v &&& (nI S ^^^ iI (-1)) = 0) : SubS S v := sub_and.mp ((sub_dec v hv S hS).mp h)
theorem sub_no {v S : Nat} (hv : v < 64) (hS : S < 64) (h : ¬ (nI v &&& (nI S ^^^ iI (-1)) = 0)) : ¬ SubS S v := fun q => h ((sub_dec v hv S hS).mpr (sub_and.mpr q))
abbrev DvS (c : Cf) (S : Nat) : Nat → Nat → Nat → Kv := Dv c S.testBit (fun v => decide (v = S))
def DvB (c : Cf) (S s b u : Nat) : Kv := if s ≤ c.st then DvS c S s b u else none
theorem DvB_bnd {c : Cf} (hc : CfOK c) (S : Nat) : Bnd (DvB c S) := by
  intro s b u p h
  unfold DvB at h
  split at h
  · next q => exact Dv_bnd hc _ s b u p q h
  · cases h
theorem DvB_eq {c : Cf} (hc : CfOK c) {S s b u : Nat} (hs : s ≤ c.st) : DB c S.testBit (fun v => decide (v = S)) (DvB c S) s b u = DvS c S s b u := by
  rw [show DvS c S s b u = DB c S.testBit (fun v => decide (v = S)) (DvS c S) s b u from Dv_eq hc hs]
  exact DB_ext hc hs fun s' b' u' q1 q2 => if_pos q2
def TF (c : Cf) (S : Nat) (tb : Nat → Int64) (s b u : Nat) : Prop := tb (cX s b u) = tvk (DvS c S s b u)
def FinX (c : Cf) (S : Nat) (tb : Nat → Int64) (k : Nat) : Prop := ∀ s b u, k ≤ s → s ≤ c.st → b ≤ 7 → u < 64 → SubS S u → (b < 6 → u.testBit b = true) → TF c S tb s b u
def RowX (c : Cf) (S : Nat) (tb : Nat → Int64) (s v : Nat) : Prop := ∀ b u, u < v → b ≤ 7 → u < 64 → SubS S u → (b < 6 → u.testBit b = true) → TF c S tb s b u
def CelX (c : Cf) (S : Nat) (tb : Nat → Int64) (s v tt : Nat) : Prop := (0 < tt → TF c S tb s 6 v) ∧ ∀ b, b + 1 < tt → b < 6 → v.testBit b = true → TF c S tb s b v
theorem FinX.tb {c : Cf} {S : Nat} {tb : Nat → Int64} {s : Nat} (h : FinX c S tb (s + 1)) : TbX c S tb (DvB c S) s := fun s' b' u' q1 q2 q3 q4 q5 q6 => by
  rw [h s' b' u' q1 q2 q3 q4 q5 q6]
  unfold DvB
  rw [if_pos q2]
theorem TF.up {c : Cf} {S : Nat} {tb : Nat → Int64} {s b u s' b' u' : Nat} {x : Int64} (h : TF c S tb s b u) (hb : b ≤ 7) (hb' : b' ≤ 7) (hu : u < 64) (hu' : u' < 64) (hne : ¬ (s = s' ∧ b = b' ∧ u = u')) : TF c S (vp_updL tb (cX s' b' u') x) s b u := by
  unfold TF vp_updL
  rw [if_neg (fun q => hne (cX_inj hb hb' hu hu' q))]
  exact h
theorem TF.at {c : Cf} {S : Nat} {tb : Nat → Int64} {s b u : Nat} : TF c S (vp_updL tb (cX s b u) (tvk (DvS c S s b u))) s b u := if_pos rfl
theorem FinX.up {c : Cf} {S : Nat} {tb : Nat → Int64} {k s b u : Nat} {x : Int64} (h : FinX c S tb k) (hs : s < k) (hb : b ≤ 7) (hu : u < 64) : FinX c S (vp_updL tb (cX s b u) x) k := fun s' b' u' q1 q2 q3 q4 q5 q6 => (h s' b' u' q1 q2 q3 q4 q5 q6).up q3 hb q4 hu (by omega)
theorem RowX.up {c : Cf} {S : Nat} {tb : Nat → Int64} {s v b : Nat} {x : Int64} (h : RowX c S tb s v) (hb : b ≤ 7) (hu : v < 64) : RowX c S (vp_updL tb (cX s b v) x) s v := fun b' u' q1 q3 q4 q5 q6 => (h b' u' q1 q3 q4 q5 q6).up q3 hb q4 hu (by omega)
section FI
variable {G : Gm} {d n : Nat} {μ : Mem} {c : Cf} {lx : Nat} {ik : Nat → Nat} {tb0 : Nat → Int64} {tl : Nat} {ts : Nat → Int32} {lat : Value} {S : Nat}
theorem lp_X_fill3 {s v : Nat} {Q : Oc → Nat → Mem → Prop} (hX : XM G n μ c lx ik tb0 tl ts lat) (hc : CfOK c) (hlx : LxOK c lx) (hS : S < 64) (hs : s ≤ c.st) (hv : v < 64) (hexit : ∀ tb, FinX c S tb (s + 1) → RowX c S tb s v → (SubS S v → CelX c S tb s v (c.mn + 1)) → Ev G k_X_fill (d + 4) 0 0 91 [some (.ref (G.1 + 0)), some (.int (nI S)), some (.int (nI s)), some (.int (nI v)), none] [] n (mset μ 18 (aJ 36736 tb)) Q) : ∀ (m tt : Nat) (tb : Nat → Int64), tt ≤ c.mn + 1 → c.mn + 1 < tt + m → FinX c S tb (s + 1) → RowX c S tb s v → (SubS S v → CelX c S tb s v tt) → (0 < tt → SubS S v) → Ev G k_X_fill (d + 4) 0 0 24 [some (.ref (G.1 + 0)), some (.int (nI S)), some (.int (nI s)), some (.int (nI v)), some (.int (iI ((tt : Int) - 1)))] [] n (mset μ 18 (aJ 36736 tb)) Q := by
  intro m
  induction m with
  | zero =>
    intro tt tb h1 h2
    exact absurd h2 (by omega)
  | succ m ih =>
    intro tt tb hi him hF hR hCl hsv
    have hXt := hX.tab tb
    obtain ⟨hn, x0, x1, x2, x3, x4, x5, x11, x12, x18, x19, xi, xj⟩ := id hXt
    obtain ⟨⟨hst1, hst2⟩, hfr, hpn, hpp, hmn, hwd, hnd, hpu, hnr, hbr, hle, hdef⟩ := id hc
    cases tt with
    | zero =>
      rw [show iI (((0 : Nat) : Int) - 1) = iI (-1) from by decide]
      refine ev_iload d_X_fill_24 rfl ?_
      refine ev_aload_n d_X_fill_26 rfl rfl ?_
      refine ev_getf (kf := 5) (T := F_X) (C := R_X) (N := 14) (v := .int (nI (c.mn))) d_X_fill_27 fl_X_81 rfl i_X (by decide) (by omega) x0 rfl ?_
      refine ev_icmp_ge d_X_fill_30 (fun c_30 => ?_) (fun c_30 => ?_)
      ·
        simp (disch := omega) only [nI_iI, iI_leI, Int.not_le] at c_30
        omega
      ·
        simp (disch := omega) only [nI_iI, iI_leI, Int.not_le] at c_30
        refine ev_iload_n d_X_fill_33 rfl rfl ?_
        refine ev_iload_n d_X_fill_34 rfl rfl ?_
        refine ev_iconst (v := (iI ((-1)))) d_X_fill_35 (by decide) ?_
        refine ev_ixor d_X_fill_36 ?_
        refine ev_iand d_X_fill_37 ?_
        refine ev_if_ne d_X_fill_38 (fun c_38 => ?_) (fun c_38 => ?_)
        ·
          have c_38 := sub_no hv hS c_38
          exact Ev.fg [true, true, true, true, false] rfl (hexit tb hF hR (fun q => absurd q c_38))
        ·
          have c_38 := sub_ok hv hS c_38
          refine ev_iload d_X_fill_41 rfl ?_
          refine ev_iconst (v := (iI ((-1)))) d_X_fill_43 (by decide) ?_
          refine ev_icmp_eq d_X_fill_44 (fun c_44 => ?_) (fun c_44 => ?_)
          ·
            simp (disch := omega) only [nI_iI, iI_ltI, iI_leI, iI_eq, Int.not_lt, Int.not_le] at c_44
            refine ev_aload_n d_X_fill_59 rfl rfl ?_
            refine ev_getf (kf := 10) (T := F_X) (C := R_X) (N := 14) (v := .ref (G.1 + 18)) d_X_fill_60 fl_X_34 rfl i_X (by decide) (by omega) x0 rfl ?_
            refine ev_iload_n d_X_fill_63 rfl rfl ?_
            refine ev_iload_n d_X_fill_64 rfl rfl ?_
            refine ev_iload d_X_fill_65 rfl ?_
            refine cs (k' := k_X_touching) (As := [.int (iI ((-1)))]) (stk := [.int (nI (v)), .int (nI (s)), .ref (G.1 + 18)]) d_X_fill_67 ml_X_156 kk_X_touching rfl rfl (Nat.le_of_ble_eq_true rfl) (ct_X_touchingN (d := d + 3)) (rd ?_)
            refine ev_iconst (v := (nI (0))) d_X_fill_70 (by decide) ?_
            refine cs (k' := k_X_cell) (As := [.int (nI (s)), .int (nI (v)), .int (nI (6)), .int (nI (0))]) (stk := [.ref (G.1 + 18)]) d_X_fill_71 ml_X_133 kk_X_cell rfl rfl (Nat.le_of_ble_eq_true rfl) (ct_X_cell (d := d + 3) s v 6 0) (rd ?_)
            refine ev_aload_n d_X_fill_74 rfl rfl ?_
            refine ev_iload_n d_X_fill_75 rfl rfl ?_
            refine ev_iload_n d_X_fill_76 rfl rfl ?_
            refine ev_iload d_X_fill_77 rfl ?_
            refine ev_iconst (v := (nI (0))) d_X_fill_79 (by decide) ?_
            refine ev_iload_n d_X_fill_80 rfl rfl ?_
            refine cv (k' := k_X_reckon) (As := [.int (nI (s)), .int (nI (v)), .int (iI ((-1))), .int (nI (0)), .int (nI (S))]) (stk := [.int (nI (((s * 64 + v) * 7 + 6) * 2 + 0)), .ref (G.1 + 18)]) d_X_fill_81 ml_X_159 kk_X_reckon rfl rfl (Nat.le_of_ble_eq_true rfl) (by omega) x0 rfl rfl (ct_X_reckon_6 (d := d) (nx := DvB c S) hs hv hS c_38 hF.tb (DvB_bnd hc S) hlx hXt hc) (rd ?_)
            refine ev_topl (w := tvk (DvS c S s 6 v)) (by rw [DvB_eq hc hs]) ?_
            refine ev_last (j := ((s * 64 + v) * 7 + 6) * 2 + 0) d_X_fill_84 (by omega) x18 (by omega) (by decide) ?_
            rw [mset_mset, ← cX_6]
            refine ev_iinc (v := (iI (((0 + 1 : Nat) : Int) - 1))) (ls' := [_, _, _, _, _]) d_X_fill_85 rfl (by decide) (by decide) rfl rfl ?_
            refine ev_goto d_X_fill_88 ?_
            exact ih 1 _ (by omega) (by omega) (hF.up (by omega) (by omega) hv) (hR.up (by omega) hv) (fun _ => ⟨fun _ => TF.at, fun b q1 q2 q3 => by omega⟩) (fun _ => c_38)
          ·
            simp (disch := omega) only [nI_iI, iI_ltI, iI_leI, iI_eq, Int.not_lt, Int.not_le] at c_44
            exact absurd trivial c_44
    | succ b =>
      have hsv := hsv (by omega)
      rw [show iI (((b + 1 : Nat) : Int) - 1) = nI b from by rw [nI_iI]; congr 1; omega]
      refine ev_iload d_X_fill_24 rfl ?_
      refine ev_aload_n d_X_fill_26 rfl rfl ?_
      refine ev_getf (kf := 5) (T := F_X) (C := R_X) (N := 14) (v := .int (nI (c.mn))) d_X_fill_27 fl_X_81 rfl i_X (by decide) (by omega) x0 rfl ?_
      refine ev_icmp_ge d_X_fill_30 (fun c_30 => ?_) (fun c_30 => ?_)
      ·
        simp (disch := omega) only [nI_iI, iI_leI, Int.not_le] at c_30
        exact Ev.fg [true, true, true, true, false] rfl (hexit tb hF hR (fun q => by have := hCl q; rwa [show b + 1 = c.mn + 1 by omega] at this))
      ·
        simp (disch := omega) only [nI_iI, iI_leI, Int.not_le] at c_30
        refine ev_iload_n d_X_fill_33 rfl rfl ?_
        refine ev_iload_n d_X_fill_34 rfl rfl ?_
        refine ev_iconst (v := (iI ((-1)))) d_X_fill_35 (by decide) ?_
        refine ev_ixor d_X_fill_36 ?_
        refine ev_iand d_X_fill_37 ?_
        refine ev_if_ne d_X_fill_38 (fun c_38 => ?_) (fun c_38 => ?_)
        ·
          have c_38 := sub_no hv hS c_38
          exact absurd hsv c_38
        ·
          have c_38 := sub_ok hv hS c_38
          refine ev_iload d_X_fill_41 rfl ?_
          refine ev_iconst (v := (iI ((-1)))) d_X_fill_43 (by decide) ?_
          refine ev_icmp_eq d_X_fill_44 (fun c_44 => ?_) (fun c_44 => ?_)
          ·
            simp (disch := omega) only [nI_iI, iI_ltI, iI_leI, iI_eq, Int.not_lt, Int.not_le] at c_44
            omega
          ·
            simp (disch := omega) only [nI_iI, iI_ltI, iI_leI, iI_eq, Int.not_lt, Int.not_le] at c_44
            refine ev_iload_n d_X_fill_47 rfl rfl ?_
            refine ev_iload d_X_fill_48 rfl ?_
            refine ev_ishr d_X_fill_50 ?_
            refine ev_iconst (v := (nI (1))) d_X_fill_51 (by decide) ?_
            refine ev_iand d_X_fill_52 ?_
            refine ev_topi (w := (b2 (v.testBit b))) (bit_shr v hv b (by omega)) ?_
            refine ev_if_ne d_X_fill_53 (fun c_53 => ?_) (fun c_53 => ?_)
            ·
              have c_53 := b2_t c_53
              refine ev_aload_n d_X_fill_59 rfl rfl ?_
              refine ev_getf (kf := 10) (T := F_X) (C := R_X) (N := 14) (v := .ref (G.1 + 18)) d_X_fill_60 fl_X_34 rfl i_X (by decide) (by omega) x0 rfl ?_
              refine ev_iload_n d_X_fill_63 rfl rfl ?_
              refine ev_iload_n d_X_fill_64 rfl rfl ?_
              refine ev_iload d_X_fill_65 rfl ?_
              refine cs (k' := k_X_touching) (As := [.int (nI (b))]) (stk := [.int (nI (v)), .int (nI (s)), .ref (G.1 + 18)]) d_X_fill_67 ml_X_156 kk_X_touching rfl rfl (Nat.le_of_ble_eq_true rfl) (ct_X_touching (d := d + 3) b (by omega)) (rd ?_)
              refine ev_iconst (v := (nI (0))) d_X_fill_70 (by decide) ?_
              refine cs (k' := k_X_cell) (As := [.int (nI (s)), .int (nI (v)), .int (nI (b)), .int (nI (0))]) (stk := [.ref (G.1 + 18)]) d_X_fill_71 ml_X_133 kk_X_cell rfl rfl (Nat.le_of_ble_eq_true rfl) (ct_X_cell (d := d + 3) s v b 0) (rd ?_)
              refine ev_aload_n d_X_fill_74 rfl rfl ?_
              refine ev_iload_n d_X_fill_75 rfl rfl ?_
              refine ev_iload_n d_X_fill_76 rfl rfl ?_
              refine ev_iload d_X_fill_77 rfl ?_
              refine ev_iconst (v := (nI (0))) d_X_fill_79 (by decide) ?_
              refine ev_iload_n d_X_fill_80 rfl rfl ?_
              refine cv (k' := k_X_reckon) (As := [.int (nI (s)), .int (nI (v)), .int (nI (b)), .int (nI (0)), .int (nI (S))]) (stk := [.int (nI (((s * 64 + v) * 7 + b) * 2 + 0)), .ref (G.1 + 18)]) d_X_fill_81 ml_X_159 kk_X_reckon rfl rfl (Nat.le_of_ble_eq_true rfl) (by omega) x0 rfl rfl (ct_X_reckon_T (d := d) (nx := DvB c S) hs hv hS (by omega) c_38 hF.tb (DvB_bnd hc S) hlx hXt hc) (rd ?_)
              refine ev_topl (w := tvk (DvS c S s b v)) (by rw [DvB_eq hc hs]) ?_
              refine ev_last (j := ((s * 64 + v) * 7 + b) * 2 + 0) d_X_fill_84 (by omega) x18 (by omega) (by decide) ?_
              refine ev_iinc (v := (iI (((b + 1 + 1 : Nat) : Int) - 1))) (ls' := [_, _, _, _, _]) d_X_fill_85 rfl (by rw [show nI b + Int32.ofInt 1 = nI (b + 1) from nI_1 b, nI_iI]; congr 1; omega) (by decide) rfl rfl ?_
              refine ev_goto d_X_fill_88 ?_
              first
              | (rw [mset_mset, ← cX_i (show b < 6 by omega)]
                 exact ih (b + 1 + 1) _ (by omega) (by omega) (hF.up (by omega) (by omega) hv) (hR.up (by omega) hv) (fun q => ⟨fun _ => ((hCl q).1 (by omega)).up (by omega) (by omega) hv hv (by omega), fun b2 q1 q2 q3 => if h : b2 = b then h ▸ TF.at else ((hCl q).2 b2 (by omega) q2 q3).up (by omega) (by omega) hv hv (by omega)⟩) (fun _ => hsv))
              | exact ih (b + 1 + 1) tb (by omega) (by omega) hF hR (fun q => ⟨fun _ => (hCl q).1 (by omega), fun b2 q1 q2 q3 => if h : b2 = b then absurd q3 (by rw [h, c_53]; decide) else (hCl q).2 b2 (by omega) q2 q3⟩) (fun _ => hsv)
            ·
              have c_53 := b2_f c_53
              refine ev_goto d_X_fill_56 ?_
              refine ev_iinc (v := (iI (((b + 1 + 1 : Nat) : Int) - 1))) (ls' := [_, _, _, _, _]) d_X_fill_85 rfl (by rw [show nI b + Int32.ofInt 1 = nI (b + 1) from nI_1 b, nI_iI]; congr 1; omega) (by decide) rfl rfl ?_
              refine ev_goto d_X_fill_88 ?_
              first
              | (rw [mset_mset, ← cX_i (show b < 6 by omega)]
                 exact ih (b + 1 + 1) _ (by omega) (by omega) (hF.up (by omega) (by omega) hv) (hR.up (by omega) hv) (fun q => ⟨fun _ => ((hCl q).1 (by omega)).up (by omega) (by omega) hv hv (by omega), fun b2 q1 q2 q3 => if h : b2 = b then h ▸ TF.at else ((hCl q).2 b2 (by omega) q2 q3).up (by omega) (by omega) hv hv (by omega)⟩) (fun _ => hsv))
              | exact ih (b + 1 + 1) tb (by omega) (by omega) hF hR (fun q => ⟨fun _ => (hCl q).1 (by omega), fun b2 q1 q2 q3 => if h : b2 = b then absurd q3 (by rw [h, c_53]; decide) else (hCl q).2 b2 (by omega) q2 q3⟩) (fun _ => hsv)
theorem sub_le {S u : Nat} (h : SubS S u) : u ≤ S := by
  rw [← sub_and.mpr h]; exact Nat.and_le_right
theorem lp_X_fill2b {s v : Nat} {Q : Oc → Nat → Mem → Prop} (hX : XM G n μ c lx ik tb0 tl ts lat) (hc : CfOK c) (hlx : LxOK c lx) (hS : S < 64) (hs : s ≤ c.st) (hv : v < 64) {tb : Nat → Int64} (hF : FinX c S tb (s + 1)) (hR : RowX c S tb s v) (hCl : SubS S v → CelX c S tb s v (c.mn + 1)) (hnext : ∀ tb, FinX c S tb (s + 1) → RowX c S tb s (v + 1) → Ev G k_X_fill (d + 4) 0 0 11 [some (.ref (G.1 + 0)), some (.int (nI S)), some (.int (nI s)), some (.int (nI (v + 1))), none] [] n (mset μ 18 (aJ 36736 tb)) Q) (hSm : S < 2 ^ c.mn := by assumption) : Ev G k_X_fill (d + 4) 0 0 91 [some (.ref (G.1 + 0)), some (.int (nI S)), some (.int (nI s)), some (.int (nI v)), none] [] n (mset μ 18 (aJ 36736 tb)) Q := by
  have hXt := hX.tab tb
  obtain ⟨hn, x0, x1, x2, x3, x4, x5, x11, x12, x18, x19, xi, xj⟩ := id hXt
  obtain ⟨⟨hst1, hst2⟩, hfr, hpn, hpp, hmn, hwd, hnd, hpu, hnr, hbr, hle, hdef⟩ := id hc
  refine ev_iload_n d_X_fill_91 rfl rfl ?_
  refine ev_iload_n d_X_fill_92 rfl rfl ?_
  refine ev_iconst (v := (iI ((-1)))) d_X_fill_93 (by decide) ?_
  refine ev_ixor d_X_fill_94 ?_
  refine ev_iand d_X_fill_95 ?_
  refine ev_if_ne d_X_fill_96 (fun c_96 => ?_) (fun c_96 => ?_)
  ·
    have c_96 := sub_no hv hS c_96
    refine ev_iinc (v := (nI (v + 1))) (ls' := [_, _, _, _, none]) d_X_fill_121 rfl (nI_1 _) (by decide) rfl rfl ?_
    refine ev_goto d_X_fill_124 ?_
    first
    | (rw [mset_mset, ← cX_7]
       refine hnext _ (hF.up (by omega) (by omega) hv) (fun b1 u1 q1 q3 q4 q5 q6 => ?_)
       rcases Nat.lt_or_ge u1 v with h | h
       · exact (hR b1 u1 h q3 q4 q5 q6).up q3 (by omega) q4 hv (by omega)
       · have : u1 = v := by omega
         subst this
         by_cases h7 : b1 = 7
         · subst h7; exact TF.at
         · refine TF.up ?_ q3 (by omega) q4 hv (by omega)
           by_cases h6 : b1 = 6
           · subst h6; exact (hCl q5).1 (by omega)
           · refine (hCl q5).2 b1 ?_ (by omega) (q6 (by omega))
             have hbl : b1 < c.mn := by
               rcases Nat.lt_or_ge b1 c.mn with h | h
               · exact h
               · have hb := q5 b1 (q6 (by omega))
                 rw [Nat.testBit_lt_two_pow (Nat.lt_of_lt_of_le hSm (Nat.pow_le_pow_right (by omega) h))] at hb
                 cases hb
             omega)
    | (refine hnext tb hF (fun b1 u1 q1 q3 q4 q5 q6 => ?_)
       rcases Nat.lt_or_ge u1 v with h | h
       · exact hR b1 u1 h q3 q4 q5 q6
       · have : u1 = v := by omega
         subst this
         exact absurd q5 c_96)
  ·
    have c_96 := sub_ok hv hS c_96
    refine ev_aload_n d_X_fill_99 rfl rfl ?_
    refine ev_getf (kf := 10) (T := F_X) (C := R_X) (N := 14) (v := .ref (G.1 + 18)) d_X_fill_100 fl_X_34 rfl i_X (by decide) (by omega) x0 rfl ?_
    refine ev_iload_n d_X_fill_103 rfl rfl ?_
    refine ev_iload_n d_X_fill_104 rfl rfl ?_
    refine ev_bipush (v := (nI (6))) d_X_fill_105 (by decide) ?_
    refine ev_iconst (v := (nI (1))) d_X_fill_107 (by decide) ?_
    refine cs (k' := k_X_cell) (As := [.int (nI (s)), .int (nI (v)), .int (nI (6)), .int (nI (1))]) (stk := [.ref (G.1 + 18)]) d_X_fill_108 ml_X_133 kk_X_cell rfl rfl (Nat.le_of_ble_eq_true rfl) (ct_X_cell (d := d + 3) s v 6 1) (rd ?_)
    refine ev_aload_n d_X_fill_111 rfl rfl ?_
    refine ev_iload_n d_X_fill_112 rfl rfl ?_
    refine ev_iload_n d_X_fill_113 rfl rfl ?_
    refine ev_iconst (v := (iI ((-1)))) d_X_fill_114 (by decide) ?_
    refine ev_iconst (v := (nI (1))) d_X_fill_115 (by decide) ?_
    refine ev_iload_n d_X_fill_116 rfl rfl ?_
    refine cv (k' := k_X_reckon) (As := [.int (nI (s)), .int (nI (v)), .int (iI ((-1))), .int (nI (1)), .int (nI (S))]) (stk := [.int (nI (((s * 64 + v) * 7 + 6) * 2 + 1)), .ref (G.1 + 18)]) d_X_fill_117 ml_X_159 kk_X_reckon rfl rfl (Nat.le_of_ble_eq_true rfl) (by omega) x0 rfl rfl (ct_X_reckon_7 (d := d) (nx := DvB c S) hs hv hS c_96 hF.tb (DvB_bnd hc S) hlx hXt hc) (rd ?_)
    refine ev_topl (w := tvk (DvS c S s 7 v)) (by rw [DvB_eq hc hs]) ?_
    refine ev_last (j := ((s * 64 + v) * 7 + 6) * 2 + 1) d_X_fill_120 (by omega) x18 (by omega) (by decide) ?_
    refine ev_iinc (v := (nI (v + 1))) (ls' := [_, _, _, _, none]) d_X_fill_121 rfl (nI_1 _) (by decide) rfl rfl ?_
    refine ev_goto d_X_fill_124 ?_
    first
    | (rw [mset_mset, ← cX_7]
       refine hnext _ (hF.up (by omega) (by omega) hv) (fun b1 u1 q1 q3 q4 q5 q6 => ?_)
       rcases Nat.lt_or_ge u1 v with h | h
       · exact (hR b1 u1 h q3 q4 q5 q6).up q3 (by omega) q4 hv (by omega)
       · have : u1 = v := by omega
         subst this
         by_cases h7 : b1 = 7
         · subst h7; exact TF.at
         · refine TF.up ?_ q3 (by omega) q4 hv (by omega)
           by_cases h6 : b1 = 6
           · subst h6; exact (hCl q5).1 (by omega)
           · refine (hCl q5).2 b1 ?_ (by omega) (q6 (by omega))
             have hbl : b1 < c.mn := by
               rcases Nat.lt_or_ge b1 c.mn with h | h
               · exact h
               · have hb := q5 b1 (q6 (by omega))
                 rw [Nat.testBit_lt_two_pow (Nat.lt_of_lt_of_le hSm (Nat.pow_le_pow_right (by omega) h))] at hb
                 cases hb
             omega)
    | (refine hnext tb hF (fun b1 u1 q1 q3 q4 q5 q6 => ?_)
       rcases Nat.lt_or_ge u1 v with h | h
       · exact hR b1 u1 h q3 q4 q5 q6
       · have : u1 = v := by omega
         subst this
         exact absurd q5 c_96)
theorem lp_X_fill2 {s : Nat} {Q : Oc → Nat → Mem → Prop} (hX : XM G n μ c lx ik tb0 tl ts lat) (hc : CfOK c) (hlx : LxOK c lx) (hS : S < 64) (hSm : S < 2 ^ c.mn) (hs : s ≤ c.st) (hexit : ∀ tb, FinX c S tb s → Ev G k_X_fill (d + 4) 0 0 127 [some (.ref (G.1 + 0)), some (.int (nI S)), some (.int (nI s)), none, none] [] n (mset μ 18 (aJ 36736 tb)) Q) : ∀ (m v : Nat) (tb : Nat → Int64), v ≤ 2 ^ c.mn → 2 ^ c.mn < v + m → FinX c S tb (s + 1) → RowX c S tb s v → Ev G k_X_fill (d + 4) 0 0 11 [some (.ref (G.1 + 0)), some (.int (nI S)), some (.int (nI s)), some (.int (nI v)), none] [] n (mset μ 18 (aJ 36736 tb)) Q := by
  intro m
  induction m with
  | zero =>
    intro v tb h1 h2
    exact absurd h2 (by omega)
  | succ m ih =>
    intro v tb hi him hF hR
    have hXt := hX.tab tb
    obtain ⟨hn, x0, x1, x2, x3, x4, x5, x11, x12, x18, x19, xi, xj⟩ := id hXt
    obtain ⟨⟨hst1, hst2⟩, hfr, hpn, hpp, hmn, hwd, hnd, hpu, hnr, hbr, hle, hdef⟩ := id hc
    have hpw : 2 ^ c.mn ≤ 64 := Nat.pow_le_pow_right (n := 2) (by omega) hmn
    refine ev_iload_n d_X_fill_11 rfl rfl ?_
    refine ev_iconst (v := (nI (1))) d_X_fill_12 (by decide) ?_
    refine ev_aload_n d_X_fill_13 rfl rfl ?_
    refine ev_getf (kf := 5) (T := F_X) (C := R_X) (N := 14) (v := .int (nI (c.mn))) d_X_fill_14 fl_X_81 rfl i_X (by decide) (by omega) x0 rfl ?_
    refine ev_ishl d_X_fill_17 ?_
    refine ev_topi (w := (nI (2 ^ c.mn))) (bit_shl c.mn (by omega)) ?_
    refine ev_icmp_ge d_X_fill_18 (fun c_18 => ?_) (fun c_18 => ?_)
    ·
      simp (disch := omega) only [nI_ltI, nI_leI, nI_eq, Nat.not_lt, Nat.not_le] at c_18
      refine Ev.fg [true, true, true, false, false] rfl (hexit tb fun s1 b1 u1 q1 q2 q3 q4 q5 q6 => ?_)
      rcases Nat.lt_or_ge s s1 with h | h
      · exact hF s1 b1 u1 h q2 q3 q4 q5 q6
      · have : s1 = s := by omega
        subst this
        refine hR b1 u1 ?_ q3 q4 q5 q6
        have hle := sub_le q5
        omega
    ·
      simp (disch := omega) only [nI_ltI, nI_leI, nI_eq, Nat.not_lt, Nat.not_le] at c_18
      refine ev_iconst (v := (iI ((-1)))) d_X_fill_21 (by decide) ?_
      refine ev_istore (ls' := [_, _, _, _, _]) d_X_fill_22 (by decide) rfl rfl ?_
      refine lp_X_fill3 hX hc hlx hS hs (by omega) (fun tb hF hR hCl => ?_) (c.mn + 2) 0 tb (by omega) (by omega) hF hR (fun _ => ⟨fun q => by omega, fun b q1 => by omega⟩) (fun q => by omega)
      exact lp_X_fill2b hX hc hlx hS hs (by omega) hF hR hCl (fun tb hF hR => ih (v + 1) tb (by omega) (by omega) hF hR)
theorem lp_X_fill1b {s : Nat} {Q : Oc → Nat → Mem → Prop} {tb : Nat → Int64} (hX : XM G n μ c lx ik tb0 tl ts lat) (hs : s ≤ 40) (h : Ev G k_X_fill (d + 4) 0 0 5 [some (.ref (G.1 + 0)), some (.int (nI S)), some (.int (iI ((s : Int) - 1))), none, none] [] n (mset μ 18 (aJ 36736 tb)) Q) : Ev G k_X_fill (d + 4) 0 0 127 [some (.ref (G.1 + 0)), some (.int (nI S)), some (.int (nI s)), none, none] [] n (mset μ 18 (aJ 36736 tb)) Q := by
  refine ev_iinc (v := (iI ((s : Int) - 1))) (ls' := [_, _, _, none, none]) d_X_fill_127 rfl (by rw [nI_iI, show Int32.ofInt (-1) = iI (-1) from rfl, iI_add]; rfl) (by decide) rfl rfl ?_
  refine ev_goto d_X_fill_130 ?_
  exact h
theorem lp_X_fill1 (hX : XM G n μ c lx ik tb0 tl ts lat) (hc : CfOK c) (hlx : LxOK c lx) (hS : S < 64) (hSm : S < 2 ^ c.mn) : ∀ (m : Nat) (tb : Nat → Int64), m ≤ c.st + 1 → FinX c S tb m → Ev G k_X_fill (d + 4) 0 0 5 [some (.ref (G.1 + 0)), some (.int (nI S)), some (.int (iI ((m : Int) - 1))), none, none] [] n (mset μ 18 (aJ 36736 tb)) (fun (o : Oc) (n' : Nat) (μ' : Mem) => o = .inl none ∧ n' = n ∧ ∃ tb', μ' = mset μ 18 (aJ 36736 tb') ∧ FinX c S tb' 0) := by
  generalize hQ : (fun (o : Oc) (n' : Nat) (μ' : Mem) => o = .inl none ∧ n' = n ∧ ∃ tb', μ' = mset μ 18 (aJ 36736 tb') ∧ FinX c S tb' 0) = Q
  intro m
  induction m with
  | zero =>
    intro tb hi hF
    have hXt := hX.tab tb
    obtain ⟨hn, x0, x1, x2, x3, x4, x5, x11, x12, x18, x19, xi, xj⟩ := id hXt
    obtain ⟨⟨hst1, hst2⟩, hfr, hpn, hpp, hmn, hwd, hnd, hpu, hnr, hbr, hle, hdef⟩ := id hc
    refine ev_iload_n d_X_fill_5 rfl rfl ?_
    refine ev_if_lt d_X_fill_6 (fun c_6 => ?_) (fun c_6 => ?_)
    ·
      skip
      refine ev_return d_X_fill_133 rfl ?_
      subst hQ
      exact ⟨rfl, rfl, tb, rfl, hF⟩
    ·
      skip
      exact absurd (by decide) c_6
  | succ s ih =>
    intro tb hi hF
    have hXt := hX.tab tb
    obtain ⟨hn, x0, x1, x2, x3, x4, x5, x11, x12, x18, x19, xi, xj⟩ := id hXt
    obtain ⟨⟨hst1, hst2⟩, hfr, hpn, hpp, hmn, hwd, hnd, hpu, hnr, hbr, hle, hdef⟩ := id hc
    rw [show iI (((s + 1 : Nat) : Int) - 1) = nI s from by rw [nI_iI]; congr 1; omega]
    refine ev_iload_n d_X_fill_5 rfl rfl ?_
    refine ev_if_lt d_X_fill_6 (fun c_6 => ?_) (fun c_6 => ?_)
    ·
      skip
      exact absurd c_6 (nI_pos (by omega))
    ·
      skip
      refine ev_iconst (v := (nI (0))) d_X_fill_9 (by decide) ?_
      refine ev_istore_n (ls' := [_, _, _, _, none]) d_X_fill_10 rfl (by decide) rfl rfl ?_
      refine lp_X_fill2 hX hc hlx hS hSm (by omega) (fun tb hF => ?_) (2 ^ c.mn + 1) 0 tb (by omega) (by omega) hF (fun b u q => by omega)
      exact lp_X_fill1b hX (by omega) (ih tb (by omega) hF)
theorem ct_X_fill (hX : XM G n μ c lx ik tb0 tl ts lat) (hc : CfOK c) (hlx : LxOK c lx) (hS : S < 64) (hSm : S < 2 ^ c.mn) : Ct G k_X_fill (d + 4) 0 0 [.ref (G.1 + 0), .int (nI S)] n μ (fun (o : Oc) (n' : Nat) (μ' : Mem) => o = .inl none ∧ n' = n ∧ ∃ tb', μ' = mset μ 18 (aJ 36736 tb') ∧ FinX c S tb' 0) := by
  obtain ⟨hn, x0, x1, x2, x3, x4, x5, x11, x12, x18, x19, xi, xj⟩ := id hX
  obtain ⟨⟨hst1, hst2⟩, hfr, hpn, hpp, hmn, hwd, hnd, hpu, hnr, hbr, hle, hdef⟩ := id hc
  refine Ct.ofp (r := 3) (ls := [some (.ref (G.1 + 0)), some (.int (nI (S))), none, none, none]) rfl (Nat.le_of_ble_eq_true rfl) ?_
  refine ev_aload_n d_X_fill_0 rfl rfl ?_
  refine ev_getf (kf := 0) (T := F_X) (C := R_X) (N := 14) (v := .int (nI (c.st))) d_X_fill_1 fl_X_50 rfl i_X (by decide) (by omega) x0 rfl ?_
  refine ev_istore_n (ls' := [_, _, _, none, none]) d_X_fill_4 rfl (by decide) rfl rfl ?_
  have h := lp_X_fill1 (d := d) hX hc hlx hS hSm (c.st + 1) tb0 (by omega) (fun s b u q1 q2 => by omega)
  rw [mset_self x18, show iI (((c.st + 1 : Nat) : Int) - 1) = nI c.st from by rw [nI_iI]; congr 1; omega] at h
  exact h
end FI
