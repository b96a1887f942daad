/-! ===== the model's table ===== -/
def mI (s b u : Nat) : Nat := 512 * s + 64 * b + u
theorem mI_inj {s b u s' b' u' : Nat} (hb : b ≤ 7) (hb' : b' ≤ 7) (hu : u < 64) (hu' : u' < 64) (h : mI s b u = mI s' b' u') : s = s' ∧ b = b' ∧ u = u' := by
  unfold mI at h; omega
def MeOK (c : Cf) (me : Nat → Int32) (E : Nat → Bool) : Prop := ∀ u, u < 2 ^ c.mn → me u = b2 (E u)
def TE (c : Cf) (E : Nat → Bool) (bw bk : Nat → Int64) (s b u : Nat) : Prop := bw (mI s b u) = wv (Dv c Tt E s b u) ∧ bk (mI s b u) = cv' (Dv c Tt E s b u)
def MFin (c : Cf) (E : Nat → Bool) (bw bk : Nat → Int64) (k : Nat) : Prop := ∀ s b u, k ≤ s → s ≤ c.st → b ≤ 7 → u < 2 ^ c.mn → TE c E bw bk s b u
theorem Dv_cb {c : Cf} {A E : Nat → Bool} (hc : CfOK c) {s b u : Nat} (hs : s ≤ c.st) : ∀ p, Dv c A E s b u = some p → p.2 ≤ 100000 * (40 - s) := fun p h => by
  refine Dv_ind (A := A) (E := E) hc (fun s b u p => s ≤ c.st → p.2 ≤ 100000 * (40 - s)) ?_ ?_ ?_ ?_ (c.st + 1) s b u p hs (by omega) h hs
  · intro b u _ _; exact Nat.zero_le _
  · intro s b u p hf _ ih hs
    have := bf_lt hc hf
    exact Nat.le_trans (ih (bf_le hc hs).2) (Nat.mul_le_mul_left _ (by omega))
  · intro s b u i p hs hf hi hk _ ih _
    have a1 := opn_le (okI_s hk).2.2.1
    have a2 := hc.2.2.2.2.2.1 i hi
    have a3 := ih a1
    have a4 := hc.1.2
    have h6 : 100000 * (40 - (s + c.wd i)) + 100000 ≤ 100000 * (40 - s) := by
      rw [← Nat.mul_succ]; exact Nat.mul_le_mul_left _ (by omega)
    simp only; omega
  · intro s b u n p hs hf _ _ _ ho _ ih _
    exact Nat.le_trans (ih (opn_le ho)) (Nat.mul_le_mul_left _ (by omega))
theorem Dv_kb {c : Cf} {A E : Nat → Bool} (hc : CfOK c) {s b u : Nat} (hs : s ≤ c.st) : ∀ p, Dv c A E s b u = some p → p.1 ≤ 8000000 ∧ p.2 ≤ 4000000 := fun p h => by
  have h1 := Dv_bnd hc _ s b u p hs h
  have h2 := Dv_cb hc hs p h
  omega
theorem Dv_KvB {c : Cf} {A E : Nat → Bool} (hc : CfOK c) {s b u : Nat} (hs : s ≤ c.st) : KvB (Dv c A E s b u) := fun p h => by
  have := Dv_kb hc hs p h; omega
theorem nbW_le {c : Cf} (hc : CfOK c) (b i : Nat) : nbW c b i ≤ 100000 := by
  unfold nbW; split
  · exact (hc.2.2.2.2.2.2.2.2.1 b i).1
  · omega
theorem DBi_KvB {c : Cf} {E : Nat → Bool} (hc : CfOK c) {s b u m : Nat} (hm : m ≤ c.mn) : KvB (DBi c Tt (Dv c Tt E) s b u m) := fun p h => by
  obtain ⟨i, hi, hk, q⟩ := DBi_at m h
  obtain ⟨x, hx, e⟩ := kadd_some q
  have h1 := Dv_kb hc (opn_le (okI_s hk).2.2.1) x hx
  have h2 := hc.2.2.2.2.2.1 i (by omega)
  have h3 := nbW_le hc b i
  rw [e]; simp only; omega
theorem DBf_KvB {c : Cf} {E : Nat → Bool} (hc : CfOK c) {s b u m : Nat} : KvB (DBf c (Dv c Tt E) s b u (DBi c Tt (Dv c Tt E) s b u c.mn) m) := fun p h => by
  rcases DBf_at m h with q | ⟨_, j, hj, ho, q⟩
  · exact DBi_KvB hc (Nat.le_refl _) p q
  · have := Dv_kb hc (opn_le ho) p q; omega
theorem DBf_stop {c : Cf} {nx : Nat → Nat → Nat → Kv} {s b u : Nat} {a : Kv} {j : Nat} (h : ∀ j', j ≤ j' → (!decide (b = 7) && opn c s (c.le + j')) = false) : ∀ m, DBf c nx s b u a (j + m) = DBf c nx s b u a j
  | 0 => rfl
  | m + 1 => by
    show DBf c nx s b u a (j + m + 1) = _
    simp only [DBf]
    rw [if_neg (by rw [h (j + m) (by omega)]; decide)]
    exact DBf_stop h m
theorem kadd_0 (o : Kv) : kadd o 0 0 = o := by cases o <;> rfl
theorem kmax_0 (o : Kv) : kmax none o = o := by cases o <;> rfl
theorem TE.up {c : Cf} {E : Nat → Bool} {bw bk : Nat → Int64} {s b u s' b' u' : Nat} {x y : Int64} (h : TE c E bw bk s b u) (hb : b ≤ 7) (hb' : b' ≤ 7) (hu : u < 64) (hu' : u' < 64) (hne : ¬ (s = s' ∧ b = b' ∧ u = u')) : TE c E (vp_updL bw (mI s' b' u') x) (vp_updL bk (mI s' b' u') y) s b u := by
  unfold TE
  rw [upL_ne _ _ (fun q => hne (mI_inj hb hb' hu hu' q)), upL_ne _ _ (fun q => hne (mI_inj hb hb' hu hu' q))]
  exact h
theorem TE.at {c : Cf} {E : Nat → Bool} {bw bk : Nat → Int64} {s b u : Nat} : TE c E (vp_updL bw (mI s b u) (wv (Dv c Tt E s b u))) (vp_updL bk (mI s b u) (cv' (Dv c Tt E s b u))) s b u := ⟨upL_at _ _ _, upL_at _ _ _⟩
section MFI
variable {G : Gm} {d n : Nat} {μ : Mem} {c : Cf} {cd : Nat} {hp : Bool} {tl pc : Nat} {pw pn : Int64} {bw bk : Nat → Int64} {me cl mt ts pit pat psz : Nat → Int32} {E : Nat → Bool}
theorem lp_M_fillAtI {Q : Oc → Nat → Mem → Prop} {s b u : Nat} (hs : s ≤ c.st) (hb : b ≤ 7) (hu : u < 2 ^ c.mn) (hMe : MeOK c me E) (hL : LkC c cl 0) (hT : LkM c mt 0) (hFin : MFin c E bw bk (s + 1)) (hn : 41 ≤ n) (hc : CfOK c) (hK : ∀ ν, ML ν (mmL G c cd hp tl pc pw pn (vp_updL bw (512 * s + 64 * b + u) (wv (DBi c Tt (Dv c Tt E) s b u c.mn))) (vp_updL bk (512 * s + 64 * b + u) (cv' (DBi c Tt (Dv c Tt E) s b u c.mn))) me cl mt ts pit pat psz) → FrM ν μ → Ev G k_M_fillAt (d + 2) 0 0 161 [some (.ref (G.1 + 20)), some (.int (nI (s))), some (.int (nI (b))), some (.int (nI (u))), some (.int (nI (512 * s + 64 * b + u))), none] [] n ν Q) : ∀ (m i : Nat) (ν : Mem), i ≤ c.mn → c.mn < i + m → ML ν (mmL G c cd hp tl pc pw pn (vp_updL bw (512 * s + 64 * b + u) (wv (DBi c Tt (Dv c Tt E) s b u i))) (vp_updL bk (512 * s + 64 * b + u) (cv' (DBi c Tt (Dv c Tt E) s b u i))) me cl mt ts pit pat psz) → FrM ν μ → Ev G k_M_fillAt (d + 2) 0 0 94 [some (.ref (G.1 + 20)), some (.int (nI (s))), some (.int (nI (b))), some (.int (nI (u))), some (.int (nI (512 * s + 64 * b + u))), some (.int (nI (i)))] [] n ν Q := by
  obtain ⟨⟨hst1, hst2⟩, hfr, hpn, hpp, hmn, hwd, hnd, hpu, hnr, hbr, hle, hdef⟩ := id hc
  have hpw : 2 ^ c.mn ≤ 64 := Nat.pow_le_pow_right (n := 2) (by omega) hmn
  intro m
  induction m with
  | zero =>
    intro i ν h1 h2
    exact absurd h2 (by omega)
  | succ m ih =>
    intro i ν hi him hM hF
    refine ev_iload d_M_fillAt_94 rfl ?_
    refine ev_aload_n d_M_fillAt_96 rfl rfl ?_
    refine ev_getf (kf := 5) (T := F_M) (C := R_M) (N := 30) (v := .int (nI (c.mn))) d_M_fillAt_97 fl_M_97 rfl i_M (by decide) (by omega) (hM 0 _ rfl) rfl ?_
    refine ev_icmp_ge d_M_fillAt_100 (fun c_100 => ?_) (fun c_100 => ?_)
    ·
      simp (disch := omega) only [nI_ltI, nI_leI, nI_eq, Nat.not_lt, Nat.not_le] at c_100
      have hi2 : i = c.mn := by omega
      subst hi2
      exact Ev.fg [true, true, true, true, true, false] rfl (hK ν hM hF)
    ·
      simp (disch := omega) only [nI_ltI, nI_leI, nI_eq, Nat.not_lt, Nat.not_le] at c_100
      refine ev_aload_n d_M_fillAt_103 rfl rfl ?_
      refine ev_iload d_M_fillAt_104 rfl ?_
      refine ev_iload_n d_M_fillAt_106 rfl rfl ?_
      refine ev_iload_n d_M_fillAt_107 rfl rfl ?_
      refine ev_iload_n d_M_fillAt_108 rfl rfl ?_
      refine cv (mc' := 0) (ms' := 0) (k' := k_M_mayStand) (As := [.int (nI (i)), .int (nI (s)), .int (nI (b)), .int (nI (u))]) (stk := []) d_M_fillAt_109 ml_M_134 kk_M_mayStand rfl rfl (Nat.le_of_ble_eq_true rfl) (by omega) (hM 0 _ rfl) rfl rfl (ct_M_mayStand (d := d) c_100 hs hb (by omega) hL hT hn hM hc) (rd ?_)
      refine ev_if_eq d_M_fillAt_112 (fun c_112 => ?_) (fun c_112 => ?_)
      ·
        have c_112 := b2_f c_112
        refine ev_iinc (v := (nI (i + 1))) (ls' := [_, _, _, _, _, _]) d_M_fillAt_155 rfl (nI_1 _) (by decide) rfl rfl ?_
        refine ev_goto d_M_fillAt_158 ?_
        rw [show DBi c Tt (Dv c Tt E) s b u i = DBi c Tt (Dv c Tt E) s b u (i + 1) from by simp only [DBi]; rw [if_neg (by rw [c_112]; decide)]] at hM
        exact ih (i + 1) ν (by omega) (by omega) hM hF
      ·
        have c_112 := b2_t c_112
        have hwi := hwd i c_100
        have hop := opn_le (okI_s c_112).2.2.1
        have hul : u ||| 2 ^ i < 2 ^ c.mn := Nat.or_lt_two_pow hu (Nat.pow_lt_pow_right (by omega) c_100)
        have hte := hFin (s + c.wd i) i (u ||| 2 ^ i) (by omega) hop (by omega) hul
        have hnb := nbW_le hc b i
        refine ev_aload_n d_M_fillAt_115 rfl rfl ?_
        refine ev_iload d_M_fillAt_116 rfl ?_
        refine ev_iload_n d_M_fillAt_118 rfl rfl ?_
        refine ev_aload_n d_M_fillAt_119 rfl rfl ?_
        refine ev_getf (kf := 6) (T := F_M) (C := R_M) (N := 30) (v := .ref (G.1 + 23)) d_M_fillAt_120 fl_M_17 rfl i_M (by decide) (by omega) (hM 0 _ rfl) rfl ?_
        refine ev_iload d_M_fillAt_123 rfl ?_
        refine ev_iald (j := i) d_M_fillAt_125 (by omega) (hM 3 _ rfl) (by omega) (by decide) ?_
        refine ev_iadd d_M_fillAt_126 ?_
        refine ev_topi (w := (nI (s + (c.wd i)))) (nI_add _ _) ?_
        refine ev_iload d_M_fillAt_127 rfl ?_
        refine ev_iload_n d_M_fillAt_129 rfl rfl ?_
        refine ev_iconst (v := (nI (1))) d_M_fillAt_130 (by decide) ?_
        refine ev_iload d_M_fillAt_131 rfl ?_
        refine ev_ishl d_M_fillAt_133 ?_
        refine ev_ior d_M_fillAt_134 ?_
        refine ev_topi (w := (nI (u ||| 2 ^ i))) (bit_or u (by omega) i (by omega)) ?_
        refine cs (mc' := 0) (ms' := 0) (k' := k_M_index) (As := [.int (nI (s + (c.wd i))), .int (nI (i)), .int (nI (u ||| 2 ^ i))]) (stk := [.int (nI (512 * s + 64 * b + u)), .ref (G.1 + 20)]) d_M_fillAt_135 ml_M_122 kk_M_index rfl rfl (Nat.le_of_ble_eq_true rfl) (ct_M_index (d := d + 1) (s + c.wd i) i (u ||| 2 ^ i)) (rd ?_)
        refine ev_aload_n d_M_fillAt_138 rfl rfl ?_
        refine ev_iload d_M_fillAt_139 rfl ?_
        refine ev_iload_n d_M_fillAt_141 rfl rfl ?_
        refine cv (mc' := 0) (ms' := 0) (k' := k_M_worthBehind) (As := [.int (nI (i)), .int (nI (b))]) (stk := [.int (nI (512 * (s + c.wd i) + 64 * i + (u ||| 2 ^ i))), .int (nI (512 * s + 64 * b + u)), .ref (G.1 + 20)]) d_M_fillAt_142 ml_M_138 kk_M_worthBehind rfl rfl (Nat.le_of_ble_eq_true rfl) (by omega) (hM 0 _ rfl) rfl rfl (ct_M_worthBehind (d := d + 1) c_100 hb hn hM hc) (rd ?_)
        refine ev_aload_n d_M_fillAt_145 rfl rfl ?_
        refine ev_getf (kf := 8) (T := F_M) (C := R_M) (N := 30) (v := .ref (G.1 + 25)) d_M_fillAt_146 fl_M_24 rfl i_M (by decide) (by omega) (hM 0 _ rfl) rfl ?_
        refine ev_iload d_M_fillAt_149 rfl ?_
        refine ev_lald (j := i) d_M_fillAt_151 (by omega) (hM 5 _ rfl) (by omega) (by decide) ?_
        refine cv (mc' := 0) (ms' := 0) (k' := k_M_choose) (As := [.int (nI (512 * s + 64 * b + u)), .int (nI (512 * (s + c.wd i) + 64 * i + (u ||| 2 ^ i))), .long (lN (c.wo i + nbW c b i)), .long (lN (c.ce i))]) (stk := []) d_M_fillAt_152 ml_M_130 kk_M_choose rfl rfl (Nat.le_of_ble_eq_true rfl) (by omega) (hM 0 _ rfl) rfl rfl (ct_M_choose (d := d + 1) (to := 512 * s + 64 * b + u) (fr := 512 * (s + c.wd i) + 64 * i + (u ||| 2 ^ i)) (w := c.wo i + nbW c b i) (ct := c.ce i) (A := DBi c Tt (Dv c Tt E) s b u i) (F := Dv c Tt E (s + c.wd i) i (u ||| 2 ^ i)) (by omega) (by omega) (by omega) (by omega) (DBi_KvB hc (by omega)) (Dv_KvB hc hop) (upL_at _ _ _) (upL_at _ _ _) ((upL_ne _ _ (by omega)).trans hte.1) ((upL_ne _ _ (by omega)).trans hte.2) hn hM hc) (af fun n1 ν hq => ?_)
        obtain ⟨hn1, hM, hf⟩ := hq
        subst n1
        rw [upL_upL, upL_upL] at hM
        have hF := frT hf hF
        rw [show kmax (DBi c Tt (Dv c Tt E) s b u i) (kadd (Dv c Tt E (s + c.wd i) i (u ||| 2 ^ i)) (c.wo i + nbW c b i) (c.ce i)) = DBi c Tt (Dv c Tt E) s b u (i + 1) from by simp only [DBi]; rw [if_pos c_112]] at hM
        refine ev_iinc (v := (nI (i + 1))) (ls' := [_, _, _, _, _, _]) d_M_fillAt_155 rfl (nI_1 _) (by decide) rfl rfl ?_
        refine ev_goto d_M_fillAt_158 ?_
        exact ih (i + 1) ν (by omega) (by omega) hM hF
theorem lp_M_fillAtF {s b u : Nat} (hs : s ≤ c.st) (hb : b ≤ 7) (hu : u < 2 ^ c.mn) (hMe : MeOK c me E) (hL : LkC c cl 0) (hT : LkM c mt 0) (hFin : MFin c E bw bk (s + 1)) (hs2 : s < c.st) (hn : 41 ≤ n) (hc : CfOK c) : ∀ (m j : Nat) (ν : Mem), j ≤ c.mo + 1 - c.le → c.mo + 1 - c.le < j + m → ML ν (mmL G c cd hp tl pc pw pn (vp_updL bw (512 * s + 64 * b + u) (wv (DBf c (Dv c Tt E) s b u (DBi c Tt (Dv c Tt E) s b u c.mn) j))) (vp_updL bk (512 * s + 64 * b + u) (cv' (DBf c (Dv c Tt E) s b u (DBi c Tt (Dv c Tt E) s b u c.mn) j))) me cl mt ts pit pat psz) → FrM ν μ → Ev G k_M_fillAt (d + 2) 0 0 167 [some (.ref (G.1 + 20)), some (.int (nI (s))), some (.int (nI (b))), some (.int (nI (u))), some (.int (nI (512 * s + 64 * b + u))), some (.int (nI (c.le + j)))] [] n ν (MU G n μ (none) (mmL G c cd hp tl pc pw pn (vp_updL bw (512 * s + 64 * b + u) (wv (DBf c (Dv c Tt E) s b u (DBi c Tt (Dv c Tt E) s b u c.mn) (c.mo + 1 - c.le)))) (vp_updL bk (512 * s + 64 * b + u) (cv' (DBf c (Dv c Tt E) s b u (DBi c Tt (Dv c Tt E) s b u c.mn) (c.mo + 1 - c.le)))) me cl mt ts pit pat psz)) := by
  obtain ⟨⟨hst1, hst2⟩, hfr, hpn, hpp, hmn, hwd, hnd, hpu, hnr, hbr, hle, hdef⟩ := id hc
  have hpw : 2 ^ c.mn ≤ 64 := Nat.pow_le_pow_right (n := 2) (by omega) hmn
  have hcr := clr_le (c := c) (s := s) hs
  generalize hQ : (MU G n μ (none) (mmL G c cd hp tl pc pw pn (vp_updL bw (512 * s + 64 * b + u) (wv (DBf c (Dv c Tt E) s b u (DBi c Tt (Dv c Tt E) s b u c.mn) (c.mo + 1 - c.le)))) (vp_updL bk (512 * s + 64 * b + u) (cv' (DBf c (Dv c Tt E) s b u (DBi c Tt (Dv c Tt E) s b u c.mn) (c.mo + 1 - c.le)))) me cl mt ts pit pat psz)) = Q
  intro m
  induction m with
  | zero =>
    intro j ν h1 h2
    exact absurd h2 (by omega)
  | succ m ih =>
    intro j ν hj hjm hM hF
    refine ev_iload d_M_fillAt_167 rfl ?_
    refine ev_aload_n d_M_fillAt_169 rfl rfl ?_
    refine ev_getf (kf := 14) (T := F_M) (C := R_M) (N := 30) (v := .int (nI (c.mo))) d_M_fillAt_170 fl_M_112 rfl i_M (by decide) (by omega) (hM 0 _ rfl) rfl ?_
    refine ev_icmp_gt d_M_fillAt_173 (fun c_173 => ?_) (fun c_173 => ?_)
    ·
      simp (disch := omega) only [nI_ltI, nI_leI, nI_eq, Nat.not_lt, Nat.not_le] at c_173
      refine ev_return d_M_fillAt_217 rfl ?_
      subst hQ
      have e : DBf c (Dv c Tt E) s b u (DBi c Tt (Dv c Tt E) s b u c.mn) j = DBf c (Dv c Tt E) s b u (DBi c Tt (Dv c Tt E) s b u c.mn) (c.mo + 1 - c.le) := by
        rw [show c.mo + 1 - c.le = j by omega]
      rw [← e]
      exact ⟨rfl, rfl, hM, hF⟩
    ·
      simp (disch := omega) only [nI_ltI, nI_leI, nI_eq, Nat.not_lt, Nat.not_le] at c_173
      refine ev_iload d_M_fillAt_176 rfl ?_
      refine ev_aload_n d_M_fillAt_178 rfl rfl ?_
      refine ev_getf (kf := 19) (T := F_M) (C := R_M) (N := 30) (v := .ref (G.1 + 34)) d_M_fillAt_179 fl_M_51 rfl i_M (by decide) (by omega) (hM 0 _ rfl) rfl ?_
      refine ev_iload_n d_M_fillAt_182 rfl rfl ?_
      refine ev_iald (j := s) d_M_fillAt_183 (by omega) (hM 14 _ rfl) (by omega) (by decide) ?_
      refine ev_topi (w := nI (clr c s)) (hL s (by omega) hs) ?_
      refine ev_icmp_gt d_M_fillAt_184 (fun c_184 => ?_) (fun c_184 => ?_)
      ·
        simp (disch := omega) only [nI_ltI, nI_leI, nI_eq, Nat.not_lt, Nat.not_le] at c_184
        refine ev_return d_M_fillAt_217 rfl ?_
        subst hQ
        have e : DBf c (Dv c Tt E) s b u (DBi c Tt (Dv c Tt E) s b u c.mn) j = DBf c (Dv c Tt E) s b u (DBi c Tt (Dv c Tt E) s b u c.mn) (c.mo + 1 - c.le) := by
          rw [show c.mo + 1 - c.le = j + (c.mo + 1 - c.le - j) by omega]
          exact (DBf_stop (fun j' hj' => by rw [opn_clr hs, decide_eq_false (show ¬ c.le + j' ≤ clr c s by omega), Bool.and_false]) _).symm
        rw [← e]
        exact ⟨rfl, rfl, hM, hF⟩
      ·
        simp (disch := omega) only [nI_ltI, nI_leI, nI_eq, Nat.not_lt, Nat.not_le] at c_184
        refine ev_iload_n d_M_fillAt_187 rfl rfl ?_
        refine ev_bipush (v := (nI (7))) d_M_fillAt_188 (by decide) ?_
        refine ev_icmp_eq d_M_fillAt_190 (fun c_190 => ?_) (fun c_190 => ?_)
        ·
          simp (disch := omega) only [nI_ltI, nI_leI, nI_eq, Nat.not_lt, Nat.not_le] at c_190
          refine ev_return d_M_fillAt_217 rfl ?_
          subst hQ
          have e : DBf c (Dv c Tt E) s b u (DBi c Tt (Dv c Tt E) s b u c.mn) j = DBf c (Dv c Tt E) s b u (DBi c Tt (Dv c Tt E) s b u c.mn) (c.mo + 1 - c.le) := by
            rw [show c.mo + 1 - c.le = j + (c.mo + 1 - c.le - j) by omega]
            exact (DBf_stop (fun j' hj' => by rw [decide_eq_true c_190]; rfl) _).symm
          rw [← e]
          exact ⟨rfl, rfl, hM, hF⟩
        ·
          simp (disch := omega) only [nI_ltI, nI_leI, nI_eq, Nat.not_lt, Nat.not_le] at c_190
          have hte := hFin (s + (c.le + j)) 7 u (by omega) (by omega) (by omega) hu
          refine ev_aload_n d_M_fillAt_193 rfl rfl ?_
          refine ev_iload d_M_fillAt_194 rfl ?_
          refine ev_iload_n d_M_fillAt_196 rfl rfl ?_
          refine ev_iload d_M_fillAt_197 rfl ?_
          refine ev_iadd d_M_fillAt_199 ?_
          refine ev_topi (w := (nI (s + (c.le + j)))) (nI_add _ _) ?_
          refine ev_bipush (v := (nI (7))) d_M_fillAt_200 (by decide) ?_
          refine ev_iload_n d_M_fillAt_202 rfl rfl ?_
          refine cs (mc' := 0) (ms' := 0) (k' := k_M_index) (As := [.int (nI (s + (c.le + j))), .int (nI (7)), .int (nI (u))]) (stk := [.int (nI (512 * s + 64 * b + u)), .ref (G.1 + 20)]) d_M_fillAt_203 ml_M_122 kk_M_index rfl rfl (Nat.le_of_ble_eq_true rfl) (ct_M_index (d := d + 1) (s + (c.le + j)) 7 u) (rd ?_)
          refine ev_lconst (v := lN 0) d_M_fillAt_206 (by decide) ?_
          refine ev_lconst (v := lN 0) d_M_fillAt_207 (by decide) ?_
          refine cv (mc' := 0) (ms' := 0) (k' := k_M_choose) (As := [.int (nI (512 * s + 64 * b + u)), .int (nI (512 * (s + (c.le + j)) + 64 * 7 + u)), .long (lN (0)), .long (lN (0))]) (stk := []) d_M_fillAt_208 ml_M_130 kk_M_choose rfl rfl (Nat.le_of_ble_eq_true rfl) (by omega) (hM 0 _ rfl) rfl rfl (ct_M_choose (d := d + 1) (to := 512 * s + 64 * b + u) (fr := 512 * (s + (c.le + j)) + 64 * 7 + u) (w := 0) (ct := 0) (A := DBf c (Dv c Tt E) s b u (DBi c Tt (Dv c Tt E) s b u c.mn) j) (F := Dv c Tt E (s + (c.le + j)) 7 u) (by omega) (by omega) (by omega) (by omega) (DBf_KvB hc) (Dv_KvB hc (by omega)) (upL_at _ _ _) (upL_at _ _ _) ((upL_ne _ _ (by omega)).trans hte.1) ((upL_ne _ _ (by omega)).trans hte.2) hn hM hc) (af fun n1 ν hq => ?_)
          obtain ⟨hn1, hM, hf⟩ := hq
          subst n1
          rw [upL_upL, upL_upL] at hM
          have hF := frT hf hF
          rw [kadd_0, show kmax (DBf c (Dv c Tt E) s b u (DBi c Tt (Dv c Tt E) s b u c.mn) j) (Dv c Tt E (s + (c.le + j)) 7 u) = DBf c (Dv c Tt E) s b u (DBi c Tt (Dv c Tt E) s b u c.mn) (j + 1) from by simp only [DBf]; rw [if_pos (by rw [opn_clr hs, decide_eq_true (show c.le + j ≤ clr c s by omega), decide_eq_false c_190]; rfl)]] at hM
          refine ev_iinc (v := (nI (c.le + (j + 1)))) (ls' := [_, _, _, _, _, _]) d_M_fillAt_211 rfl (by rw [show nI (c.le + j) + Int32.ofInt 1 = nI (c.le + j + 1) from nI_1 _, Nat.add_assoc]) (by decide) rfl rfl ?_
          refine ev_goto d_M_fillAt_214 ?_
          exact ih (j + 1) ν (by omega) (by omega) hM hF
theorem lp_M_fillAtG {Q : Oc → Nat → Mem → Prop} {s b u : Nat} {bw' bk' : Nat → Int64} {ν : Mem} (hn : 41 ≤ n) (hM : ML ν (mmL G c cd hp tl pc pw pn (bw') (bk') me cl mt ts pit pat psz)) (hc : CfOK c) (h : Ev G k_M_fillAt (d + 2) 0 0 167 [some (.ref (G.1 + 20)), some (.int (nI (s))), some (.int (nI (b))), some (.int (nI (u))), some (.int (nI (512 * s + 64 * b + u))), some (.int (nI (c.le + 0)))] [] n ν Q) : Ev G k_M_fillAt (d + 2) 0 0 161 [some (.ref (G.1 + 20)), some (.int (nI (s))), some (.int (nI (b))), some (.int (nI (u))), some (.int (nI (512 * s + 64 * b + u))), none] [] n ν Q := by
  refine ev_aload_n d_M_fillAt_161 rfl rfl ?_
  refine ev_getf (kf := 13) (T := F_M) (C := R_M) (N := 30) (v := .int (nI (c.le))) d_M_fillAt_162 fl_M_73 rfl i_M (by decide) (by omega) (hM 0 _ rfl) rfl ?_
  refine ev_istore (ls' := [_, _, _, _, _, _]) d_M_fillAt_165 (by decide) rfl rfl ?_
  exact h
theorem ct_M_fillAt {s b u : Nat} (hs : s ≤ c.st) (hb : b ≤ 7) (hu : u < 2 ^ c.mn) (hMe : MeOK c me E) (hL : LkC c cl 0) (hT : LkM c mt 0) (hFin : MFin c E bw bk (s + 1)) (hn : 41 ≤ n) (hM : ML μ (mmL G c cd hp tl pc pw pn bw bk me cl mt ts pit pat psz)) (hc : CfOK c) : Ct G k_M_fillAt (d + 2) 0 0 [.ref (G.1 + 20), .int (nI s), .int (nI b), .int (nI u)] n μ (MU G n μ (none) (mmL G c cd hp tl pc pw pn (vp_updL bw (mI s b u) (wv (Dv c Tt E s b u))) (vp_updL bk (mI s b u) (cv' (Dv c Tt E s b u))) me cl mt ts pit pat psz)) := by
  obtain ⟨⟨hst1, hst2⟩, hfr, hpn, hpp, hmn, hwd, hnd, hpu, hnr, hbr, hle, hdef⟩ := id hc
  have hF : FrM μ μ := fun t _ => rfl
  have hpw : 2 ^ c.mn ≤ 64 := Nat.pow_le_pow_right (n := 2) (by omega) hmn
  generalize hQ : (MU G n μ (none) (mmL G c cd hp tl pc pw pn (vp_updL bw (mI s b u) (wv (Dv c Tt E s b u))) (vp_updL bk (mI s b u) (cv' (Dv c Tt E s b u))) me cl mt ts pit pat psz)) = Q
  refine Ct.ofp (r := 2) (ls := [some (.ref (G.1 + 20)), some (.int (nI (s))), some (.int (nI (b))), some (.int (nI (u))), none, none]) rfl (Nat.le_of_ble_eq_true rfl) ?_
  refine ev_iload_n d_M_fillAt_0 rfl rfl ?_
  refine ev_iload_n d_M_fillAt_1 rfl rfl ?_
  refine ev_iload_n d_M_fillAt_2 rfl rfl ?_
  refine cs (mc' := 0) (ms' := 0) (k' := k_M_index) (As := [.int (nI (s)), .int (nI (b)), .int (nI (u))]) (stk := []) d_M_fillAt_3 ml_M_122 kk_M_index rfl rfl (Nat.le_of_ble_eq_true rfl) (ct_M_index (d := d + 1) s b u) (rd ?_)
  refine ev_istore (ls' := [_, _, _, _, _, none]) d_M_fillAt_6 (by decide) rfl rfl ?_
  refine ev_aload_n d_M_fillAt_8 rfl rfl ?_
  refine ev_getf (kf := 16) (T := F_M) (C := R_M) (N := 30) (v := .ref (G.1 + 31)) d_M_fillAt_9 fl_M_42 rfl i_M (by decide) (by omega) (hM 0 _ rfl) rfl ?_
  refine ev_iload d_M_fillAt_12 rfl ?_
  refine ev_ldc2 (v := (-1)) d_M_fillAt_14 ck_M_104 ?_
  refine ev_lastM (a := 11) (j := 512 * s + 64 * b + u) d_M_fillAt_17 (by decide) (by omega) hM rfl (by omega) (by decide) (rfl) (fun ν hM hf => ?_)
  have hM : ML ν (mmL G c cd hp tl pc pw pn (vp_updL bw (512 * s + 64 * b + u) (((-1)))) bk me cl mt ts pit pat psz) := hM
  have hF := frT hf hF
  refine ev_aload_n d_M_fillAt_18 rfl rfl ?_
  refine ev_getf (kf := 17) (T := F_M) (C := R_M) (N := 30) (v := .ref (G.1 + 32)) d_M_fillAt_19 fl_M_45 rfl i_M (by decide) (by omega) (hM 0 _ rfl) rfl ?_
  refine ev_iload d_M_fillAt_22 rfl ?_
  refine ev_lconst (v := lN 0) d_M_fillAt_24 (by decide) ?_
  refine ev_lastM (a := 12) (j := 512 * s + 64 * b + u) d_M_fillAt_25 (by decide) (by omega) hM rfl (by omega) (by decide) (rfl) (fun ν hM hf => ?_)
  have hM : ML ν (mmL G c cd hp tl pc pw pn (vp_updL bw (512 * s + 64 * b + u) (((-1)))) (vp_updL bk (512 * s + 64 * b + u) ((lN (0)))) me cl mt ts pit pat psz) := hM
  have hF := frT hf hF
  refine ev_iload_n d_M_fillAt_26 rfl rfl ?_
  refine ev_aload_n d_M_fillAt_27 rfl rfl ?_
  refine ev_getf (kf := 1) (T := F_M) (C := R_M) (N := 30) (v := .int (nI (c.st))) d_M_fillAt_28 fl_M_69 rfl i_M (by decide) (by omega) (hM 0 _ rfl) rfl ?_
  refine ev_icmp_ne d_M_fillAt_31 (fun c_31 => ?_) (fun c_31 => ?_)
  ·
    simp (disch := omega) only [nI_ltI, nI_leI, nI_eq, Nat.not_lt, Nat.not_le] at c_31
    refine ev_aload_n d_M_fillAt_60 rfl rfl ?_
    refine ev_getf (kf := 2) (T := F_M) (C := R_M) (N := 30) (v := .ref (G.1 + 21)) d_M_fillAt_61 fl_M_7 rfl i_M (by decide) (by omega) (hM 0 _ rfl) rfl ?_
    refine ev_iload_n d_M_fillAt_64 rfl rfl ?_
    refine ev_zald (j := s) d_M_fillAt_65 (by omega) (hM 1 _ rfl) (by omega) (by decide) ?_
    refine ev_if_eq d_M_fillAt_66 (fun c_66 => ?_) (fun c_66 => ?_)
    ·
      have c_66 := b2_f c_66
      refine ev_iconst (v := (nI (0))) d_M_fillAt_91 (by decide) ?_
      refine ev_istore (ls' := [_, _, _, _, _, _]) d_M_fillAt_92 (by decide) rfl rfl ?_
      subst hQ
      have hsl : s < c.st := by omega
      refine lp_M_fillAtI hs hb hu hMe hL hT hFin hn hc (fun ν hM hF => ?_) (c.mn + 1) 0 ν (by omega) (by omega) hM hF
      have h := lp_M_fillAtF (d := d) hs hb hu hMe hL hT hFin hsl hn hc (c.mo + 1 - c.le + 1) 0 ν (by omega) (by omega) hM hF
      rw [← Dv_row hc hsl c_66] at h
      exact lp_M_fillAtG hn hM hc h
    ·
      have c_66 := b2_t c_66
      have hbf := bf_lt hc c_66
      have hbl := bf_le hc hs
      have hte := hFin (c.bf s) 6 u (by omega) hbl.2 (by omega) hu
      refine ev_aload_n d_M_fillAt_69 rfl rfl ?_
      refine ev_iload d_M_fillAt_70 rfl ?_
      refine ev_aload_n d_M_fillAt_72 rfl rfl ?_
      refine ev_iload_n d_M_fillAt_73 rfl rfl ?_
      refine cv (mc' := 0) (ms' := 0) (k' := k_M_behindFree) (As := [.int (nI (s))]) (stk := [.int (nI (512 * s + 64 * b + u)), .ref (G.1 + 20)]) d_M_fillAt_74 ml_M_126 kk_M_behindFree rfl rfl (Nat.le_of_ble_eq_true rfl) (by omega) (hM 0 _ rfl) rfl rfl (ct_M_behindFree (d := d + 1) hs hn hM hc) (rd ?_)
      refine ev_bipush (v := (nI (6))) d_M_fillAt_77 (by decide) ?_
      refine ev_iload_n d_M_fillAt_79 rfl rfl ?_
      refine cs (mc' := 0) (ms' := 0) (k' := k_M_index) (As := [.int (nI (c.bf s)), .int (nI (6)), .int (nI (u))]) (stk := [.int (nI (512 * s + 64 * b + u)), .ref (G.1 + 20)]) d_M_fillAt_80 ml_M_122 kk_M_index rfl rfl (Nat.le_of_ble_eq_true rfl) (ct_M_index (d := d + 1) (c.bf s) 6 u) (rd ?_)
      refine ev_lconst (v := lN 0) d_M_fillAt_83 (by decide) ?_
      refine ev_lconst (v := lN 0) d_M_fillAt_84 (by decide) ?_
      refine cv (mc' := 0) (ms' := 0) (k' := k_M_choose) (As := [.int (nI (512 * s + 64 * b + u)), .int (nI (512 * c.bf s + 64 * 6 + u)), .long (lN (0)), .long (lN (0))]) (stk := []) d_M_fillAt_85 ml_M_130 kk_M_choose rfl rfl (Nat.le_of_ble_eq_true rfl) (by omega) (hM 0 _ rfl) rfl rfl (ct_M_choose (d := d + 1) (to := 512 * s + 64 * b + u) (fr := 512 * c.bf s + 64 * 6 + u) (w := 0) (ct := 0) (A := none) (F := Dv c Tt E (c.bf s) 6 u) (by omega) (by omega) (by omega) (by omega) (fun p hp => by cases hp) (Dv_KvB hc hbl.2) (upL_at _ _ _) (upL_at _ _ _) ((upL_ne _ _ (by omega)).trans hte.1) ((upL_ne _ _ (by omega)).trans hte.2) hn hM hc) (af fun n1 ν hq => ?_)
      obtain ⟨hn1, hM, hf⟩ := hq
      subst n1
      rw [upL_upL, upL_upL] at hM
      have hF := frT hf hF
      rw [kadd_0, kmax_0, ← Dv_free hc c_66] at hM
      refine ev_goto d_M_fillAt_88 ?_
      refine ev_return d_M_fillAt_217 rfl ?_
      subst hQ
      exact ⟨rfl, rfl, hM, hF⟩
  ·
    simp (disch := omega) only [nI_ltI, nI_leI, nI_eq, Nat.not_lt, Nat.not_le] at c_31
    refine ev_aload_n d_M_fillAt_34 rfl rfl ?_
    refine ev_getf (kf := 16) (T := F_M) (C := R_M) (N := 30) (v := .ref (G.1 + 31)) d_M_fillAt_35 fl_M_42 rfl i_M (by decide) (by omega) (hM 0 _ rfl) rfl ?_
    refine ev_iload d_M_fillAt_38 rfl ?_
    have hJ_56 : ∀ x : Int64, (x = wv (if E u then some (0, 0) else none)) → Ev G k_M_fillAt (d + 2) 0 0 56 [some (.ref (G.1 + 20)), some (.int (nI (s))), some (.int (nI (b))), some (.int (nI (u))), some (.int (nI (512 * s + 64 * b + u))), none] [.long (x), .int (nI (512 * s + 64 * b + u)), .ref (G.1 + 31)] n ν Q := by
      intro x hJ
      refine ev_lastM (a := 11) (j := 512 * s + 64 * b + u) d_M_fillAt_56 (by decide) (by omega) hM rfl (by omega) (by decide) (rfl) (fun ν hM hf => ?_)
      have hM : ML ν (mmL G c cd hp tl pc pw pn (vp_updL (vp_updL bw (512 * s + 64 * b + u) (((-1)))) (512 * s + 64 * b + u) ((x))) (vp_updL bk (512 * s + 64 * b + u) ((lN (0)))) me cl mt ts pit pat psz) := hM
      have hF := frT hf hF
      refine ev_goto d_M_fillAt_57 ?_
      refine ev_return d_M_fillAt_217 rfl ?_
      subst hQ
      rw [upL_upL, hJ] at hM
      have e : Dv c Tt E s b u = if E u then some (0, 0) else none := by subst c_31; exact Dv_end hc
      rw [e]
      have e2 : cv' (if E u then some (0, 0) else none : Kv) = lN 0 := by cases E u <;> rfl
      rw [e2]
      exact ⟨rfl, rfl, hM, hF⟩
    refine ev_aload_n d_M_fillAt_40 rfl rfl ?_
    refine ev_getf (kf := 18) (T := F_M) (C := R_M) (N := 30) (v := .ref (G.1 + 33)) d_M_fillAt_41 fl_M_48 rfl i_M (by decide) (by omega) (hM 0 _ rfl) rfl ?_
    refine ev_iload_n d_M_fillAt_44 rfl rfl ?_
    refine ev_zald (j := u) d_M_fillAt_45 (by omega) (hM 13 _ rfl) (by omega) (by decide) ?_
    refine ev_topi (w := b2 (E u)) (hMe u hu) ?_
    refine ev_if_eq d_M_fillAt_46 (fun c_46 => ?_) (fun c_46 => ?_)
    ·
      have c_46 := b2_f c_46
      refine ev_ldc2 (v := (-1)) d_M_fillAt_53 ck_M_104 ?_
      exact hJ_56 (((-1))) (by rw [c_46]; rfl)
    ·
      have c_46 := b2_t c_46
      refine ev_lconst (v := lN 0) d_M_fillAt_49 (by decide) ?_
      refine ev_goto d_M_fillAt_50 ?_
      exact hJ_56 ((lN (0))) (by rw [c_46]; rfl)
theorem lp_M_fill3 {Q : Oc → Nat → Mem → Prop} {s b : Nat} (hs : s ≤ c.st) (hb : b < 8) (hMe : MeOK c me E) (hL : LkC c cl 0) (hT : LkM c mt 0) (hn : 41 ≤ n) (hc : CfOK c) (hK : ∀ (bw bk : Nat → Int64) (ν : Mem), MFin c E bw bk (s + 1) → (∀ b' u', b' ≤ 7 → u' < 2 ^ c.mn → (b' < b ∨ (b' = b ∧ u' < 2 ^ c.mn)) → TE c E bw bk s b' u') → ML ν (mmL G c cd hp tl pc pw pn bw bk me cl mt ts pit pat psz) → FrM ν μ → Ev G k_M_fill (d + 3) 0 0 46 [some (.ref (G.1 + 20)), some (.int (nI (s))), some (.int (nI (b))), none] [] n ν Q) : ∀ (m u : Nat) (bw bk : Nat → Int64) (ν : Mem), u ≤ 2 ^ c.mn → 2 ^ c.mn < u + m → MFin c E bw bk (s + 1) → (∀ b' u', b' ≤ 7 → u' < 2 ^ c.mn → (b' < b ∨ (b' = b ∧ u' < u)) → TE c E bw bk s b' u') → ML ν (mmL G c cd hp tl pc pw pn bw bk me cl mt ts pit pat psz) → FrM ν μ → Ev G k_M_fill (d + 3) 0 0 23 [some (.ref (G.1 + 20)), some (.int (nI (s))), some (.int (nI (b))), some (.int (nI (u)))] [] n ν Q := by
  obtain ⟨⟨hst1, hst2⟩, hfr, hpn, hpp, hmn, hwd, hnd, hpu, hnr, hbr, hle, hdef⟩ := id hc
  have hpw : 2 ^ c.mn ≤ 64 := Nat.pow_le_pow_right (n := 2) (by omega) hmn
  intro m
  induction m with
  | zero =>
    intro u bw bk ν h1 h2
    exact absurd h2 (by omega)
  | succ m ih =>
    intro u bw bk ν hu hum hFin hR hM hF
    refine ev_iload_n d_M_fill_23 rfl rfl ?_
    refine ev_iconst (v := (nI (1))) d_M_fill_24 (by decide) ?_
    refine ev_aload_n d_M_fill_25 rfl rfl ?_
    refine ev_getf (kf := 5) (T := F_M) (C := R_M) (N := 30) (v := .int (nI (c.mn))) d_M_fill_26 fl_M_97 rfl i_M (by decide) (by omega) (hM 0 _ rfl) rfl ?_
    refine ev_ishl d_M_fill_29 ?_
    refine ev_topi (w := (nI (2 ^ c.mn))) (bit_shl c.mn (by omega)) ?_
    refine ev_icmp_ge d_M_fill_30 (fun c_30 => ?_) (fun c_30 => ?_)
    ·
      simp (disch := omega) only [nI_ltI, nI_leI, nI_eq, Nat.not_lt, Nat.not_le] at c_30
      have hu2 : u = 2 ^ c.mn := by omega
      subst hu2
      exact Ev.fg [true, true, true, false] rfl (hK bw bk ν hFin hR hM hF)
    ·
      simp (disch := omega) only [nI_ltI, nI_leI, nI_eq, Nat.not_lt, Nat.not_le] at c_30
      refine ev_aload_n d_M_fill_33 rfl rfl ?_
      refine ev_iload_n d_M_fill_34 rfl rfl ?_
      refine ev_iload_n d_M_fill_35 rfl rfl ?_
      refine ev_iload_n d_M_fill_36 rfl rfl ?_
      refine cv (mc' := 0) (ms' := 0) (k' := k_M_fillAt) (As := [.int (nI (s)), .int (nI (b)), .int (nI (u))]) (stk := []) d_M_fill_37 ml_M_145 kk_M_fillAt rfl rfl (Nat.le_of_ble_eq_true rfl) (by omega) (hM 0 _ rfl) rfl rfl (ct_M_fillAt (d := d) (s := s) (b := b) (u := u) hs (by omega) c_30 hMe hL hT hFin hn hM hc) (af fun n1 ν hq => ?_)
      obtain ⟨hn1, hM, hf⟩ := hq
      subst n1
      have hF := frT hf hF
      refine ev_iinc (v := (nI (u + 1))) (ls' := [_, _, _, _]) d_M_fill_40 rfl (nI_1 _) (by decide) rfl rfl ?_
      refine ev_goto d_M_fill_43 ?_
      refine ih (u + 1) _ _ ν (by omega) (by omega) (fun s' b' u' h1 h2 h3 h4 => ?_) (fun b' u' h1 h2 h3 => ?_) hM hF
      · exact (hFin s' b' u' h1 h2 h3 h4).up h3 (by omega) (by omega) (by omega) (by omega)
      · by_cases e : b' = b ∧ u' = u
        · obtain ⟨rfl, rfl⟩ := e; exact TE.at
        · exact (hR b' u' h1 h2 (by omega)).up h1 (by omega) (by omega) (by omega) (by omega)
theorem lp_M_fill2b {Q : Oc → Nat → Mem → Prop} {s b : Nat} {ν : Mem} (h : Ev G k_M_fill (d + 3) 0 0 15 [some (.ref (G.1 + 20)), some (.int (nI (s))), some (.int (nI (b + 1))), none] [] n ν Q) : Ev G k_M_fill (d + 3) 0 0 46 [some (.ref (G.1 + 20)), some (.int (nI (s))), some (.int (nI (b))), none] [] n ν Q := by
  refine ev_iinc (v := (nI (b + 1))) (ls' := [_, _, _, none]) d_M_fill_46 rfl (nI_1 _) (by decide) rfl rfl ?_
  refine ev_goto d_M_fill_49 ?_
  exact h
theorem lp_M_fill2 {Q : Oc → Nat → Mem → Prop} {s : Nat} (hs : s ≤ c.st) (hMe : MeOK c me E) (hL : LkC c cl 0) (hT : LkM c mt 0) (hn : 41 ≤ n) (hc : CfOK c) (hK : ∀ (bw bk : Nat → Int64) (ν : Mem), MFin c E bw bk s → ML ν (mmL G c cd hp tl pc pw pn bw bk me cl mt ts pit pat psz) → FrM ν μ → Ev G k_M_fill (d + 3) 0 0 52 [some (.ref (G.1 + 20)), some (.int (nI (s))), none, none] [] n ν Q) : ∀ (m b : Nat) (bw bk : Nat → Int64) (ν : Mem), b ≤ 8 → 8 < b + m → MFin c E bw bk (s + 1) → (∀ b' u', b' ≤ 7 → u' < 2 ^ c.mn → (b' < b ∨ (b' = b ∧ u' < 0)) → TE c E bw bk s b' u') → ML ν (mmL G c cd hp tl pc pw pn bw bk me cl mt ts pit pat psz) → FrM ν μ → Ev G k_M_fill (d + 3) 0 0 15 [some (.ref (G.1 + 20)), some (.int (nI (s))), some (.int (nI (b))), none] [] n ν Q := by
  obtain ⟨⟨hst1, hst2⟩, hfr, hpn, hpp, hmn, hwd, hnd, hpu, hnr, hbr, hle, hdef⟩ := id hc
  intro m
  induction m with
  | zero =>
    intro b bw bk ν h1 h2
    exact absurd h2 (by omega)
  | succ m ih =>
    intro b bw bk ν hb hbm hFin hR hM hF
    refine ev_iload_n d_M_fill_15 rfl rfl ?_
    refine ev_bipush (v := (nI (8))) d_M_fill_16 (by decide) ?_
    refine ev_icmp_ge d_M_fill_18 (fun c_18 => ?_) (fun c_18 => ?_)
    ·
      simp (disch := omega) only [nI_ltI, nI_leI, nI_eq, Nat.not_lt, Nat.not_le] at c_18
      refine Ev.fg [true, true, false, false] rfl (hK bw bk ν (fun s' b' u' h1 h2 h3 h4 => ?_) hM hF)
      by_cases e : s' = s
      · subst e; exact hR b' u' h3 h4 (by omega)
      · exact hFin s' b' u' (by omega) h2 h3 h4
    ·
      simp (disch := omega) only [nI_ltI, nI_leI, nI_eq, Nat.not_lt, Nat.not_le] at c_18
      refine ev_iconst (v := (nI (0))) d_M_fill_21 (by decide) ?_
      refine ev_istore_n (ls' := [_, _, _, _]) d_M_fill_22 rfl (by decide) rfl rfl ?_
      refine lp_M_fill3 hs c_18 hMe hL hT hn hc (fun bw bk ν hFin hR hM hF => ?_) (2 ^ c.mn + 1) 0 bw bk ν (Nat.zero_le _) (by omega) hFin hR hM hF
      exact lp_M_fill2b (ih (b + 1) bw bk ν (by omega) (by omega) hFin (fun b' u' h1 h2 h3 => hR b' u' h1 h2 (by omega)) hM hF)
theorem lp_M_fill1b {Q : Oc → Nat → Mem → Prop} {s : Nat} {ν : Mem} (hs : s ≤ 40) (h : Ev G k_M_fill (d + 3) 0 0 9 [some (.ref (G.1 + 20)), some (.int (iI ((s : Int) - 1))), none, none] [] n ν Q) : Ev G k_M_fill (d + 3) 0 0 52 [some (.ref (G.1 + 20)), some (.int (nI (s))), none, none] [] n ν Q := by
  refine ev_iinc (v := (iI ((s : Int) - 1))) (ls' := [_, _, none, none]) d_M_fill_52 rfl (by rw [nI_iI, show Int32.ofInt (-1) = iI (-1) from rfl, iI_add]; rfl) (by decide) rfl rfl ?_
  refine ev_goto d_M_fill_55 ?_
  exact h
theorem lp_M_fill1 (hMe : MeOK c me E) (hL : LkC c cl 0) (hT : LkM c mt 0) (hn : 41 ≤ n) (hc : CfOK c) : ∀ (m : Nat) (bw bk : Nat → Int64) (ν : Mem), m ≤ c.st + 1 → MFin c E bw bk m → ML ν (mmL G c cd hp tl pc pw pn bw bk me cl mt ts pit pat psz) → FrM ν μ → Ev G k_M_fill (d + 3) 0 0 9 [some (.ref (G.1 + 20)), some (.int (iI ((m : Int) - 1))), none, none] [] n ν (fun (o : Oc) (n' : Nat) (μ' : Mem) => o = .inl none ∧ n' = n ∧ ∃ bw' bk' cl' mt', ML μ' (mmL G c cd hp tl pc pw pn (bw') (bk') me (cl') (mt') ts pit pat psz) ∧ FrM μ' μ ∧ LkC c cl' 0 ∧ LkM c mt' 0 ∧ MFin c E bw' bk' 0) := by
  obtain ⟨⟨hst1, hst2⟩, hfr, hpn, hpp, hmn, hwd, hnd, hpu, hnr, hbr, hle, hdef⟩ := id hc
  generalize hQ : (fun (o : Oc) (n' : Nat) (μ' : Mem) => o = .inl none ∧ n' = n ∧ ∃ bw' bk' cl' mt', ML μ' (mmL G c cd hp tl pc pw pn (bw') (bk') me (cl') (mt') ts pit pat psz) ∧ FrM μ' μ ∧ LkC c cl' 0 ∧ LkM c mt' 0 ∧ MFin c E bw' bk' 0) = Q
  intro m
  induction m with
  | zero =>
    intro bw bk ν hm hFin hM hF
    refine ev_iload_n d_M_fill_9 rfl rfl ?_
    refine ev_if_lt d_M_fill_10 (fun c_10 => ?_) (fun c_10 => ?_)
    ·
      skip
      refine ev_return d_M_fill_58 rfl ?_
      subst hQ
      exact ⟨rfl, rfl, bw, bk, cl, mt, hM, hF, hL, hT, hFin⟩
    ·
      skip
      exact absurd (by decide) c_10
  | succ s ih =>
    intro bw bk ν hm hFin hM hF
    rw [show iI (((s + 1 : Nat) : Int) - 1) = nI s from by rw [nI_iI]; congr 1; omega]
    refine ev_iload_n d_M_fill_9 rfl rfl ?_
    refine ev_if_lt d_M_fill_10 (fun c_10 => ?_) (fun c_10 => ?_)
    ·
      skip
      exact absurd c_10 (nI_pos (by omega))
    ·
      skip
      refine ev_iconst (v := (nI (0))) d_M_fill_13 (by decide) ?_
      refine ev_istore_n (ls' := [_, _, _, none]) d_M_fill_14 rfl (by decide) rfl rfl ?_
      refine lp_M_fill2 (s := s) (by omega) hMe hL hT hn hc (fun bw bk ν hFin hM hF => ?_) 9 0 bw bk ν (by omega) (by omega) hFin (fun b' u' h1 h2 h3 => by omega) hM hF
      exact lp_M_fill1b (by omega) (ih bw bk ν (by omega) hFin hM hF)
theorem ct_M_fill (hMe : MeOK c me E) (hn : 41 ≤ n) (hM : ML μ (mmL G c cd hp tl pc pw pn bw bk me cl mt ts pit pat psz)) (hc : CfOK c) : Ct G k_M_fill (d + 3) 0 0 [.ref (G.1 + 20)] n μ (fun (o : Oc) (n' : Nat) (μ' : Mem) => o = .inl none ∧ n' = n ∧ ∃ bw' bk' cl' mt', ML μ' (mmL G c cd hp tl pc pw pn (bw') (bk') me (cl') (mt') ts pit pat psz) ∧ FrM μ' μ ∧ LkC c cl' 0 ∧ LkM c mt' 0 ∧ MFin c E bw' bk' 0) := by
  obtain ⟨⟨hst1, hst2⟩, hfr, hpn, hpp, hmn, hwd, hnd, hpu, hnr, hbr, hle, hdef⟩ := id hc
  have hF : FrM μ μ := fun t _ => rfl
  refine Ct.ofp (r := 3) (ls := [some (.ref (G.1 + 20)), none, none, none]) rfl (Nat.le_of_ble_eq_true rfl) ?_
  refine ev_aload_n d_M_fill_0 rfl rfl ?_
  refine cv (mc' := 0) (ms' := 0) (k' := k_M_look) (As := []) (stk := []) d_M_fill_1 ml_M_142 kk_M_look rfl rfl (Nat.le_of_ble_eq_true rfl) (by omega) (hM 0 _ rfl) rfl rfl (ct_M_look (d := d + 1) hn hM hc) (af fun n1 ν hq => ?_)
  obtain ⟨hn1, cl, mt, hM, hf, hL, hT⟩ := hq
  subst n1
  have hF := frT hf hF
  refine ev_aload_n d_M_fill_4 rfl rfl ?_
  refine ev_getf (kf := 1) (T := F_M) (C := R_M) (N := 30) (v := .int (nI (c.st))) d_M_fill_5 fl_M_69 rfl i_M (by decide) (by omega) (hM 0 _ rfl) rfl ?_
  refine ev_istore_n (ls' := [_, _, none, none]) d_M_fill_8 rfl (by decide) rfl rfl ?_
  have h := lp_M_fill1 (d := d) (E := E) hMe hL hT hn hc (c.st + 1) bw bk ν (by omega) (fun s b u h1 h2 => by omega) hM hF
  rw [show iI (((c.st + 1 : Nat) : Int) - 1) = nI c.st from by rw [nI_iI]; congr 1; omega] at h
  exact h
end MFI
